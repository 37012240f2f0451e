set_option maxRecDepth 100000
set_option maxHeartbeats 4000000
section
variable {p : Program} {l : Launch} {e : Env} {s : State} {m : MethodId} {args : Array Value} {below : List Frame} {meth : Method} {c : Code} {D : va_G} {A : Nat → Prop} {Q : State → Prop} {ws : va_W} {t1 t2 bm bc : Nat} {k0 k1 k2 : Int32} {mk clu : Nat → Int32} {b0 b1 b2 b3 b4 b5 n n4 kd : Nat} {cols rows thr bt tm rea : Int32} {gr so dy cg : Nat → Int32} {vl : Nat → Nat}
theorem w_X1_spans_30 (X : CX p s m args meth c D A cX1_spans 6 "DyeLattice$Lattice") (hAm : AMB D A s) (hnmd : s.methodNamed? yX1_spans = some m) {q15_6 : Nat} {cb sb : Nat} (hcb : cb ≤ rmX1_spans.cells) (hsb : sb ≤ rmX1_spans.slots) (z15 : (Nat → Int32)) : ∀ (fu : Nat) (x : Int32 × Int32) (o : (Int32)), loopN (fun x => L_spans_30 cols n z15 x.1 x.2) fu x = some o → (V p l e rmX1_spans s m args below meth c D A 6 Q (LW D b0 b1 b2 b3 b4 b5 n n4 cols rows kd thr bt tm rea gr vl so dy cg ++ [(q15_6, .inl (D.1 101, n, .inl z15))]) cb sb 60 [(4, .int o)] []) → V p l e rmX1_spans s m args below meth c D A 6 Q (LW D b0 b1 b2 b3 b4 b5 n n4 cols rows kd thr bt tm rea gr vl so dy cg ++ [(q15_6, .inl (D.1 101, n, .inl z15))]) cb sb 30 [(0, .ref b0), (3, .ref q15_6), (4, .int x.1), (5, .int x.2)] [] := by
  refine v_loop (fun (x : Int32 × Int32) => V p l e rmX1_spans s m args below meth c D A 6 Q (LW D b0 b1 b2 b3 b4 b5 n n4 cols rows kd thr bt tm rea gr vl so dy cg ++ [(q15_6, .inl (D.1 101, n, .inl z15))]) cb sb 30 [(0, .ref b0), (3, .ref q15_6), (4, .int x.1), (5, .int x.2)] []) (fun (o : (Int32)) => V p l e rmX1_spans s m args below meth c D A 6 Q (LW D b0 b1 b2 b3 b4 b5 n n4 cols rows kd thr bt tm rea gr vl so dy cg ++ [(q15_6, .inl (D.1 101, n, .inl z15))]) cb sb 60 [(4, .int o)] []) ?_
  rintro ⟨v4, v5⟩ r hF hI hO
  replace hF : L_spans_30 cols n z15 v4 v5 = some r := hF
  show V p l e rmX1_spans s m args below meth c D A 6 Q (LW D b0 b1 b2 b3 b4 b5 n n4 cols rows kd thr bt tm rea gr vl so dy cg ++ [(q15_6, .inl (D.1 101, n, .inl z15))]) cb sb 30 [(0, .ref b0), (3, .ref q15_6), (4, .int v4), (5, .int v5)] []
  unfold L_spans_30 at hF
  refine v_iload 32 X 3 dX1_spans_30 rfl rfl ?_
  refine v_aload_n 33 X 0 dX1_spans_32 rfl rfl rfl ?_
  have hz33 : L_cells n = some (nI n) := rfl
  refine vc_Vi (wr := ([(q15_6, .inl (D.1 101, n, .inl z15))])) 36 cb sb X 0 [] [0, 1, 2, 3, 4, 5] [6] (LW D b0 b1 b2 b3 b4 b5 n n4 cols rows kd thr bt tm rea gr vl so dy cg) rfl rfl (by decide) (by decide) (by decide) (w_X1_cells _ hz33) q394 q345 q346 q85 q347 hdX1_cells 0 rfl rfl (pass_amb hAm) ⟨Nat.le_of_ble_eq_true rfl, Nat.le_of_ble_eq_true rfl⟩ ⟨(by exact hcb), (by exact hsb)⟩ rfl rfl (Nat.le_of_ble_eq_true rfl) dX1_spans_33 rfl (by show cb + 0 = cb + 0; omega) (by show sb + 0 = sb + 0; omega) (fun r33 u33 e33 => ?_)
  obtain ⟨e331, rfl⟩ := e33
  have e332 := e331.symm
  subst e332
  refine v_ws (ws' := ([(q15_6, .inl (D.1 101, n, .inl z15))] ++ LW D b0 b1 b2 b3 b4 b5 n n4 cols rows kd thr bt tm rea gr vl so dy cg)) [0, 1, 2, 3, 4, 5, 6] (by decide) rfl ?_
  refine v_icmp_ge 39 60 X dX1_spans_36 rfl (by decide) (fun h36 => ?_) (fun h36 => ?_)
  · replace hF := ifp h36 hF
    obtain rfl := Option.some.inj hF
    refine v_ws (ws' := (LW D b0 b1 b2 b3 b4 b5 n n4 cols rows kd thr bt tm rea gr vl so dy cg ++ [(q15_6, .inl (D.1 101, n, .inl z15))])) [1, 2, 3, 4, 5, 6, 0] (by decide) rfl ?_
    exact v_lv [2] rfl ((hO _ rfl))
  · replace hF := ifn h36 hF
    refine v_iload 41 X 2 dX1_spans_39 rfl rfl ?_
    refine v_aload_n 42 X 1 dX1_spans_41 rfl rfl rfl ?_
    refine v_iload 44 X 3 dX1_spans_42 rfl rfl ?_
    obtain ⟨z44, hz44, hF⟩ := ob hF
    refine v_zald 45 X 0 hz44 rfl dX1_spans_44 rfl ?_
    refine v_ior 46 X dX1_spans_45 rfl ?_
    refine v_istore 48 [(4, .int (v4 ||| z44)), (0, .ref b0), (3, .ref q15_6), (5, .int v5)] X dX1_spans_46 rfl (by decide) rfl ?_
    refine v_iload 50 X 3 dX1_spans_48 rfl rfl ?_
    refine v_aload_n 51 X 1 dX1_spans_50 rfl rfl rfl ?_
    refine v_get 54 X in_X1 1 0 rfl rfl (by decide) q135 rfl rfl dX1_spans_51 rfl ?_
    refine v_iadd 55 X dX1_spans_54 rfl ?_
    refine v_istore 57 [(5, .int (v5 + cols)), (4, .int (v4 ||| z44)), (0, .ref b0), (3, .ref q15_6)] X dX1_spans_55 rfl (by decide) rfl ?_
    refine v_goto 30 X dX1_spans_57 (by decide) ?_
    obtain rfl := Option.some.inj hF
    refine v_ws (ws' := (LW D b0 b1 b2 b3 b4 b5 n n4 cols rows kd thr bt tm rea gr vl so dy cg ++ [(q15_6, .inl (D.1 101, n, .inl z15))])) [1, 2, 3, 4, 5, 6, 0] (by decide) rfl ?_
    exact v_lv [2, 3, 1, 0] rfl (hI _ rfl)
theorem w_X1_spans (v1 : Int32) (v2 : Int32) (r : Int32) (hF : L_spans cols rows kd n n4 vl gr v1 v2 = some r) : CTi l yX1_spans cX1_spans 6 (Option.some Jvm.ClassFile.FieldType.boolean) rmX1_spans D (LW D b0 b1 b2 b3 b4 b5 n n4 cols rows kd thr bt tm rea gr vl so dy cg) [.ref b0, .int v1, .int v2] (AMB D) (fun r1 u => r1 = r ∧ u = (LW D b0 b1 b2 b3 b4 b5 n n4 cols rows kd thr bt tm rea gr vl so dy cg)) := by
  refine m_i (by decide) (Nat.le_of_ble_eq_true rfl) ?_
  intro p e s m args below meth c A B
  obtain ⟨X, hr, hAm, -, hnm, hnmd⟩ := B
  replace X : CX p s m args meth c D A cX1_spans 6 "DyeLattice$Lattice" := X
  refine v_lv (lv' := [(0, .ref b0), (1, .int v1), (2, .int v2)]) [0, 1, 2] rfl ?_
  unfold L_spans at hF
  refine v_aload_n 1 X 0 dX1_spans_0 rfl rfl rfl ?_
  refine v_aload_n 2 X 0 dX1_spans_1 rfl rfl rfl ?_
  refine vl_of ?_
  refine vl_make 7 1 1 X hAm 5 (by decide) (by decide) (x := yX1_spans) rfl hnmd rfl rfl sok5 rfl [.ref b0] rfl rfl (lam_fit rfl) rfl (Nat.le_of_ble_eq_true rfl) (Nat.le_of_ble_eq_true rfl) (Nat.le_of_ble_eq_true rfl) dX1_spans_2 rfl rfl rfl (fun q2 => ?_)
  refine vl_aload_n 8 X 0 dX1_spans_7 rfl rfl rfl ?_
  refine vl_iload_n 9 X 1 dX1_spans_8 rfl rfl rfl ?_
  refine vl_iload_n 10 X 2 dX1_spans_9 rfl rfl rfl ?_
  refine vl_make 15 2 4 X hAm 6 (by decide) (by decide) (x := yX1_spans) rfl hnmd rfl rfl sok6 rfl [.ref b0, .int v1, .int v2] rfl rfl (lam_fit rfl) rfl (Nat.le_of_ble_eq_true rfl) (Nat.le_of_ble_eq_true rfl) (Nat.le_of_ble_eq_true rfl) dX1_spans_10 rfl rfl rfl (fun q10 => ?_)
  obtain ⟨z15, hz15, hF⟩ := ob hF
  refine vl_Vr (wr := ([] : va_W)) 18 4 164 X 2 [.ref q2, .ref q10] [0, 1, 2, 3, 4, 5] [] (LW D b0 b1 b2 b3 b4 b5 n n4 cols rows kd thr bt tm rea gr vl so dy cg) rfl rfl (by decide) (by decide) (by decide) (w_X1_reached_a _ hz15) q1071 q1073 qs27 q85 q1074 hdX1_reached 0 rfl rfl (aml_blind hAm) (aml_xp hAm (List.forall_mem_cons.mpr ⟨Or.inl (List.Mem.tail _ (List.Mem.head _)), (List.forall_mem_cons.mpr ⟨Or.inl (List.Mem.head _), (fun _ h => by cases h)⟩)⟩)) ⟨Nat.le_of_ble_eq_true rfl, Nat.le_of_ble_eq_true rfl⟩ ⟨(Nat.le_of_ble_eq_true rfl), (Nat.le_of_ble_eq_true rfl)⟩ rfl rfl (Nat.le_of_ble_eq_true rfl) dX1_spans_15 rfl rfl rfl (fun a15 u15 e15 => ?_)
  obtain ⟨q15_6, e151, rfl⟩ := e15
  have e152 := e151.symm
  subst e152
  refine v_ws (ws' := (LW D b0 b1 b2 b3 b4 b5 n n4 cols rows kd thr bt tm rea gr vl so dy cg ++ [(q15_6, .inl (D.1 101, n, .inl z15))])) [0, 1, 2, 3, 4, 5, 6] (by decide) rfl ?_
  refine v_astore_n 19 [(3, .ref q15_6), (0, .ref b0), (1, .int v1), (2, .int v2)] X dX1_spans_18 rfl rfl (by decide) rfl ?_
  refine v_iconst (v := 0) 20 X dX1_spans_19 rfl ki_0 ?_
  refine v_istore 22 [(4, .int 0), (3, .ref q15_6), (0, .ref b0), (1, .int v1), (2, .int v2)] X dX1_spans_20 rfl (by decide) rfl ?_
  refine v_aload_n 23 X 2 dX1_spans_22 rfl rfl rfl ?_
  refine v_get 26 X in_X1 0 0 rfl rfl (by decide) q135 rfl rfl dX1_spans_23 rfl ?_
  refine v_iconst (v := 1) 27 X dX1_spans_26 rfl ki_1 ?_
  refine v_isub 28 X dX1_spans_27 rfl ?_
  refine v_istore 30 [(5, .int (cols - 1)), (4, .int 0), (3, .ref q15_6), (0, .ref b0), (1, .int v1), (2, .int v2)] X dX1_spans_28 rfl (by decide) rfl ?_
  obtain ⟨z30, hz30, hF⟩ := ob hF
  refine v_lv [3, 2, 1, 0] rfl (w_X1_spans_30 X hAm hnmd (Nat.le_of_ble_eq_true rfl) (Nat.le_of_ble_eq_true rfl) z15 _ (0, (cols - 1)) _ hz30 ?_)
  refine v_iload 62 X 0 dX1_spans_60 rfl rfl ?_
  obtain ⟨z62, hz62, hF⟩ := ob hF
  refine v_topi (zck_s hz62).1 ?_
  obtain rfl := Option.some.inj hF
  refine v_ws (ws' := (LW D b0 b1 b2 b3 b4 b5 n n4 cols rows kd thr bt tm rea gr vl so dy cg)) [0, 1, 2, 3, 4, 5] (by decide) rfl ?_
  exact v_zret X hr (zck_s hz62).2.1 ⟨rfl, rfl⟩ (Nat.le_of_ble_eq_true rfl) (Nat.le_of_ble_eq_true rfl) dX1_spans_62
theorem w_X1_hasWay (v1 : Int32) (v2 : Int32) (v3 : Int32) (r : Int32) (hF : L_hasWay cols rows kd n n4 vl gr v1 v2 v3 = some r) : CTi l yX1_hasWay cX1_hasWay 4 (Option.some Jvm.ClassFile.FieldType.boolean) rmX1_hasWay D (LW D b0 b1 b2 b3 b4 b5 n n4 cols rows kd thr bt tm rea gr vl so dy cg) [.ref b0, .int v1, .int v2, .int v3] (AMB D) (fun r1 u => r1 = r ∧ u = (LW D b0 b1 b2 b3 b4 b5 n n4 cols rows kd thr bt tm rea gr vl so dy cg)) := by
  refine m_i (by decide) (Nat.le_of_ble_eq_true rfl) ?_
  intro p e s m args below meth c A B
  obtain ⟨X, hr, hAm, -, hnm, hnmd⟩ := B
  replace X : CX p s m args meth c D A cX1_hasWay 4 "DyeLattice$Lattice" := X
  refine v_lv (lv' := [(0, .ref b0), (1, .int v1), (2, .int v2), (3, .int v3)]) [0, 1, 2, 3] rfl ?_
  unfold L_hasWay at hF
  refine v_aload_n 1 X 0 dX1_hasWay_0 rfl rfl rfl ?_
  refine v_iload_n 2 X 1 dX1_hasWay_1 rfl rfl rfl ?_
  refine vl_of ?_
  refine vl_make 7 1 1 X hAm 9 (by decide) (by decide) (x := yX1_hasWay) rfl hnmd rfl rfl sok9 rfl [.int v1] rfl rfl (lam_fit rfl) rfl (Nat.le_of_ble_eq_true rfl) (Nat.le_of_ble_eq_true rfl) (Nat.le_of_ble_eq_true rfl) dX1_hasWay_2 rfl rfl rfl (fun q2 => ?_)
  refine vl_aload_n 8 X 0 dX1_hasWay_7 rfl rfl rfl ?_
  refine vl_iload_n 9 X 3 dX1_hasWay_8 rfl rfl rfl ?_
  refine vl_make 14 2 3 X hAm 10 (by decide) (by decide) (x := yX1_hasWay) rfl hnmd rfl rfl sok10 rfl [.ref b0, .int v3] rfl rfl (lam_fit rfl) rfl (Nat.le_of_ble_eq_true rfl) (Nat.le_of_ble_eq_true rfl) (Nat.le_of_ble_eq_true rfl) dX1_hasWay_9 rfl rfl rfl (fun q9 => ?_)
  obtain ⟨z14, hz14, hF⟩ := ob hF
  refine vl_Vr (wr := ([] : va_W)) 17 4 163 X 2 [.ref q2, .ref q9] [0, 1, 2, 3, 4, 5] [] (LW D b0 b1 b2 b3 b4 b5 n n4 cols rows kd thr bt tm rea gr vl so dy cg) rfl rfl (by decide) (by decide) (by decide) (w_X1_reached_b _ hz14) q1071 q1073 qs27 q85 q1074 hdX1_reached 0 rfl rfl (aml_blind hAm) (aml_xp hAm (List.forall_mem_cons.mpr ⟨Or.inl (List.Mem.tail _ (List.Mem.head _)), (List.forall_mem_cons.mpr ⟨Or.inl (List.Mem.head _), (fun _ h => by cases h)⟩)⟩)) ⟨Nat.le_of_ble_eq_true rfl, Nat.le_of_ble_eq_true rfl⟩ ⟨(Nat.le_of_ble_eq_true rfl), (Nat.le_of_ble_eq_true rfl)⟩ rfl rfl (Nat.le_of_ble_eq_true rfl) dX1_hasWay_14 rfl rfl rfl (fun a14 u14 e14 => ?_)
  obtain ⟨q14_6, e141, rfl⟩ := e14
  have e142 := e141.symm
  subst e142
  refine v_ws (ws' := (LW D b0 b1 b2 b3 b4 b5 n n4 cols rows kd thr bt tm rea gr vl so dy cg ++ [(q14_6, .inl (D.1 101, n, .inl z14))])) [0, 1, 2, 3, 4, 5, 6] (by decide) rfl ?_
  refine v_iload_n 18 X 2 dX1_hasWay_17 rfl rfl rfl ?_
  obtain ⟨z18, hz18, hF⟩ := ob hF
  refine v_zald 19 X 6 hz18 rfl dX1_hasWay_18 rfl ?_
  obtain ⟨z19, hz19, hF⟩ := ob hF
  refine v_topi (zck_s hz19).1 ?_
  obtain rfl := Option.some.inj hF
  refine v_ws (ws' := (LW D b0 b1 b2 b3 b4 b5 n n4 cols rows kd thr bt tm rea gr vl so dy cg)) [0, 1, 2, 3, 4, 5] (by decide) rfl ?_
  exact v_zret X hr (zck_s hz19).2.1 ⟨rfl, rfl⟩ (Nat.le_of_ble_eq_true rfl) (Nat.le_of_ble_eq_true rfl) dX1_hasWay_19
theorem w_X1_reach_27 (X : CX p s m args meth c D A cX1_reach 7 "DyeLattice$Lattice") (hAm : AMB D A s) (hnmd : s.methodNamed? yX1_reach = some m) {q16_6 : Nat} {cb sb : Nat} (hcb : cb ≤ rmX1_reach.cells) (hsb : sb ≤ rmX1_reach.slots) (v4 : Int32) (z16 : (Nat → Int32)) : ∀ (fu : Nat) (x : Int32 × Int32) (o : (Int32)), loopN (fun x => L_reach_27 v4 n z16 x.1 x.2) fu x = some o → (V p l e rmX1_reach s m args below meth c D A 7 Q (LW D b0 b1 b2 b3 b4 b5 n n4 cols rows kd thr bt tm rea gr vl so dy cg ++ [(q16_6, .inl (D.1 101, n, .inl z16))]) cb sb 59 [(2, .int o)] []) → V p l e rmX1_reach s m args below meth c D A 7 Q (LW D b0 b1 b2 b3 b4 b5 n n4 cols rows kd thr bt tm rea gr vl so dy cg ++ [(q16_6, .inl (D.1 101, n, .inl z16))]) cb sb 27 [(2, .int x.1), (3, .ref q16_6), (4, .int v4), (5, .int x.2)] [] := by
  refine v_loop (fun (x : Int32 × Int32) => V p l e rmX1_reach s m args below meth c D A 7 Q (LW D b0 b1 b2 b3 b4 b5 n n4 cols rows kd thr bt tm rea gr vl so dy cg ++ [(q16_6, .inl (D.1 101, n, .inl z16))]) cb sb 27 [(2, .int x.1), (3, .ref q16_6), (4, .int v4), (5, .int x.2)] []) (fun (o : (Int32)) => V p l e rmX1_reach s m args below meth c D A 7 Q (LW D b0 b1 b2 b3 b4 b5 n n4 cols rows kd thr bt tm rea gr vl so dy cg ++ [(q16_6, .inl (D.1 101, n, .inl z16))]) cb sb 59 [(2, .int o)] []) ?_
  rintro ⟨v2, v5⟩ r hF hI hO
  replace hF : L_reach_27 v4 n z16 v2 v5 = some r := hF
  show V p l e rmX1_reach s m args below meth c D A 7 Q (LW D b0 b1 b2 b3 b4 b5 n n4 cols rows kd thr bt tm rea gr vl so dy cg ++ [(q16_6, .inl (D.1 101, n, .inl z16))]) cb sb 27 [(2, .int v2), (3, .ref q16_6), (4, .int v4), (5, .int v5)] []
  unfold L_reach_27 at hF
  refine v_iload 29 X 3 dX1_reach_27 rfl rfl ?_
  refine v_iload 31 X 2 dX1_reach_29 rfl rfl ?_
  refine v_icmp_ge 34 59 X dX1_reach_31 rfl (by decide) (fun h31 => ?_) (fun h31 => ?_)
  · replace hF := ifp h31 hF
    obtain rfl := Option.some.inj hF
    exact v_lv [0] rfl ((hO _ rfl))
  · replace hF := ifn h31 hF
    refine v_aload_n 35 X 1 dX1_reach_34 rfl rfl rfl ?_
    refine v_iload 37 X 3 dX1_reach_35 rfl rfl ?_
    obtain ⟨z37, hz37, hF⟩ := ob hF
    refine v_zald 38 X 6 hz37 rfl dX1_reach_37 rfl ?_
    refine v_istore 40 [(6, .int z37), (2, .int v2), (3, .ref q16_6), (4, .int v4), (5, .int v5)] X dX1_reach_38 rfl (by decide) rfl ?_
    refine v_iload_n 41 X 1 dX1_reach_40 rfl rfl rfl ?_
    refine v_iload 43 X 0 dX1_reach_41 rfl rfl ?_
    refine v_if_eq 46 50 X dX1_reach_43 rfl (by decide) (fun h43 => ?_) (fun h43 => ?_)
    · replace hF := ifp h43 hF
      refine v_iconst (v := 0) 51 X dX1_reach_50 rfl ki_0 ?_
      refine v_iadd 52 X dX1_reach_51 rfl ?_
      refine v_istore_n 53 [(2, .int (v2 + 0)), (6, .int z37), (3, .ref q16_6), (4, .int v4), (5, .int v5)] X dX1_reach_52 rfl rfl (by decide) rfl ?_
      refine v_iinc (v := (v5 + 1)) 56 [(5, .int (v5 + 1)), (2, .int (v2 + 0)), (6, .int z37), (3, .ref q16_6), (4, .int v4)] X 4 dX1_reach_53 rfl rfl (by rfl) (by decide) rfl ?_
      refine v_goto 27 X dX1_reach_56 (by decide) ?_
      obtain rfl := Option.some.inj hF
      exact v_lv [1, 3, 4, 0] rfl (hI _ rfl)
    · replace hF := ifn h43 hF
      refine v_iconst (v := 1) 47 X dX1_reach_46 rfl ki_1 ?_
      refine v_goto 51 X dX1_reach_47 (by decide) ?_
      refine v_iadd 52 X dX1_reach_51 rfl ?_
      refine v_istore_n 53 [(2, .int (v2 + 1)), (6, .int z37), (3, .ref q16_6), (4, .int v4), (5, .int v5)] X dX1_reach_52 rfl rfl (by decide) rfl ?_
      refine v_iinc (v := (v5 + 1)) 56 [(5, .int (v5 + 1)), (2, .int (v2 + 1)), (6, .int z37), (3, .ref q16_6), (4, .int v4)] X 4 dX1_reach_53 rfl rfl (by rfl) (by decide) rfl ?_
      refine v_goto 27 X dX1_reach_56 (by decide) ?_
      obtain rfl := Option.some.inj hF
      exact v_lv [1, 3, 4, 0] rfl (hI _ rfl)
theorem w_X1_reach (v1 : Int32) (r : Int32) (hF : L_reach cols rows thr kd n n4 vl gr so v1 = some r) : CTi l yX1_reach cX1_reach 7 (Option.some Jvm.ClassFile.FieldType.int) rmX1_reach D (LW D b0 b1 b2 b3 b4 b5 n n4 cols rows kd thr bt tm rea gr vl so dy cg) [.ref b0, .int v1] (AMB D) (fun r1 u => r1 = r ∧ u = (LW D b0 b1 b2 b3 b4 b5 n n4 cols rows kd thr bt tm rea gr vl so dy cg)) := by
  refine m_i (by decide) (Nat.le_of_ble_eq_true rfl) ?_
  intro p e s m args below meth c A B
  obtain ⟨X, hr, hAm, -, hnm, hnmd⟩ := B
  replace X : CX p s m args meth c D A cX1_reach 7 "DyeLattice$Lattice" := X
  refine v_lv (lv' := [(0, .ref b0), (1, .int v1)]) [0, 1] rfl ?_
  unfold L_reach at hF
  refine v_iconst (v := 0) 1 X dX1_reach_0 rfl ki_0 ?_
  refine v_istore_n 2 [(2, .int 0), (0, .ref b0), (1, .int v1)] X dX1_reach_1 rfl rfl (by decide) rfl ?_
  refine v_aload_n 3 X 1 dX1_reach_2 rfl rfl rfl ?_
  refine v_aload_n 4 X 1 dX1_reach_3 rfl rfl rfl ?_
  refine v_iload_n 5 X 2 dX1_reach_4 rfl rfl rfl ?_
  refine vl_of ?_
  refine vl_make 10 1 2 X hAm 2 (by decide) (by decide) (x := yX1_reach) rfl hnmd rfl rfl sok2 rfl [.ref b0, .int v1] rfl rfl (lam_fit rfl) rfl (Nat.le_of_ble_eq_true rfl) (Nat.le_of_ble_eq_true rfl) (Nat.le_of_ble_eq_true rfl) dX1_reach_5 rfl rfl rfl (fun q5 => ?_)
  refine vl_aload_n 11 X 1 dX1_reach_10 rfl rfl rfl ?_
  refine vl_make 16 2 3 X hAm 3 (by decide) (by decide) (x := yX1_reach) rfl hnmd rfl rfl sok3 rfl [.ref b0] rfl rfl (lam_fit rfl) rfl (Nat.le_of_ble_eq_true rfl) (Nat.le_of_ble_eq_true rfl) (Nat.le_of_ble_eq_true rfl) dX1_reach_11 rfl rfl rfl (fun q11 => ?_)
  obtain ⟨z16, hz16, hF⟩ := ob hF
  refine vl_Vr (wr := ([] : va_W)) 19 4 163 X 2 [.ref q5, .ref q11] [0, 1, 2, 3, 4, 5] [] (LW D b0 b1 b2 b3 b4 b5 n n4 cols rows kd thr bt tm rea gr vl so dy cg) rfl rfl (by decide) (by decide) (by decide) (w_X1_reached_c _ hz16) q1071 q1073 qs27 q85 q1074 hdX1_reached 0 rfl rfl (aml_blind hAm) (aml_xp hAm (List.forall_mem_cons.mpr ⟨Or.inl (List.Mem.tail _ (List.Mem.head _)), (List.forall_mem_cons.mpr ⟨Or.inl (List.Mem.head _), (fun _ h => by cases h)⟩)⟩)) ⟨Nat.le_of_ble_eq_true rfl, Nat.le_of_ble_eq_true rfl⟩ ⟨(Nat.le_of_ble_eq_true rfl), (Nat.le_of_ble_eq_true rfl)⟩ rfl rfl (Nat.le_of_ble_eq_true rfl) dX1_reach_16 rfl rfl rfl (fun a16 u16 e16 => ?_)
  obtain ⟨q16_6, e161, rfl⟩ := e16
  have e162 := e161.symm
  subst e162
  refine v_ws (ws' := (LW D b0 b1 b2 b3 b4 b5 n n4 cols rows kd thr bt tm rea gr vl so dy cg ++ [(q16_6, .inl (D.1 101, n, .inl z16))])) [0, 1, 2, 3, 4, 5, 6] (by decide) rfl ?_
  refine v_astore_n 20 [(3, .ref q16_6), (2, .int 0), (0, .ref b0), (1, .int v1)] X dX1_reach_19 rfl rfl (by decide) rfl ?_
  refine v_aload_n 21 X 0 dX1_reach_20 rfl rfl rfl ?_
  refine v_alen 22 X 6 1 rfl rfl rfl dX1_reach_21 rfl ?_
  refine v_istore 24 [(4, .int (nI n)), (3, .ref q16_6), (2, .int 0), (0, .ref b0), (1, .int v1)] X dX1_reach_22 rfl (by decide) rfl ?_
  refine v_iconst (v := 0) 25 X dX1_reach_24 rfl ki_0 ?_
  refine v_istore 27 [(5, .int 0), (4, .int (nI n)), (3, .ref q16_6), (2, .int 0), (0, .ref b0), (1, .int v1)] X dX1_reach_25 rfl (by decide) rfl ?_
  obtain ⟨z27, hz27, hF⟩ := ob hF
  refine v_lv [3, 2, 1, 0] rfl (w_X1_reach_27 X hAm hnmd (Nat.le_of_ble_eq_true rfl) (Nat.le_of_ble_eq_true rfl) (nI n) z16 _ (0, 0) _ hz27 ?_)
  refine v_iload_n 60 X 0 dX1_reach_59 rfl rfl rfl ?_
  obtain rfl := Option.some.inj hF
  refine v_ws (ws' := (LW D b0 b1 b2 b3 b4 b5 n n4 cols rows kd thr bt tm rea gr vl so dy cg)) [0, 1, 2, 3, 4, 5] (by decide) rfl ?_
  exact v_iret X hr ⟨rfl, rfl⟩ (Nat.le_of_ble_eq_true rfl) (Nat.le_of_ble_eq_true rfl) dX1_reach_60
theorem w_X1_mark_35 (X : CX p s m args meth c D A cX1_mark 7 "DyeLattice$Lattice") (hAm : AMB D A s) (hnmd : s.methodNamed? yX1_mark = some m) {q4 : Nat} {cb sb : Nat} (hcb : cb ≤ rmX1_mark.cells) (hsb : sb ≤ rmX1_mark.slots) (v3 : Int32) (kn4 : (Nat → Int32)) : ∀ (fu : Nat) (x : Int32 × (Nat → Int32)) (o : ((Nat → Int32))), loopN (fun x => L_mark_35 v3 n kn4 x.1 x.2) fu x = some o → (V p l e rmX1_mark s m args below meth c D A 7 Q ([(bc, .inl (D.1 100, n, .inl o))] ++ LW D b0 b1 b2 b3 b4 b5 n n4 cols rows kd thr bt tm rea gr vl so dy cg ++ [(q4, .inl (D.1 101, n, .inl kn4))]) cb sb 70 [] []) → V p l e rmX1_mark s m args below meth c D A 7 Q ([(bc, .inl (D.1 100, n, .inl x.2))] ++ LW D b0 b1 b2 b3 b4 b5 n n4 cols rows kd thr bt tm rea gr vl so dy cg ++ [(q4, .inl (D.1 101, n, .inl kn4))]) cb sb 35 [(0, .ref b0), (1, .ref bc), (3, .int v3), (5, .ref q4), (6, .int x.1)] [] := by
  refine v_loop (fun (x : Int32 × (Nat → Int32)) => V p l e rmX1_mark s m args below meth c D A 7 Q ([(bc, .inl (D.1 100, n, .inl x.2))] ++ LW D b0 b1 b2 b3 b4 b5 n n4 cols rows kd thr bt tm rea gr vl so dy cg ++ [(q4, .inl (D.1 101, n, .inl kn4))]) cb sb 35 [(0, .ref b0), (1, .ref bc), (3, .int v3), (5, .ref q4), (6, .int x.1)] []) (fun (o : ((Nat → Int32))) => V p l e rmX1_mark s m args below meth c D A 7 Q ([(bc, .inl (D.1 100, n, .inl o))] ++ LW D b0 b1 b2 b3 b4 b5 n n4 cols rows kd thr bt tm rea gr vl so dy cg ++ [(q4, .inl (D.1 101, n, .inl kn4))]) cb sb 70 [] []) ?_
  rintro ⟨v6, clu⟩ r hF hI hO
  replace hF : L_mark_35 v3 n kn4 v6 clu = some r := hF
  show V p l e rmX1_mark s m args below meth c D A 7 Q ([(bc, .inl (D.1 100, n, .inl clu))] ++ LW D b0 b1 b2 b3 b4 b5 n n4 cols rows kd thr bt tm rea gr vl so dy cg ++ [(q4, .inl (D.1 101, n, .inl kn4))]) cb sb 35 [(0, .ref b0), (1, .ref bc), (3, .int v3), (5, .ref q4), (6, .int v6)] []
  unfold L_mark_35 at hF
  refine v_iload 37 X 4 dX1_mark_35 rfl rfl ?_
  refine v_aload_n 38 X 0 dX1_mark_37 rfl rfl rfl ?_
  have hz38 : L_cells n = some (nI n) := rfl
  refine vc_Vi (wr := ([(bc, .inl (D.1 100, n, .inl clu)), (q4, .inl (D.1 101, n, .inl kn4))])) 41 cb sb X 0 [] [1, 2, 3, 4, 5, 6] [0, 7] (LW D b0 b1 b2 b3 b4 b5 n n4 cols rows kd thr bt tm rea gr vl so dy cg) rfl rfl (by decide) (by decide) (by decide) (w_X1_cells _ hz38) q394 q345 q346 q85 q347 hdX1_cells 1 rfl rfl (pass_amb hAm) ⟨Nat.le_of_ble_eq_true rfl, Nat.le_of_ble_eq_true rfl⟩ ⟨(by exact hcb), (by exact hsb)⟩ rfl rfl (Nat.le_of_ble_eq_true rfl) dX1_mark_38 rfl (by show cb + 0 = cb + 0; omega) (by show sb + 0 = sb + 0; omega) (fun r38 u38 e38 => ?_)
  obtain ⟨e381, rfl⟩ := e38
  have e382 := e381.symm
  subst e382
  refine v_ws (ws' := ([(bc, .inl (D.1 100, n, .inl clu)), (q4, .inl (D.1 101, n, .inl kn4))] ++ LW D b0 b1 b2 b3 b4 b5 n n4 cols rows kd thr bt tm rea gr vl so dy cg)) [0, 1, 2, 3, 4, 5, 6, 7] (by decide) rfl ?_
  refine v_icmp_ge 44 70 X dX1_mark_41 rfl (by decide) (fun h41 => ?_) (fun h41 => ?_)
  · replace hF := ifp h41 hF
    obtain rfl := Option.some.inj hF
    refine v_ws (ws' := ([(bc, .inl (D.1 100, n, .inl clu))] ++ LW D b0 b1 b2 b3 b4 b5 n n4 cols rows kd thr bt tm rea gr vl so dy cg ++ [(q4, .inl (D.1 101, n, .inl kn4))])) [0, 2, 3, 4, 5, 6, 7, 1] (by decide) rfl ?_
    exact v_lv [] rfl ((hO _ rfl))
  · replace hF := ifn h41 hF
    refine v_aload_n 45 X 1 dX1_mark_44 rfl rfl rfl ?_
    refine v_iload 47 X 4 dX1_mark_45 rfl rfl ?_
    refine v_aload 49 X 3 dX1_mark_47 rfl rfl ?_
    refine v_iload 51 X 4 dX1_mark_49 rfl rfl ?_
    obtain ⟨z51, hz51, hF⟩ := ob hF
    refine v_zald 52 X 1 hz51 rfl dX1_mark_51 rfl ?_
    refine v_if_eq 55 59 X dX1_mark_52 rfl (by decide) (fun h52 => ?_) (fun h52 => ?_)
    · replace hF := ifp h52 hF
      refine v_aload_n 60 X 1 dX1_mark_59 rfl rfl rfl ?_
      refine v_iload 62 X 4 dX1_mark_60 rfl rfl ?_
      obtain ⟨z62, hz62, hF⟩ := ob hF
      refine v_iald 63 X 0 hz62 rfl dX1_mark_62 rfl ?_
      obtain ⟨z63, hz63, hF⟩ := ob hF
      refine v_iast 64 ([(bc, .inl (D.1 100, n, .inl z63)), (q4, .inl (D.1 101, n, .inl kn4))] ++ LW D b0 b1 b2 b3 b4 b5 n n4 cols rows kd thr bt tm rea gr vl so dy cg) X 0 hz63 rfl dX1_mark_63 rfl rfl ?_
      refine v_iinc (v := (v6 + 1)) 67 [(6, .int (v6 + 1)), (0, .ref b0), (1, .ref bc), (3, .int v3), (5, .ref q4)] X 4 dX1_mark_64 rfl rfl (by rfl) (by decide) rfl ?_
      refine v_goto 35 X dX1_mark_67 (by decide) ?_
      obtain rfl := Option.some.inj hF
      refine v_ws (ws' := ([(bc, .inl (D.1 100, n, .inl z63))] ++ LW D b0 b1 b2 b3 b4 b5 n n4 cols rows kd thr bt tm rea gr vl so dy cg ++ [(q4, .inl (D.1 101, n, .inl kn4))])) [0, 2, 3, 4, 5, 6, 7, 1] (by decide) rfl ?_
      exact v_lv [1, 2, 3, 4, 0] rfl (hI _ rfl)
    · replace hF := ifn h52 hF
      refine v_iload_n 56 X 2 dX1_mark_55 rfl rfl rfl ?_
      refine v_goto 63 X dX1_mark_56 (by decide) ?_
      obtain ⟨z63, hz63, hF⟩ := ob hF
      refine v_iast 64 ([(bc, .inl (D.1 100, n, .inl z63)), (q4, .inl (D.1 101, n, .inl kn4))] ++ LW D b0 b1 b2 b3 b4 b5 n n4 cols rows kd thr bt tm rea gr vl so dy cg) X 0 hz63 rfl dX1_mark_63 rfl rfl ?_
      refine v_iinc (v := (v6 + 1)) 67 [(6, .int (v6 + 1)), (0, .ref b0), (1, .ref bc), (3, .int v3), (5, .ref q4)] X 4 dX1_mark_64 rfl rfl (by rfl) (by decide) rfl ?_
      refine v_goto 35 X dX1_mark_67 (by decide) ?_
      obtain rfl := Option.some.inj hF
      refine v_ws (ws' := ([(bc, .inl (D.1 100, n, .inl z63))] ++ LW D b0 b1 b2 b3 b4 b5 n n4 cols rows kd thr bt tm rea gr vl so dy cg ++ [(q4, .inl (D.1 101, n, .inl kn4))])) [0, 2, 3, 4, 5, 6, 7, 1] (by decide) rfl ?_
      exact v_lv [1, 2, 3, 4, 0] rfl (hI _ rfl)
theorem w_X1_mark (v2 : Int32) (v3 : Int32) (v4 : Int32) (r : (Nat → Int32)) (hF : L_mark cols rows kd n n4 vl gr clu v2 v3 v4 = some r) : CTv l yX1_mark cX1_mark 7 (Option.none : Option Jvm.ClassFile.FieldType) rmX1_mark D (LW D b0 b1 b2 b3 b4 b5 n n4 cols rows kd thr bt tm rea gr vl so dy cg ++ [(bc, .inl (D.1 100, n, .inl clu))]) [.ref b0, .ref bc, .int v2, .int v3, .int v4] (AMB D) (fun u => u = (LW D b0 b1 b2 b3 b4 b5 n n4 cols rows kd thr bt tm rea gr vl so dy cg ++ [(bc, .inl (D.1 100, n, .inl r))])) := by
  refine m_v (by decide) (Nat.le_of_ble_eq_true rfl) ?_
  intro p e s m args below meth c A B
  obtain ⟨X, hr, hAm, -, hnm, hnmd⟩ := B
  replace X : CX p s m args meth c D A cX1_mark 7 "DyeLattice$Lattice" := X
  refine v_lv (lv' := [(0, .ref b0), (1, .ref bc), (2, .int v2), (3, .int v3), (4, .int v4)]) [0, 1, 2, 3, 4] rfl ?_
  unfold L_mark at hF
  refine v_aload_n 1 X 0 dX1_mark_0 rfl rfl rfl ?_
  have hz1 : L_cells n = some (nI n) := rfl
  refine vc_Vi (wr := ([(bc, .inl (D.1 100, n, .inl clu))])) 4 0 0 X 0 [] [0, 1, 2, 3, 4, 5] [6] (LW D b0 b1 b2 b3 b4 b5 n n4 cols rows kd thr bt tm rea gr vl so dy cg) rfl rfl (by decide) (by decide) (by decide) (w_X1_cells _ hz1) q394 q345 q346 q85 q347 hdX1_cells 0 rfl rfl (pass_amb hAm) ⟨Nat.le_of_ble_eq_true rfl, Nat.le_of_ble_eq_true rfl⟩ ⟨(Nat.le_of_ble_eq_true rfl), (Nat.le_of_ble_eq_true rfl)⟩ rfl rfl (Nat.le_of_ble_eq_true rfl) dX1_mark_1 rfl rfl rfl (fun r1 u1 e1 => ?_)
  obtain ⟨e11, rfl⟩ := e1
  have e12 := e11.symm
  subst e12
  refine v_ws (ws' := ([(bc, .inl (D.1 100, n, .inl clu))] ++ LW D b0 b1 b2 b3 b4 b5 n n4 cols rows kd thr bt tm rea gr vl so dy cg)) [0, 1, 2, 3, 4, 5, 6] (by decide) rfl ?_
  obtain ⟨z4, hz4, hF⟩ := ob hF
  refine v_newa (atype := .boolean) (mx := 80) (t0 := 1) (ty := .boolean) 6 1 80 X (lenN_s (Nat.le_of_ble_eq_true rfl) hz4) q191 rfl rfl (fun _ h1 h2 => ra_prim rfl rfl h1 h2) rfl (Nat.le_of_ble_eq_true rfl) (Nat.le_of_ble_eq_true rfl) (Nat.le_of_ble_eq_true rfl) dX1_mark_4 rfl rfl rfl (fun q4 => ?_)
  refine v_ws (ws' := ([(bc, .inl (D.1 100, n, .inl clu))] ++ LW D b0 b1 b2 b3 b4 b5 n n4 cols rows kd thr bt tm rea gr vl so dy cg ++ [(q4, .inl (D.1 101, n, .inl (fun _ => 0)))])) [0, 1, 2, 3, 4, 5, 6, 7] (by decide) rfl ?_
  refine v_astore 8 [(5, .ref q4), (0, .ref b0), (1, .ref bc), (2, .int v2), (3, .int v3), (4, .int v4)] X dX1_mark_6 rfl (by decide) rfl ?_
  refine v_aload 10 X 0 dX1_mark_8 rfl rfl ?_
  refine v_iload_n 11 X 3 dX1_mark_10 rfl rfl rfl ?_
  refine v_iconst (v := 1) 12 X dX1_mark_11 rfl ki_1 ?_
  obtain ⟨z12, hz12, hF⟩ := ob hF
  refine v_zast 13 ([(bc, .inl (D.1 100, n, .inl clu))] ++ LW D b0 b1 b2 b3 b4 b5 n n4 cols rows kd thr bt tm rea gr vl so dy cg ++ [(q4, .inl (D.1 101, n, .inl z12))]) X 7 hz12 rfl dX1_mark_12 rfl rfl ?_
  refine v_aload_n 14 X 1 dX1_mark_13 rfl rfl rfl ?_
  refine v_aload 16 X 0 dX1_mark_14 rfl rfl ?_
  refine v_aload_n 17 X 1 dX1_mark_16 rfl rfl rfl ?_
  refine v_iload 19 X 5 dX1_mark_17 rfl rfl ?_
  refine vl_of ?_
  refine vl_make 24 2 82 X hAm 0 (by decide) (by decide) (x := yX1_mark) rfl hnmd rfl rfl sok0 rfl [.ref b0, .int v4] rfl rfl (lam_fit rfl) rfl (Nat.le_of_ble_eq_true rfl) (Nat.le_of_ble_eq_true rfl) (Nat.le_of_ble_eq_true rfl) dX1_mark_19 rfl rfl rfl (fun q19 => ?_)
  refine vl_const 29 X hAm 1 (by decide) (by decide) (x := yX1_mark) rfl hnmd rfl (Nat.le_of_ble_eq_true rfl) dX1_mark_24 rfl ?_
  obtain ⟨z29, hz29, hF⟩ := ob hF
  refine vl_Vv (wr := ([(bc, .inl (D.1 100, n, .inl clu))])) 32 3 162 X 3 [.ref q4, .ref q19, .ref (D.2 204 1)] [1, 2, 3, 4, 5, 6, 7] [0] (LW D b0 b1 b2 b3 b4 b5 n n4 cols rows kd thr bt tm rea gr vl so dy cg ++ [(q4, .inl (D.1 101, n, .inl z12))]) rfl rfl (by decide) (by decide) (by decide) (w_X1_flood_d _ hz29) q1016 q1018 qs23 q85 q1019 hdX1_flood 1 rfl rfl (aml_blind hAm) (aml_xp hAm (List.forall_mem_cons.mpr ⟨Or.inl (List.Mem.head _), (List.forall_mem_cons.mpr ⟨Or.inr (lamC hAm 1 (by decide) (by decide)), (fun _ h => by cases h)⟩)⟩)) ⟨Nat.le_of_ble_eq_true rfl, Nat.le_of_ble_eq_true rfl⟩ ⟨(Nat.le_of_ble_eq_true rfl), (Nat.le_of_ble_eq_true rfl)⟩ rfl rfl (Nat.le_of_ble_eq_true rfl) dX1_mark_29 rfl rfl rfl (fun u29 e29 => ?_)
  subst e29
  refine v_ws (ws' := ([(bc, .inl (D.1 100, n, .inl clu))] ++ LW D b0 b1 b2 b3 b4 b5 n n4 cols rows kd thr bt tm rea gr vl so dy cg ++ [(q4, .inl (D.1 101, n, .inl z29))])) [0, 1, 2, 3, 4, 5, 6, 7] (by decide) rfl ?_
  refine v_iconst (v := 0) 33 X dX1_mark_32 rfl ki_0 ?_
  refine v_istore 35 [(6, .int 0), (5, .ref q4), (0, .ref b0), (1, .ref bc), (2, .int v2), (3, .int v3), (4, .int v4)] X dX1_mark_33 rfl (by decide) rfl ?_
  obtain ⟨z35, hz35, hF⟩ := ob hF
  refine v_lv [2, 3, 5, 1, 0] rfl (w_X1_mark_35 X hAm hnmd (Nat.le_of_ble_eq_true rfl) (Nat.le_of_ble_eq_true rfl) v3 z29 _ (0, clu) _ hz35 ?_)
  obtain rfl := Option.some.inj hF
  refine v_ws (ws' := (LW D b0 b1 b2 b3 b4 b5 n n4 cols rows kd thr bt tm rea gr vl so dy cg ++ [(bc, .inl (D.1 100, n, .inl z35))])) [1, 2, 3, 4, 5, 6, 0] (by decide) rfl ?_
  exact v_vret X hr rfl (Nat.le_of_ble_eq_true rfl) (Nat.le_of_ble_eq_true rfl) dX1_mark_70
theorem w_X1_clusters_9 (X : CX p s m args meth c D A cX1_clusters 5 "DyeLattice$Lattice") (hAm : AMB D A s) {q4 : Nat} {cb sb : Nat} (hcb : cb ≤ rmX1_clusters.cells) (hsb : sb ≤ rmX1_clusters.slots) (v1 : Int32) : ∀ (fu : Nat) (x : Int32 × (Nat → Int32)) (o : ((Nat → Int32))), loopN (fun x => L_clusters_9 n x.1 x.2) fu x = some o → (V p l e rmX1_clusters s m args below meth c D A 5 Q (LW D b0 b1 b2 b3 b4 b5 n n4 cols rows kd thr bt tm rea gr vl so dy cg ++ [(q4, .inl (D.1 100, n, .inl o))]) cb sb 28 [(0, .ref b0), (1, .int v1), (2, .ref q4)] []) → V p l e rmX1_clusters s m args below meth c D A 5 Q (LW D b0 b1 b2 b3 b4 b5 n n4 cols rows kd thr bt tm rea gr vl so dy cg ++ [(q4, .inl (D.1 100, n, .inl x.2))]) cb sb 9 [(0, .ref b0), (1, .int v1), (2, .ref q4), (3, .int x.1)] [] := by
  refine v_loop (fun (x : Int32 × (Nat → Int32)) => V p l e rmX1_clusters s m args below meth c D A 5 Q (LW D b0 b1 b2 b3 b4 b5 n n4 cols rows kd thr bt tm rea gr vl so dy cg ++ [(q4, .inl (D.1 100, n, .inl x.2))]) cb sb 9 [(0, .ref b0), (1, .int v1), (2, .ref q4), (3, .int x.1)] []) (fun (o : ((Nat → Int32))) => V p l e rmX1_clusters s m args below meth c D A 5 Q (LW D b0 b1 b2 b3 b4 b5 n n4 cols rows kd thr bt tm rea gr vl so dy cg ++ [(q4, .inl (D.1 100, n, .inl o))]) cb sb 28 [(0, .ref b0), (1, .int v1), (2, .ref q4)] []) ?_
  rintro ⟨v3, kn4⟩ r hF hI hO
  replace hF : L_clusters_9 n v3 kn4 = some r := hF
  show V p l e rmX1_clusters s m args below meth c D A 5 Q (LW D b0 b1 b2 b3 b4 b5 n n4 cols rows kd thr bt tm rea gr vl so dy cg ++ [(q4, .inl (D.1 100, n, .inl kn4))]) cb sb 9 [(0, .ref b0), (1, .int v1), (2, .ref q4), (3, .int v3)] []
  unfold L_clusters_9 at hF
  refine v_iload_n 10 X 3 dX1_clusters_9 rfl rfl rfl ?_
  refine v_aload_n 11 X 0 dX1_clusters_10 rfl rfl rfl ?_
  have hz11 : L_cells n = some (nI n) := rfl
  refine vc_Vi (wr := ([(q4, .inl (D.1 100, n, .inl kn4))])) 14 cb sb X 0 [] [0, 1, 2, 3, 4, 5] [6] (LW D b0 b1 b2 b3 b4 b5 n n4 cols rows kd thr bt tm rea gr vl so dy cg) rfl rfl (by decide) (by decide) (by decide) (w_X1_cells _ hz11) q394 q345 q346 q85 q347 hdX1_cells 0 rfl rfl (pass_amb hAm) ⟨Nat.le_of_ble_eq_true rfl, Nat.le_of_ble_eq_true rfl⟩ ⟨(by exact hcb), (by exact hsb)⟩ rfl rfl (Nat.le_of_ble_eq_true rfl) dX1_clusters_11 rfl (by show cb + 0 = cb + 0; omega) (by show sb + 0 = sb + 0; omega) (fun r11 u11 e11 => ?_)
  obtain ⟨e111, rfl⟩ := e11
  have e112 := e111.symm
  subst e112
  refine v_ws (ws' := ([(q4, .inl (D.1 100, n, .inl kn4))] ++ LW D b0 b1 b2 b3 b4 b5 n n4 cols rows kd thr bt tm rea gr vl so dy cg)) [0, 1, 2, 3, 4, 5, 6] (by decide) rfl ?_
  refine v_icmp_ge 17 28 X dX1_clusters_14 rfl (by decide) (fun h14 => ?_) (fun h14 => ?_)
  · replace hF := ifp h14 hF
    obtain rfl := Option.some.inj hF
    refine v_ws (ws' := (LW D b0 b1 b2 b3 b4 b5 n n4 cols rows kd thr bt tm rea gr vl so dy cg ++ [(q4, .inl (D.1 100, n, .inl kn4))])) [1, 2, 3, 4, 5, 6, 0] (by decide) rfl ?_
    exact v_lv [0, 1, 2] rfl ((hO _ rfl))
  · replace hF := ifn h14 hF
    refine v_aload_n 18 X 2 dX1_clusters_17 rfl rfl rfl ?_
    refine v_iload_n 19 X 3 dX1_clusters_18 rfl rfl rfl ?_
    refine v_bipush (v := (-9)) 21 X dX1_clusters_19 rfl kb_m9 ?_
    obtain ⟨z21, hz21, hF⟩ := ob hF
    refine v_iast 22 ([(q4, .inl (D.1 100, n, .inl z21))] ++ LW D b0 b1 b2 b3 b4 b5 n n4 cols rows kd thr bt tm rea gr vl so dy cg) X 0 hz21 rfl dX1_clusters_21 rfl rfl ?_
    refine v_iinc (v := (v3 + 1)) 25 [(3, .int (v3 + 1)), (0, .ref b0), (1, .int v1), (2, .ref q4)] X 3 dX1_clusters_22 rfl rfl (by rfl) (by decide) rfl ?_
    refine v_goto 9 X dX1_clusters_25 (by decide) ?_
    obtain rfl := Option.some.inj hF
    refine v_ws (ws' := (LW D b0 b1 b2 b3 b4 b5 n n4 cols rows kd thr bt tm rea gr vl so dy cg ++ [(q4, .inl (D.1 100, n, .inl z21))])) [1, 2, 3, 4, 5, 6, 0] (by decide) rfl ?_
    exact v_lv [1, 2, 3, 0] rfl (hI _ rfl)
theorem w_X1_clusters_33 (X : CX p s m args meth c D A cX1_clusters 5 "DyeLattice$Lattice") (hAm : AMB D A s) {q4 : Nat} (v1 : Int32) : ∀ (fu cb sb : Nat) (x : Int32 × Int32 × (Nat → Int32)) (o : ((Nat → Int32))), cb + fu * 3 ≤ rmX1_clusters.cells → sb + fu * 162 ≤ rmX1_clusters.slots → loopN (fun x => L_clusters_33 v1 cols rows kd n n4 vl gr x.1 x.2.1 x.2.2) fu x = some o → (V p l e rmX1_clusters s m args below meth c D A 5 Q ([(q4, .inl (D.1 100, n, .inl o))] ++ LW D b0 b1 b2 b3 b4 b5 n n4 cols rows kd thr bt tm rea gr vl so dy cg) (cb + fu * 3) (sb + fu * 162) 80 [(2, .ref q4)] []) → V p l e rmX1_clusters s m args below meth c D A 5 Q ([(q4, .inl (D.1 100, n, .inl x.2.2))] ++ LW D b0 b1 b2 b3 b4 b5 n n4 cols rows kd thr bt tm rea gr vl so dy cg) cb sb 33 [(0, .ref b0), (1, .int v1), (2, .ref q4), (3, .int x.1), (4, .int x.2.1)] [] := by
  refine v_loopA 3 162 rmX1_clusters.cells rmX1_clusters.slots (fun cb sb (x : Int32 × Int32 × (Nat → Int32)) => V p l e rmX1_clusters s m args below meth c D A 5 Q ([(q4, .inl (D.1 100, n, .inl x.2.2))] ++ LW D b0 b1 b2 b3 b4 b5 n n4 cols rows kd thr bt tm rea gr vl so dy cg) cb sb 33 [(0, .ref b0), (1, .int v1), (2, .ref q4), (3, .int x.1), (4, .int x.2.1)] []) (fun cb sb (o : ((Nat → Int32))) => V p l e rmX1_clusters s m args below meth c D A 5 Q ([(q4, .inl (D.1 100, n, .inl o))] ++ LW D b0 b1 b2 b3 b4 b5 n n4 cols rows kd thr bt tm rea gr vl so dy cg) cb sb 80 [(2, .ref q4)] []) (fun c0 s0 c1 s1 o hc hs h => v_cs c1 s1 hc hs (h)) ?_
  rintro cb sb ⟨v3, v4, kn4⟩ r hcb hsb hF hI hO
  replace hF : L_clusters_33 v1 cols rows kd n n4 vl gr v3 v4 kn4 = some r := hF
  show V p l e rmX1_clusters s m args below meth c D A 5 Q ([(q4, .inl (D.1 100, n, .inl kn4))] ++ LW D b0 b1 b2 b3 b4 b5 n n4 cols rows kd thr bt tm rea gr vl so dy cg) cb sb 33 [(0, .ref b0), (1, .int v1), (2, .ref q4), (3, .int v3), (4, .int v4)] []
  unfold L_clusters_33 at hF
  refine v_iload 35 X 4 dX1_clusters_33 rfl rfl ?_
  refine v_aload_n 36 X 0 dX1_clusters_35 rfl rfl rfl ?_
  have hz36 : L_cells n = some (nI n) := rfl
  refine vc_Vi (wr := ([(q4, .inl (D.1 100, n, .inl kn4))])) 39 cb sb X 0 [] [1, 2, 3, 4, 5, 6] [0] (LW D b0 b1 b2 b3 b4 b5 n n4 cols rows kd thr bt tm rea gr vl so dy cg) rfl rfl (by decide) (by decide) (by decide) (w_X1_cells _ hz36) q394 q345 q346 q85 q347 hdX1_cells 1 rfl rfl (pass_amb hAm) ⟨Nat.le_of_ble_eq_true rfl, Nat.le_of_ble_eq_true rfl⟩ ⟨(Nat.le_trans (show cb + 0 ≤ cb + 3 from by omega) hcb), (Nat.le_trans (show sb + 0 ≤ sb + 162 from by omega) hsb)⟩ rfl rfl (Nat.le_of_ble_eq_true rfl) dX1_clusters_36 rfl (by show cb + 0 = cb + 0; omega) (by show sb + 0 = sb + 0; omega) (fun r36 u36 e36 => ?_)
  obtain ⟨e361, rfl⟩ := e36
  have e362 := e361.symm
  subst e362
  refine v_ws (ws' := ([(q4, .inl (D.1 100, n, .inl kn4))] ++ LW D b0 b1 b2 b3 b4 b5 n n4 cols rows kd thr bt tm rea gr vl so dy cg)) [0, 1, 2, 3, 4, 5, 6] (by decide) rfl ?_
  refine v_icmp_ge 42 80 X dX1_clusters_39 rfl (by decide) (fun h39 => ?_) (fun h39 => ?_)
  · replace hF := ifp h39 hF
    refine v_cs (cb + 3) (sb + 162) (by omega) (by omega) ?_
    obtain rfl := Option.some.inj hF
    exact v_lv [2] rfl ((hO _ rfl))
  · replace hF := ifn h39 hF
    refine v_aload_n 43 X 0 dX1_clusters_42 rfl rfl rfl ?_
    refine v_get 46 X in_X1 1 7 rfl rfl (by decide) q152 rfl rfl dX1_clusters_43 rfl ?_
    refine v_iload 48 X 4 dX1_clusters_46 rfl rfl ?_
    obtain ⟨z48, hz48, hF⟩ := ob hF
    refine v_iald 49 X 2 hz48 rfl dX1_clusters_48 rfl ?_
    refine v_iload_n 50 X 1 dX1_clusters_49 rfl rfl rfl ?_
    refine v_icmp_ge 53 74 X dX1_clusters_50 rfl (by decide) (fun h50 => ?_) (fun h50 => ?_)
    · replace hF := ifp h50 hF
      refine v_iinc (v := (v4 + 1)) 77 [(4, .int (v4 + 1)), (0, .ref b0), (1, .int v1), (2, .ref q4), (3, .int v3)] X 4 dX1_clusters_74 rfl rfl (by rfl) (by decide) rfl ?_
      refine v_goto 33 X dX1_clusters_77 (by decide) ?_
      refine v_cs (cb + 3) (sb + 162) (by omega) (by omega) ?_
      obtain rfl := Option.some.inj hF
      exact v_lv [1, 2, 3, 4, 0] rfl (hI _ rfl)
    · replace hF := ifn h50 hF
      refine v_aload_n 54 X 2 dX1_clusters_53 rfl rfl rfl ?_
      refine v_iload 56 X 4 dX1_clusters_54 rfl rfl ?_
      obtain ⟨z56, hz56, hF⟩ := ob hF
      refine v_iald 57 X 0 hz56 rfl dX1_clusters_56 rfl ?_
      refine v_bipush (v := (-9)) 59 X dX1_clusters_57 rfl kb_m9 ?_
      refine v_icmp_ne 62 74 X dX1_clusters_59 rfl (by decide) (fun h59 => ?_) (fun h59 => ?_)
      · replace hF := ifn h59 hF
        refine v_iinc (v := (v4 + 1)) 77 [(4, .int (v4 + 1)), (0, .ref b0), (1, .int v1), (2, .ref q4), (3, .int v3)] X 4 dX1_clusters_74 rfl rfl (by rfl) (by decide) rfl ?_
        refine v_goto 33 X dX1_clusters_77 (by decide) ?_
        refine v_cs (cb + 3) (sb + 162) (by omega) (by omega) ?_
        obtain rfl := Option.some.inj hF
        exact v_lv [1, 2, 3, 4, 0] rfl (hI _ rfl)
      · replace hF := ifp h59 hF
        refine v_aload_n 63 X 0 dX1_clusters_62 rfl rfl rfl ?_
        refine v_aload_n 64 X 2 dX1_clusters_63 rfl rfl rfl ?_
        refine v_iload 66 X 4 dX1_clusters_64 rfl rfl ?_
        refine v_iload_n 67 X 3 dX1_clusters_66 rfl rfl rfl ?_
        refine v_iload_n 68 X 1 dX1_clusters_67 rfl rfl rfl ?_
        obtain ⟨z68, hz68, hF⟩ := ob hF
        refine vc_Vv (wr := ([] : va_W)) 71 (cb + 3) (sb + 162) X 4 [.ref q4, .int v4, .int v3, .int v1] [1, 2, 3, 4, 5, 6, 0] [] (LW D b0 b1 b2 b3 b4 b5 n n4 cols rows kd thr bt tm rea gr vl so dy cg ++ [(q4, .inl (D.1 100, n, .inl kn4))]) rfl rfl (by decide) (by decide) (by decide) (w_X1_mark v4 v3 v1 _ hz68) q1005 q1007 qs21 q85 q1008 hdX1_mark 1 rfl rfl (pass_amb hAm) ⟨Nat.le_of_ble_eq_true rfl, Nat.le_of_ble_eq_true rfl⟩ ⟨(Nat.le_trans (show cb + 3 ≤ cb + 3 from by omega) hcb), (Nat.le_trans (show sb + 162 ≤ sb + 162 from by omega) hsb)⟩ rfl rfl (Nat.le_of_ble_eq_true rfl) dX1_clusters_68 rfl (by show cb + 3 = cb + 3; omega) (by show sb + 162 = sb + 162; omega) (fun u68 e68 => ?_)
        subst e68
        refine v_ws (ws' := (LW D b0 b1 b2 b3 b4 b5 n n4 cols rows kd thr bt tm rea gr vl so dy cg ++ [(q4, .inl (D.1 100, n, .inl z68))])) [0, 1, 2, 3, 4, 5, 6] (by decide) rfl ?_
        refine v_iinc (v := (v3 + 1)) 74 [(3, .int (v3 + 1)), (0, .ref b0), (1, .int v1), (2, .ref q4), (4, .int v4)] X 3 dX1_clusters_71 rfl rfl (by rfl) (by decide) rfl ?_
        refine v_iinc (v := (v4 + 1)) 77 [(4, .int (v4 + 1)), (3, .int (v3 + 1)), (0, .ref b0), (1, .int v1), (2, .ref q4)] X 4 dX1_clusters_74 rfl rfl (by rfl) (by decide) rfl ?_
        refine v_goto 33 X dX1_clusters_77 (by decide) ?_
        obtain rfl := Option.some.inj hF
        refine v_ws (ws' := ([(q4, .inl (D.1 100, n, .inl z68))] ++ LW D b0 b1 b2 b3 b4 b5 n n4 cols rows kd thr bt tm rea gr vl so dy cg)) [6, 0, 1, 2, 3, 4, 5] (by decide) rfl ?_
        exact v_lv [2, 3, 4, 1, 0] rfl (hI _ rfl)
theorem w_X1_clusters (v1 : Int32) (r : (Nat → Int32)) (hF : L_clusters cols rows kd n n4 vl gr v1 = some r) : CTr l yX1_clusters cX1_clusters 5 (Option.some (Jvm.ClassFile.FieldType.array Jvm.ClassFile.FieldType.int)) rmX1_clusters D (LW D b0 b1 b2 b3 b4 b5 n n4 cols rows kd thr bt tm rea gr vl so dy cg) [.ref b0, .int v1] (AMB D) (fun a1 u => ∃ qa6 : Nat, a1 = qa6 ∧ u = (LW D b0 b1 b2 b3 b4 b5 n n4 cols rows kd thr bt tm rea gr vl so dy cg ++ [(qa6, .inl (D.1 100, n, .inl r))])) := by
  refine m_r (by decide) (Nat.le_of_ble_eq_true rfl) ?_
  intro p e s m args below meth c A B
  obtain ⟨X, hr, hAm, -, hnm, hnmd⟩ := B
  replace X : CX p s m args meth c D A cX1_clusters 5 "DyeLattice$Lattice" := X
  refine v_lv (lv' := [(0, .ref b0), (1, .int v1)]) [0, 1] rfl ?_
  unfold L_clusters at hF
  refine v_aload_n 1 X 0 dX1_clusters_0 rfl rfl rfl ?_
  have hz1 : L_cells n = some (nI n) := rfl
  refine v_mVi 4 X 0 [] (w_X1_cells _ hz1) q394 q345 q346 q85 q347 hdX1_cells 0 rfl rfl (pass_amb hAm) ⟨rfl, rfl⟩ ⟨Nat.le_of_ble_eq_true rfl, Nat.le_of_ble_eq_true rfl⟩ ⟨(Nat.le_of_ble_eq_true rfl), (Nat.le_of_ble_eq_true rfl)⟩ rfl rfl (Nat.le_of_ble_eq_true rfl) dX1_clusters_1 rfl ?_
  obtain ⟨z4, hz4, hF⟩ := ob hF
  refine v_newa (atype := .int) (mx := 80) (t0 := 0) (ty := .int) 6 1 80 X (lenN_s (Nat.le_of_ble_eq_true rfl) hz4) q190 rfl rfl (fun _ h1 h2 => ra_prim rfl rfl h1 h2) rfl (Nat.le_of_ble_eq_true rfl) (Nat.le_of_ble_eq_true rfl) (Nat.le_of_ble_eq_true rfl) dX1_clusters_4 rfl rfl rfl (fun q4 => ?_)
  refine v_ws (ws' := (LW D b0 b1 b2 b3 b4 b5 n n4 cols rows kd thr bt tm rea gr vl so dy cg ++ [(q4, .inl (D.1 100, n, .inl (fun _ => 0)))])) [0, 1, 2, 3, 4, 5, 6] (by decide) rfl ?_
  refine v_astore_n 7 [(2, .ref q4), (0, .ref b0), (1, .int v1)] X dX1_clusters_6 rfl rfl (by decide) rfl ?_
  refine v_iconst (v := 0) 8 X dX1_clusters_7 rfl ki_0 ?_
  refine v_istore_n 9 [(3, .int 0), (2, .ref q4), (0, .ref b0), (1, .int v1)] X dX1_clusters_8 rfl rfl (by decide) rfl ?_
  obtain ⟨z9, hz9, hF⟩ := ob hF
  refine v_lv [2, 3, 1, 0] rfl (w_X1_clusters_9 X hAm (Nat.le_of_ble_eq_true rfl) (Nat.le_of_ble_eq_true rfl) v1 _ (0, (fun _ => 0)) _ hz9 ?_)
  refine v_iconst (v := 0) 29 X dX1_clusters_28 rfl ki_0 ?_
  refine v_istore_n 30 [(3, .int 0), (0, .ref b0), (1, .int v1), (2, .ref q4)] X dX1_clusters_29 rfl rfl (by decide) rfl ?_
  refine v_iconst (v := 0) 31 X dX1_clusters_30 rfl ki_0 ?_
  refine v_istore 33 [(4, .int 0), (3, .int 0), (0, .ref b0), (1, .int v1), (2, .ref q4)] X dX1_clusters_31 rfl (by decide) rfl ?_
  obtain ⟨z33, hz33, hF⟩ := ob hF
  refine v_ws (ws' := ([(q4, .inl (D.1 100, n, .inl z9))] ++ LW D b0 b1 b2 b3 b4 b5 n n4 cols rows kd thr bt tm rea gr vl so dy cg)) [6, 0, 1, 2, 3, 4, 5] (by decide) rfl ?_
  refine v_lv [2, 3, 4, 1, 0] rfl (w_X1_clusters_33 X hAm v1 81 1 80 (0, 0, z9) _ (Nat.le_of_ble_eq_true rfl) (Nat.le_of_ble_eq_true rfl) hz33 ?_)
  refine v_c0 244 13202 rfl rfl ?_
  refine v_aload_n 81 X 0 dX1_clusters_80 rfl rfl rfl ?_
  obtain rfl := Option.some.inj hF
  refine v_ws (ws' := (LW D b0 b1 b2 b3 b4 b5 n n4 cols rows kd thr bt tm rea gr vl so dy cg ++ [(q4, .inl (D.1 100, n, .inl z33))])) [1, 2, 3, 4, 5, 6, 0] (by decide) rfl ?_
  refine v_aret (post := (fun r : (Nat → Int32) => (fun a1 u => ∃ qa6 : Nat, a1 = qa6 ∧ u = (LW D b0 b1 b2 b3 b4 b5 n n4 cols rows kd thr bt tm rea gr vl so dy cg ++ [(qa6, .inl (D.1 100, n, .inl r))]))) z33) X hr (Or.inr ⟨_, rfl⟩) ?_ ?_ ?_ dX1_clusters_81
  · exact ⟨q4, rfl, rfl⟩
  · exact Nat.le_of_ble_eq_true rfl
  · exact Nat.le_of_ble_eq_true rfl
theorem w_X1_step_115 (X : CX p s m args meth c D A cX1_step 5 "DyeLattice$Lattice") (hAm : AMB D A s) {q24 : Nat} {cb sb : Nat} (hcb : cb ≤ rmX1_step.cells) (hsb : sb ≤ rmX1_step.slots) (v3 : Int32) (kn24 : (Nat → Int32)) : ∀ (fu : Nat) (x : Int32 × (Nat → Int32)) (o : ((Nat → Int32))), loopN (fun x => L_step_115 rea n kn24 x.1 x.2) fu x = some o → (V p l e rmX1_step s m args below meth c D A 5 Q ([(q24, .inl (D.1 100, n, .inl kn24)), (b0, .inr (1, [.int cols, .int rows, .ref (adK D kd), .int thr, .int bt, .int tm, .int rea, .ref b1, .ref b2, .ref b3, .ref q24, .ref b5])), (b1, .inl (D.1 100, n, .inl gr)), (b2, .inl (D.1 104, n4, .inr (.inr (.inr (.inr (vArr D vl)))))), (b3, .inl (D.1 100, n, .inl so)), (b4, .inl (D.1 100, n, .inl dy)), (b5, .inl (D.1 101, n, .inl o))]) cb sb 151 [(0, .ref b0), (3, .int v3)] []) → V p l e rmX1_step s m args below meth c D A 5 Q ([(q24, .inl (D.1 100, n, .inl kn24)), (b0, .inr (1, [.int cols, .int rows, .ref (adK D kd), .int thr, .int bt, .int tm, .int rea, .ref b1, .ref b2, .ref b3, .ref q24, .ref b5])), (b1, .inl (D.1 100, n, .inl gr)), (b2, .inl (D.1 104, n4, .inr (.inr (.inr (.inr (vArr D vl)))))), (b3, .inl (D.1 100, n, .inl so)), (b4, .inl (D.1 100, n, .inl dy)), (b5, .inl (D.1 101, n, .inl x.2))]) cb sb 115 [(0, .ref b0), (3, .int v3), (4, .int x.1)] [] := by
  refine v_loop (fun (x : Int32 × (Nat → Int32)) => V p l e rmX1_step s m args below meth c D A 5 Q ([(q24, .inl (D.1 100, n, .inl kn24)), (b0, .inr (1, [.int cols, .int rows, .ref (adK D kd), .int thr, .int bt, .int tm, .int rea, .ref b1, .ref b2, .ref b3, .ref q24, .ref b5])), (b1, .inl (D.1 100, n, .inl gr)), (b2, .inl (D.1 104, n4, .inr (.inr (.inr (.inr (vArr D vl)))))), (b3, .inl (D.1 100, n, .inl so)), (b4, .inl (D.1 100, n, .inl dy)), (b5, .inl (D.1 101, n, .inl x.2))]) cb sb 115 [(0, .ref b0), (3, .int v3), (4, .int x.1)] []) (fun (o : ((Nat → Int32))) => V p l e rmX1_step s m args below meth c D A 5 Q ([(q24, .inl (D.1 100, n, .inl kn24)), (b0, .inr (1, [.int cols, .int rows, .ref (adK D kd), .int thr, .int bt, .int tm, .int rea, .ref b1, .ref b2, .ref b3, .ref q24, .ref b5])), (b1, .inl (D.1 100, n, .inl gr)), (b2, .inl (D.1 104, n4, .inr (.inr (.inr (.inr (vArr D vl)))))), (b3, .inl (D.1 100, n, .inl so)), (b4, .inl (D.1 100, n, .inl dy)), (b5, .inl (D.1 101, n, .inl o))]) cb sb 151 [(0, .ref b0), (3, .int v3)] []) ?_
  rintro ⟨v4, cg⟩ r hF hI hO
  replace hF : L_step_115 rea n kn24 v4 cg = some r := hF
  show V p l e rmX1_step s m args below meth c D A 5 Q ([(q24, .inl (D.1 100, n, .inl kn24)), (b0, .inr (1, [.int cols, .int rows, .ref (adK D kd), .int thr, .int bt, .int tm, .int rea, .ref b1, .ref b2, .ref b3, .ref q24, .ref b5])), (b1, .inl (D.1 100, n, .inl gr)), (b2, .inl (D.1 104, n4, .inr (.inr (.inr (.inr (vArr D vl)))))), (b3, .inl (D.1 100, n, .inl so)), (b4, .inl (D.1 100, n, .inl dy)), (b5, .inl (D.1 101, n, .inl cg))]) cb sb 115 [(0, .ref b0), (3, .int v3), (4, .int v4)] []
  unfold L_step_115 at hF
  refine v_iload 117 X 2 dX1_step_115 rfl rfl ?_
  refine v_aload_n 118 X 0 dX1_step_117 rfl rfl rfl ?_
  have hz118 : L_cells n = some (nI n) := rfl
  refine vc_Vi (wr := ([(b4, .inl (D.1 100, n, .inl dy))])) 121 cb sb X 0 [] [1, 2, 3, 4, 0, 6] [5] (LW D b0 b1 b2 b3 q24 b5 n n4 cols rows kd thr bt tm rea gr vl so kn24 cg) rfl rfl (by decide) (by decide) (by decide) (w_X1_cells _ hz118) q394 q345 q346 q85 q347 hdX1_cells 1 rfl rfl (pass_amb hAm) ⟨Nat.le_of_ble_eq_true rfl, Nat.le_of_ble_eq_true rfl⟩ ⟨(by exact hcb), (by exact hsb)⟩ rfl rfl (Nat.le_of_ble_eq_true rfl) dX1_step_118 rfl (by show cb + 0 = cb + 0; omega) (by show sb + 0 = sb + 0; omega) (fun r118 u118 e118 => ?_)
  obtain ⟨e1181, rfl⟩ := e118
  have e1182 := e1181.symm
  subst e1182
  refine v_ws (ws' := ([(b4, .inl (D.1 100, n, .inl dy))] ++ LW D b0 b1 b2 b3 q24 b5 n n4 cols rows kd thr bt tm rea gr vl so kn24 cg)) [0, 1, 2, 3, 4, 5, 6] (by decide) rfl ?_
  refine v_icmp_ge 124 151 X dX1_step_121 rfl (by decide) (fun h121 => ?_) (fun h121 => ?_)
  · replace hF := ifp h121 hF
    obtain rfl := Option.some.inj hF
    refine v_ws (ws' := ([(q24, .inl (D.1 100, n, .inl kn24)), (b0, .inr (1, [.int cols, .int rows, .ref (adK D kd), .int thr, .int bt, .int tm, .int rea, .ref b1, .ref b2, .ref b3, .ref q24, .ref b5])), (b1, .inl (D.1 100, n, .inl gr)), (b2, .inl (D.1 104, n4, .inr (.inr (.inr (.inr (vArr D vl)))))), (b3, .inl (D.1 100, n, .inl so)), (b4, .inl (D.1 100, n, .inl dy)), (b5, .inl (D.1 101, n, .inl cg))])) [5, 1, 2, 3, 4, 0, 6] (by decide) rfl ?_
    exact v_lv [0, 1] rfl ((hO _ rfl))
  · replace hF := ifn h121 hF
    refine v_aload_n 125 X 0 dX1_step_124 rfl rfl rfl ?_
    refine v_get 128 X in_X1 1 11 rfl rfl (by decide) q163 rfl rfl dX1_step_125 rfl ?_
    refine v_iload 130 X 2 dX1_step_128 rfl rfl ?_
    refine v_dup2 131 X dX1_step_130 rfl rfl rfl ?_
    obtain ⟨z131, hz131, hF⟩ := ob hF
    refine v_zald 132 X 6 hz131 rfl dX1_step_131 rfl ?_
    refine v_aload_n 133 X 0 dX1_step_132 rfl rfl rfl ?_
    refine v_aload_n 134 X 0 dX1_step_133 rfl rfl rfl ?_
    refine v_get 137 X in_X1 1 10 rfl rfl (by decide) q161 rfl rfl dX1_step_134 rfl ?_
    refine v_iload 139 X 2 dX1_step_137 rfl rfl ?_
    obtain ⟨z139, hz139, hF⟩ := ob hF
    refine v_iald 140 X 5 hz139 rfl dX1_step_139 rfl ?_
    obtain ⟨z140, hz140, hF⟩ := ob hF
    refine vc_Vi (wr := ([(b4, .inl (D.1 100, n, .inl dy))])) 143 cb sb X 1 [.int z139] [1, 2, 3, 4, 5, 6] [0] (LW D b0 b1 b2 b3 q24 b5 n n4 cols rows kd thr bt tm rea gr vl so kn24 cg) rfl rfl (by decide) (by decide) (by decide) (w_X1_reacts z139 _ hz140) q966 q968 qs20 q85 q969 hdX1_reacts 1 rfl rfl (pass_amb hAm) ⟨Nat.le_of_ble_eq_true rfl, Nat.le_of_ble_eq_true rfl⟩ ⟨(by exact hcb), (by exact hsb)⟩ rfl rfl (Nat.le_of_ble_eq_true rfl) dX1_step_140 rfl (by show cb + 0 = cb + 0; omega) (by show sb + 0 = sb + 0; omega) (fun r140 u140 e140 => ?_)
    obtain ⟨e1401, rfl⟩ := e140
    have e1402 := e1401.symm
    subst e1402
    refine v_ws (ws' := ([(b4, .inl (D.1 100, n, .inl dy))] ++ LW D b0 b1 b2 b3 q24 b5 n n4 cols rows kd thr bt tm rea gr vl so kn24 cg)) [0, 1, 2, 3, 4, 5, 6] (by decide) rfl ?_
    refine v_ior 144 X dX1_step_143 rfl ?_
    obtain ⟨z144, hz144, hF⟩ := ob hF
    refine v_zast 145 ([(b4, .inl (D.1 100, n, .inl dy))] ++ LW D b0 b1 b2 b3 q24 b5 n n4 cols rows kd thr bt tm rea gr vl so kn24 z144) X 6 hz144 rfl dX1_step_144 rfl rfl ?_
    refine v_iinc (v := (v4 + 1)) 148 [(4, .int (v4 + 1)), (0, .ref b0), (3, .int v3)] X 2 dX1_step_145 rfl rfl (by rfl) (by decide) rfl ?_
    refine v_goto 115 X dX1_step_148 (by decide) ?_
    obtain rfl := Option.some.inj hF
    refine v_ws (ws' := ([(q24, .inl (D.1 100, n, .inl kn24)), (b0, .inr (1, [.int cols, .int rows, .ref (adK D kd), .int thr, .int bt, .int tm, .int rea, .ref b1, .ref b2, .ref b3, .ref q24, .ref b5])), (b1, .inl (D.1 100, n, .inl gr)), (b2, .inl (D.1 104, n4, .inr (.inr (.inr (.inr (vArr D vl)))))), (b3, .inl (D.1 100, n, .inl so)), (b4, .inl (D.1 100, n, .inl dy)), (b5, .inl (D.1 101, n, .inl z144))])) [5, 1, 2, 3, 4, 0, 6] (by decide) rfl ?_
    exact v_lv [1, 2, 0] rfl (hI _ rfl)
theorem w_X1_step_32_j79 (X : CX p s m args meth c D A cX1_step 5 "DyeLattice$Lattice") (hAm : AMB D A s) {cb sb : Nat} {q24 : Nat} (v1 : Int32) (v3 : Int32) (v4 : Int32) (s1 : Int32) (s2 : Int32) (s3 : Int32) (kn24 : (Nat → Int32)) (hcb : cb ≤ rmX1_step.cells) (hsb : sb ≤ rmX1_step.slots) {r : (Int32 × Int32 × (Nat → Int32)) ⊕ (Int32 × (Nat → Int32))} (hI : ∀ y, r = .inl y → V p l e rmX1_step s m args below meth c D A 5 Q (LW D b0 b1 b2 b3 b4 b5 n n4 cols rows kd thr bt tm rea gr vl so dy cg ++ [(q24, .inl (D.1 100, n, .inl y.2.2))]) cb sb 32 [(0, .ref b0), (1, .int v1), (2, .ref q24), (3, .int y.1), (4, .int y.2.1)] []) (hO : ∀ y, r = .inr y → (V p l e rmX1_step s m args below meth c D A 5 Q (LW D b0 b1 b2 b3 b4 b5 n n4 cols rows kd thr bt tm rea gr vl so dy cg ++ [(q24, .inl (D.1 100, n, .inl y.2))]) cb sb 107 [(0, .ref b0), (2, .ref q24), (3, .int y.1)] [])) (hF : L_step_32_j79 n dy v1 v3 v4 s1 s2 s3 kn24 cg tm = some r) : V p l e rmX1_step s m args below meth c D A 5 Q ([(q24, .inl (D.1 100, n, .inl kn24))] ++ LW D b0 b1 b2 b3 b4 b5 n n4 cols rows kd thr bt tm rea gr vl so dy cg) cb sb 79 [(0, .ref b0), (1, .int v1), (2, .ref q24), (3, .int v3), (4, .int v4)] [.int s3, .int s2, .int s1, .ref q24] := by
  unfold L_step_32_j79 at hF
  refine v_ior 80 X dX1_step_79 rfl ?_
  obtain ⟨z80, hz80, hF⟩ := ob hF
  refine v_iast 81 ([(q24, .inl (D.1 100, n, .inl z80))] ++ LW D b0 b1 b2 b3 b4 b5 n n4 cols rows kd thr bt tm rea gr vl so dy cg) X 0 hz80 rfl dX1_step_80 rfl rfl ?_
  refine v_iload_n 82 X 3 dX1_step_81 rfl rfl rfl ?_
  refine v_aload_n 83 X 2 dX1_step_82 rfl rfl rfl ?_
  refine v_iload 85 X 4 dX1_step_83 rfl rfl ?_
  obtain ⟨z85, hz85, hF⟩ := ob hF
  refine v_iald 86 X 0 hz85 rfl dX1_step_85 rfl ?_
  refine v_aload_n 87 X 0 dX1_step_86 rfl rfl rfl ?_
  refine v_get 90 X in_X1 1 10 rfl rfl (by decide) q161 rfl rfl dX1_step_87 rfl ?_
  refine v_iload 92 X 4 dX1_step_90 rfl rfl ?_
  obtain ⟨z92, hz92, hF⟩ := ob hF
  refine v_iald 93 X 5 hz92 rfl dX1_step_92 rfl ?_
  refine v_iconst (v := (-1)) 94 X dX1_step_93 rfl ki_m1 ?_
  refine v_ixor 95 X dX1_step_94 rfl ?_
  refine v_iand 96 X dX1_step_95 rfl ?_
  obtain ⟨z96, hz96, hF⟩ := ob hF
  refine v_mSi 99 X 1 [.int (z85 &&& (z92 ^^^ (-1)))] (w_J9_bitCount ([(q24, .inl (D.1 100, n, .inl z80))] ++ LW D b0 b1 b2 b3 b4 b5 n n4 cols rows kd thr bt tm rea gr vl so dy cg) (z85 &&& (z92 ^^^ (-1))) _ hz96) q965 q484 q99 q485 hdJ9_bitCount pass_no ⟨rfl, rfl⟩ ⟨Nat.le_of_ble_eq_true rfl, Nat.le_of_ble_eq_true rfl⟩ ⟨(by exact hcb), (by exact hsb)⟩ rfl rfl (Nat.le_of_ble_eq_true rfl) dX1_step_96 rfl ?_
  refine v_iadd 100 X dX1_step_99 rfl ?_
  refine v_istore_n 101 [(3, .int (v3 + z96)), (0, .ref b0), (1, .int v1), (2, .ref q24), (4, .int v4)] X dX1_step_100 rfl rfl (by decide) rfl ?_
  refine v_iinc (v := (v4 + 1)) 104 [(4, .int (v4 + 1)), (3, .int (v3 + z96)), (0, .ref b0), (1, .int v1), (2, .ref q24)] X 4 dX1_step_101 rfl rfl (by rfl) (by decide) rfl ?_
  refine v_goto 32 X dX1_step_104 (by decide) ?_
  obtain rfl := Option.some.inj hF
  refine v_ws (ws' := (LW D b0 b1 b2 b3 b4 b5 n n4 cols rows kd thr bt tm rea gr vl so dy cg ++ [(q24, .inl (D.1 100, n, .inl z80))])) [1, 2, 3, 4, 5, 6, 0] (by decide) rfl ?_
  exact v_lv [2, 3, 4, 1, 0] rfl (hI _ rfl)
theorem w_X1_step_32 (X : CX p s m args meth c D A cX1_step 5 "DyeLattice$Lattice") (hAm : AMB D A s) {q24 : Nat} {cb sb : Nat} (hcb : cb ≤ rmX1_step.cells) (hsb : sb ≤ rmX1_step.slots) (v1 : Int32) : ∀ (fu : Nat) (x : Int32 × Int32 × (Nat → Int32)) (o : (Int32 × (Nat → Int32))), loopN (fun x => L_step_32 v1 cols rows thr tm kd n n4 vl gr so dy cg x.1 x.2.1 x.2.2) fu x = some o → (V p l e rmX1_step s m args below meth c D A 5 Q (LW D b0 b1 b2 b3 b4 b5 n n4 cols rows kd thr bt tm rea gr vl so dy cg ++ [(q24, .inl (D.1 100, n, .inl o.2))]) cb sb 107 [(0, .ref b0), (2, .ref q24), (3, .int o.1)] []) → V p l e rmX1_step s m args below meth c D A 5 Q (LW D b0 b1 b2 b3 b4 b5 n n4 cols rows kd thr bt tm rea gr vl so dy cg ++ [(q24, .inl (D.1 100, n, .inl x.2.2))]) cb sb 32 [(0, .ref b0), (1, .int v1), (2, .ref q24), (3, .int x.1), (4, .int x.2.1)] [] := by
  refine v_loop (fun (x : Int32 × Int32 × (Nat → Int32)) => V p l e rmX1_step s m args below meth c D A 5 Q (LW D b0 b1 b2 b3 b4 b5 n n4 cols rows kd thr bt tm rea gr vl so dy cg ++ [(q24, .inl (D.1 100, n, .inl x.2.2))]) cb sb 32 [(0, .ref b0), (1, .int v1), (2, .ref q24), (3, .int x.1), (4, .int x.2.1)] []) (fun (o : (Int32 × (Nat → Int32))) => V p l e rmX1_step s m args below meth c D A 5 Q (LW D b0 b1 b2 b3 b4 b5 n n4 cols rows kd thr bt tm rea gr vl so dy cg ++ [(q24, .inl (D.1 100, n, .inl o.2))]) cb sb 107 [(0, .ref b0), (2, .ref q24), (3, .int o.1)] []) ?_
  rintro ⟨v3, v4, kn24⟩ r hF hI hO
  replace hF : L_step_32 v1 cols rows thr tm kd n n4 vl gr so dy cg v3 v4 kn24 = some r := hF
  show V p l e rmX1_step s m args below meth c D A 5 Q (LW D b0 b1 b2 b3 b4 b5 n n4 cols rows kd thr bt tm rea gr vl so dy cg ++ [(q24, .inl (D.1 100, n, .inl kn24))]) cb sb 32 [(0, .ref b0), (1, .int v1), (2, .ref q24), (3, .int v3), (4, .int v4)] []
  unfold L_step_32 at hF
  refine v_iload 34 X 4 dX1_step_32 rfl rfl ?_
  refine v_aload_n 35 X 0 dX1_step_34 rfl rfl rfl ?_
  have hz35 : L_cells n = some (nI n) := rfl
  refine vc_Vi (wr := ([(q24, .inl (D.1 100, n, .inl kn24))])) 38 cb sb X 0 [] [0, 1, 2, 3, 4, 5] [6] (LW D b0 b1 b2 b3 b4 b5 n n4 cols rows kd thr bt tm rea gr vl so dy cg) rfl rfl (by decide) (by decide) (by decide) (w_X1_cells _ hz35) q394 q345 q346 q85 q347 hdX1_cells 0 rfl rfl (pass_amb hAm) ⟨Nat.le_of_ble_eq_true rfl, Nat.le_of_ble_eq_true rfl⟩ ⟨(by exact hcb), (by exact hsb)⟩ rfl rfl (Nat.le_of_ble_eq_true rfl) dX1_step_35 rfl (by show cb + 0 = cb + 0; omega) (by show sb + 0 = sb + 0; omega) (fun r35 u35 e35 => ?_)
  obtain ⟨e351, rfl⟩ := e35
  have e352 := e351.symm
  subst e352
  refine v_ws (ws' := ([(q24, .inl (D.1 100, n, .inl kn24))] ++ LW D b0 b1 b2 b3 b4 b5 n n4 cols rows kd thr bt tm rea gr vl so dy cg)) [0, 1, 2, 3, 4, 5, 6] (by decide) rfl ?_
  refine v_icmp_ge 41 107 X dX1_step_38 rfl (by decide) (fun h38 => ?_) (fun h38 => ?_)
  · replace hF := ifp h38 hF
    obtain rfl := Option.some.inj hF
    refine v_ws (ws' := (LW D b0 b1 b2 b3 b4 b5 n n4 cols rows kd thr bt tm rea gr vl so dy cg ++ [(q24, .inl (D.1 100, n, .inl kn24))])) [1, 2, 3, 4, 5, 6, 0] (by decide) rfl ?_
    exact v_lv [0, 2, 3] rfl ((hO _ rfl))
  · replace hF := ifn h38 hF
    refine v_aload_n 42 X 2 dX1_step_41 rfl rfl rfl ?_
    refine v_iload 44 X 4 dX1_step_42 rfl rfl ?_
    refine v_aload_n 45 X 0 dX1_step_44 rfl rfl rfl ?_
    refine v_get 48 X in_X1 1 10 rfl rfl (by decide) q161 rfl rfl dX1_step_45 rfl ?_
    refine v_iload 50 X 4 dX1_step_48 rfl rfl ?_
    obtain ⟨z50, hz50, hF⟩ := ob hF
    refine v_iald 51 X 5 hz50 rfl dX1_step_50 rfl ?_
    refine v_aload_n 52 X 0 dX1_step_51 rfl rfl rfl ?_
    refine v_iload 54 X 4 dX1_step_52 rfl rfl ?_
    obtain ⟨z54, hz54, hF⟩ := ob hF
    refine vc_Vi (wr := ([(q24, .inl (D.1 100, n, .inl kn24))])) 57 cb sb X 1 [.int v4] [1, 2, 3, 4, 5, 6] [0] (LW D b0 b1 b2 b3 b4 b5 n n4 cols rows kd thr bt tm rea gr vl so dy cg) rfl rfl (by decide) (by decide) (by decide) (w_X1_isMoving v4 _ hz54) q935 q937 qs17 q85 q938 hdX1_isMoving 1 rfl rfl (pass_amb hAm) ⟨Nat.le_of_ble_eq_true rfl, Nat.le_of_ble_eq_true rfl⟩ ⟨(by exact hcb), (by exact hsb)⟩ rfl rfl (Nat.le_of_ble_eq_true rfl) dX1_step_54 rfl (by show cb + 0 = cb + 0; omega) (by show sb + 0 = sb + 0; omega) (fun r54 u54 e54 => ?_)
    obtain ⟨e541, rfl⟩ := e54
    have e542 := e541.symm
    subst e542
    refine v_ws (ws' := ([(q24, .inl (D.1 100, n, .inl kn24))] ++ LW D b0 b1 b2 b3 b4 b5 n n4 cols rows kd thr bt tm rea gr vl so dy cg)) [0, 1, 2, 3, 4, 5, 6] (by decide) rfl ?_
    refine v_if_eq 60 78 X dX1_step_57 rfl (by decide) (fun h57 => ?_) (fun h57 => ?_)
    · replace hF := ifp h57 hF
      refine v_iconst (v := 0) 79 X dX1_step_78 rfl ki_0 ?_
      exact v_lv [0, 1, 2, 3, 4] rfl (w_X1_step_32_j79 X hAm v1 v3 v4 v4 z50 0 kn24 hcb hsb hI hO hF)
    · replace hF := ifn h57 hF
      refine v_aload_n 61 X 0 dX1_step_60 rfl rfl rfl ?_
      refine v_get 64 X in_X1 1 9 rfl rfl (by decide) q158 rfl rfl dX1_step_61 rfl ?_
      refine v_iload 66 X 4 dX1_step_64 rfl rfl ?_
      obtain ⟨z66, hz66, hF⟩ := ob hF
      refine v_iald 67 X 4 hz66 rfl dX1_step_66 rfl ?_
      refine v_aload_n 68 X 0 dX1_step_67 rfl rfl rfl ?_
      refine v_iload 70 X 4 dX1_step_68 rfl rfl ?_
      refine v_iload_n 71 X 1 dX1_step_70 rfl rfl rfl ?_
      obtain ⟨z71, hz71, hF⟩ := ob hF
      refine vc_Vi (wr := ([(q24, .inl (D.1 100, n, .inl kn24))])) 74 cb sb X 2 [.int v4, .int v1] [1, 2, 3, 4, 5, 6] [0] (LW D b0 b1 b2 b3 b4 b5 n n4 cols rows kd thr bt tm rea gr vl so dy cg) rfl rfl (by decide) (by decide) (by decide) (w_X1_coming v4 v1 _ hz71) q939 q941 qs18 q85 q942 hdX1_coming 1 rfl rfl (pass_amb hAm) ⟨Nat.le_of_ble_eq_true rfl, Nat.le_of_ble_eq_true rfl⟩ ⟨(by exact hcb), (by exact hsb)⟩ rfl rfl (Nat.le_of_ble_eq_true rfl) dX1_step_71 rfl (by show cb + 0 = cb + 0; omega) (by show sb + 0 = sb + 0; omega) (fun r71 u71 e71 => ?_)
      obtain ⟨e711, rfl⟩ := e71
      have e712 := e711.symm
      subst e712
      refine v_ws (ws' := ([(q24, .inl (D.1 100, n, .inl kn24))] ++ LW D b0 b1 b2 b3 b4 b5 n n4 cols rows kd thr bt tm rea gr vl so dy cg)) [0, 1, 2, 3, 4, 5, 6] (by decide) rfl ?_
      refine v_ior 75 X dX1_step_74 rfl ?_
      refine v_goto 79 X dX1_step_75 (by decide) ?_
      exact v_lv [0, 1, 2, 3, 4] rfl (w_X1_step_32_j79 X hAm v1 v3 v4 v4 z50 (z66 ||| z71) kn24 hcb hsb hI hO hF)
theorem w_X1_step_j19 (X : CX p s m args meth c D A cX1_step 5 "DyeLattice$Lattice") (hAm : AMB D A s) (s0 : Int32) (hr : meth.sig.returnType = (Option.some Jvm.ClassFile.FieldType.int)) {r : Int32 × Int32 × (Nat → Int32) × (Nat → Int32)} (hF : L_step_j19 cols rows thr rea kd n n4 vl gr so dy s0 cg tm = some r) : V p l e rmX1_step s m args below meth c D A 5 (MQ below (va_Qi (fun r1 u => ∃ qa4 : Nat, r1 = r.1 ∧ u = (LW D b0 b1 b2 b3 qa4 b5 n n4 cols rows kd thr bt r.2.1 rea gr vl so r.2.2.1 r.2.2.2)) (Wd D A) A) args s rmX1_step.cells rmX1_step.slots A) (LW D b0 b1 b2 b3 b4 b5 n n4 cols rows kd thr bt tm rea gr vl so dy cg) 0 0 19 [(0, .ref b0)] [.int s0] := by
  unfold L_step_j19 at hF
  refine v_istore_n 20 [(1, .int s0), (0, .ref b0)] X dX1_step_19 rfl rfl (by decide) rfl ?_
  refine v_aload_n 21 X 1 dX1_step_20 rfl rfl rfl ?_
  have hz21 : L_cells n = some (nI n) := rfl
  refine v_mVi 24 X 0 [] (w_X1_cells _ hz21) q394 q345 q346 q85 q347 hdX1_cells 0 rfl rfl (pass_amb hAm) ⟨rfl, rfl⟩ ⟨Nat.le_of_ble_eq_true rfl, Nat.le_of_ble_eq_true rfl⟩ ⟨(Nat.le_of_ble_eq_true rfl), (Nat.le_of_ble_eq_true rfl)⟩ rfl rfl (Nat.le_of_ble_eq_true rfl) dX1_step_21 rfl ?_
  obtain ⟨z24, hz24, hF⟩ := ob hF
  refine v_newa (atype := .int) (mx := 80) (t0 := 0) (ty := .int) 26 1 80 X (lenN_s (Nat.le_of_ble_eq_true rfl) hz24) q190 rfl rfl (fun _ h1 h2 => ra_prim rfl rfl h1 h2) rfl (Nat.le_of_ble_eq_true rfl) (Nat.le_of_ble_eq_true rfl) (Nat.le_of_ble_eq_true rfl) dX1_step_24 rfl rfl rfl (fun q24 => ?_)
  refine v_ws (ws' := (LW D b0 b1 b2 b3 b4 b5 n n4 cols rows kd thr bt tm rea gr vl so dy cg ++ [(q24, .inl (D.1 100, n, .inl (fun _ => 0)))])) [0, 1, 2, 3, 4, 5, 6] (by decide) rfl ?_
  refine v_astore_n 27 [(2, .ref q24), (1, .int s0), (0, .ref b0)] X dX1_step_26 rfl rfl (by decide) rfl ?_
  refine v_iconst (v := 0) 28 X dX1_step_27 rfl ki_0 ?_
  refine v_istore_n 29 [(3, .int 0), (2, .ref q24), (1, .int s0), (0, .ref b0)] X dX1_step_28 rfl rfl (by decide) rfl ?_
  refine v_iconst (v := 0) 30 X dX1_step_29 rfl ki_0 ?_
  refine v_istore 32 [(4, .int 0), (3, .int 0), (2, .ref q24), (1, .int s0), (0, .ref b0)] X dX1_step_30 rfl (by decide) rfl ?_
  obtain ⟨z32, hz32, hF⟩ := ob hF
  refine v_lv [4, 3, 2, 1, 0] rfl (w_X1_step_32 X hAm (Nat.le_of_ble_eq_true rfl) (Nat.le_of_ble_eq_true rfl) s0 _ (0, 0, (fun _ => 0)) _ hz32 ?_)
  refine v_aload_n 108 X 0 dX1_step_107 rfl rfl rfl ?_
  refine v_aload_n 109 X 1 dX1_step_108 rfl rfl rfl ?_
  refine v_put 112 ([(b0, .inr (1, [.int cols, .int rows, .ref (adK D kd), .int thr, .int bt, .int tm, .int rea, .ref b1, .ref b2, .ref b3, .ref q24, .ref b5])), (b1, .inl (D.1 100, n, .inl gr)), (b2, .inl (D.1 104, n4, .inr (.inr (.inr (.inr (vArr D vl)))))), (b3, .inl (D.1 100, n, .inl so)), (b4, .inl (D.1 100, n, .inl dy)), (b5, .inl (D.1 101, n, .inl cg)), (q24, .inl (D.1 100, n, .inl z32.2))]) X in_X1 tyX1_ok nmX1 0 10 rfl rfl (by decide) q161 rfl rfl rfl rfl rfl (Nat.le_of_ble_eq_true rfl) dX1_step_109 rfl rfl ?_
  refine v_iconst (v := 0) 113 X dX1_step_112 rfl ki_0 ?_
  refine v_istore 115 [(4, .int 0), (0, .ref b0), (2, .ref q24), (3, .int z32.1)] X dX1_step_113 rfl (by decide) rfl ?_
  obtain ⟨z115, hz115, hF⟩ := ob hF
  refine v_ws (ws' := ([(q24, .inl (D.1 100, n, .inl z32.2)), (b0, .inr (1, [.int cols, .int rows, .ref (adK D kd), .int thr, .int bt, .int tm, .int rea, .ref b1, .ref b2, .ref b3, .ref q24, .ref b5])), (b1, .inl (D.1 100, n, .inl gr)), (b2, .inl (D.1 104, n4, .inr (.inr (.inr (.inr (vArr D vl)))))), (b3, .inl (D.1 100, n, .inl so)), (b4, .inl (D.1 100, n, .inl dy)), (b5, .inl (D.1 101, n, .inl cg))])) [6, 0, 1, 2, 3, 4, 5] (by decide) rfl ?_
  refine v_lv [1, 3, 0] rfl (w_X1_step_115 X hAm (Nat.le_of_ble_eq_true rfl) (Nat.le_of_ble_eq_true rfl) z32.1 z32.2 _ (0, cg) _ hz115 ?_)
  refine v_aload_n 152 X 0 dX1_step_151 rfl rfl rfl ?_
  refine v_dup 153 X dX1_step_152 rfl rfl ?_
  refine v_get 156 X in_X1 1 5 rfl rfl (by decide) q148 rfl rfl dX1_step_153 rfl ?_
  refine v_iconst (v := 1) 157 X dX1_step_156 rfl ki_1 ?_
  refine v_iadd 158 X dX1_step_157 rfl ?_
  refine v_put 161 ([(q24, .inl (D.1 100, n, .inl z32.2)), (b0, .inr (1, [.int cols, .int rows, .ref (adK D kd), .int thr, .int bt, .int (tm + 1), .int rea, .ref b1, .ref b2, .ref b3, .ref q24, .ref b5])), (b1, .inl (D.1 100, n, .inl gr)), (b2, .inl (D.1 104, n4, .inr (.inr (.inr (.inr (vArr D vl)))))), (b3, .inl (D.1 100, n, .inl so)), (b4, .inl (D.1 100, n, .inl dy)), (b5, .inl (D.1 101, n, .inl z115))]) X in_X1 tyX1_ok nmX1 1 5 rfl rfl (by decide) q148 rfl rfl rfl rfl rfl (Nat.le_of_ble_eq_true rfl) dX1_step_158 rfl rfl ?_
  refine v_iload_n 162 X 1 dX1_step_161 rfl rfl rfl ?_
  obtain rfl := Option.some.inj hF
  refine v_ws (ws' := (LW D b0 b1 b2 b3 q24 b5 n n4 cols rows kd thr bt (tm + 1) rea gr vl so z32.2 z115)) [1, 2, 3, 4, 0, 6] (by decide) rfl ?_
  exact v_iret X hr ⟨q24, rfl, rfl⟩ (Nat.le_of_ble_eq_true rfl) (Nat.le_of_ble_eq_true rfl) dX1_step_162
theorem w_X1_step (r : Int32 × Int32 × (Nat → Int32) × (Nat → Int32)) (hF : L_step cols rows thr bt tm rea kd n n4 vl gr so dy cg = some r) : CTi l yX1_step cX1_step 5 (Option.some Jvm.ClassFile.FieldType.int) rmX1_step D (LW D b0 b1 b2 b3 b4 b5 n n4 cols rows kd thr bt tm rea gr vl so dy cg) [.ref b0] (AMB D) (fun r1 u => ∃ qa4 : Nat, r1 = r.1 ∧ u = (LW D b0 b1 b2 b3 qa4 b5 n n4 cols rows kd thr bt r.2.1 rea gr vl so r.2.2.1 r.2.2.2)) := by
  refine m_i (by decide) (Nat.le_of_ble_eq_true rfl) ?_
  intro p e s m args below meth c A B
  obtain ⟨X, hr, hAm, -, hnm, hnmd⟩ := B
  replace X : CX p s m args meth c D A cX1_step 5 "DyeLattice$Lattice" := X
  refine v_lv (lv' := [(0, .ref b0)]) [0] rfl ?_
  unfold L_step at hF
  refine v_aload_n 1 X 0 dX1_step_0 rfl rfl rfl ?_
  refine v_get 4 X in_X1 0 5 rfl rfl (by decide) q148 rfl rfl dX1_step_1 rfl ?_
  refine v_aload_n 5 X 0 dX1_step_4 rfl rfl rfl ?_
  refine v_get 8 X in_X1 0 4 rfl rfl (by decide) q146 rfl rfl dX1_step_5 rfl ?_
  obtain ⟨z8, hz8, hF⟩ := ob hF
  refine v_idiv 9 X hz8 dX1_step_8 rfl ?_
  refine v_iconst (v := 2) 10 X dX1_step_9 rfl ki_2 ?_
  obtain ⟨z10, hz10, hF⟩ := ob hF
  refine v_irem 11 X hz10 dX1_step_10 rfl ?_
  refine v_if_ne 14 18 X dX1_step_11 rfl (by decide) (fun h11 => ?_) (fun h11 => ?_)
  · replace hF := ifn h11 hF
    refine v_iconst (v := 0) 19 X dX1_step_18 rfl ki_0 ?_
    exact v_lv [0] rfl (w_X1_step_j19 X hAm 0 hr hF)
  · replace hF := ifp h11 hF
    refine v_iconst (v := 1) 15 X dX1_step_14 rfl ki_1 ?_
    refine v_goto 19 X dX1_step_15 (by decide) ?_
    exact v_lv [0] rfl (w_X1_step_j19 X hAm 1 hr hF)
end
