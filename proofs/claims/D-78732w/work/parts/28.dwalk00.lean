set_option maxRecDepth 100000
set_option maxHeartbeats 4000000
section
variable {p : Program} {l : Launch} {e : Env} {s : State} {m : MethodId} {args : Array Value} {below : List Frame} {meth : Method} {c : Code} {D : va_G} {A : Nat → Prop} {Q : State → Prop} {ws : va_W} {t1 t2 bm bc a0 hq tx : Nat} {k0 k1 k2 : Int32} {mk clu : Nat → Int32} {b0 b1 b2 b3 b4 b5 n n4 kd : Nat} {cols rows thr bt tm rea : Int32} {gr so dy cg : Nat → Int32} {vl : Nat → Nat}
theorem w_X0_countOf_10 (X : CX p s m args meth c D A cX0_countOf 6 "DyeLattice") (hAm : AMB D A s) {cb sb : Nat} (hcb : cb ≤ rmX0_countOf.cells) (hsb : sb ≤ rmX0_countOf.slots) (v3 : Int32) : ∀ (fu : Nat) (x : Int32 × Int32) (o : (Int32)), loopN (fun x => C_countOf_10 v3 n clu x.1 x.2) fu x = some o → (V p l e rmX0_countOf s m args below meth c D A 6 Q ([(bc, .inl (D.1 100, n, .inl clu))]) cb sb 37 [(1, .int o)] []) → V p l e rmX0_countOf s m args below meth c D A 6 Q ([(bc, .inl (D.1 100, n, .inl clu))]) cb sb 10 [(1, .int x.1), (2, .ref bc), (3, .int v3), (4, .int x.2)] [] := by
  refine v_loop (fun (x : Int32 × Int32) => V p l e rmX0_countOf s m args below meth c D A 6 Q ([(bc, .inl (D.1 100, n, .inl clu))]) cb sb 10 [(1, .int x.1), (2, .ref bc), (3, .int v3), (4, .int x.2)] []) (fun (o : (Int32)) => V p l e rmX0_countOf s m args below meth c D A 6 Q ([(bc, .inl (D.1 100, n, .inl clu))]) cb sb 37 [(1, .int o)] []) ?_
  rintro ⟨v1, v4⟩ r hF hI hO
  replace hF : C_countOf_10 v3 n clu v1 v4 = some r := hF
  show V p l e rmX0_countOf s m args below meth c D A 6 Q ([(bc, .inl (D.1 100, n, .inl clu))]) cb sb 10 [(1, .int v1), (2, .ref bc), (3, .int v3), (4, .int v4)] []
  unfold C_countOf_10 at hF
  refine v_iload 12 X 3 dX0_countOf_10 rfl rfl ?_
  refine v_iload_n 13 X 2 dX0_countOf_12 rfl rfl rfl ?_
  refine v_icmp_ge 16 37 X dX0_countOf_13 rfl (by decide) (fun h13 => ?_) (fun h13 => ?_)
  · replace hF := ifp h13 hF
    obtain rfl := Option.some.inj hF
    exact v_lv [0] rfl ((hO _ rfl))
  · replace hF := ifn h13 hF
    refine v_aload_n 17 X 1 dX0_countOf_16 rfl rfl rfl ?_
    refine v_iload 19 X 3 dX0_countOf_17 rfl rfl ?_
    obtain ⟨z19, hz19, hF⟩ := ob hF
    refine v_iald 20 X 0 hz19 rfl dX0_countOf_19 rfl ?_
    refine v_istore 22 [(5, .int z19), (1, .int v1), (2, .ref bc), (3, .int v3), (4, .int v4)] X dX0_countOf_20 rfl (by decide) rfl ?_
    refine v_iload_n 23 X 1 dX0_countOf_22 rfl rfl rfl ?_
    refine v_iload 25 X 0 dX0_countOf_23 rfl rfl ?_
    refine v_iconst (v := 1) 26 X dX0_countOf_25 rfl ki_1 ?_
    refine v_iadd 27 X dX0_countOf_26 rfl ?_
    refine v_mmax 30 X q1031 (Nat.le_of_ble_eq_true rfl) (Nat.le_of_ble_eq_true rfl) (by exact hcb) (by exact hsb) dX0_countOf_27 rfl ?_
    refine v_istore_n 31 [(1, .int (if v1 < (z19 + 1) then (z19 + 1) else v1)), (5, .int z19), (2, .ref bc), (3, .int v3), (4, .int v4)] X dX0_countOf_30 rfl rfl (by decide) rfl ?_
    refine v_iinc (v := (v4 + 1)) 34 [(4, .int (v4 + 1)), (1, .int (if v1 < (z19 + 1) then (z19 + 1) else v1)), (5, .int z19), (2, .ref bc), (3, .int v3)] X 4 dX0_countOf_31 rfl rfl (by rfl) (by decide) rfl ?_
    refine v_goto 10 X dX0_countOf_34 (by decide) ?_
    obtain rfl := Option.some.inj hF
    exact v_lv [1, 3, 4, 0] rfl (hI _ rfl)
theorem w_X0_countOf (r : Int32) (hF : C_countOf n clu = some r) : CTi l yX0_countOf cX0_countOf 6 (Option.some Jvm.ClassFile.FieldType.int) rmX0_countOf D ([(bc, .inl (D.1 100, n, .inl clu))]) [.ref bc] (AMB D) (fun r1 u => r1 = r ∧ u = ([(bc, .inl (D.1 100, n, .inl clu))])) := by
  refine m_i (by decide) (Nat.le_of_ble_eq_true rfl) ?_
  intro p e s m args below meth c A B
  obtain ⟨X, hr, hAm, -, hnm, hnmd⟩ := B
  replace X : CX p s m args meth c D A cX0_countOf 6 "DyeLattice" := X
  refine v_lv (lv' := [(0, .ref bc)]) [0] rfl ?_
  unfold C_countOf at hF
  refine v_iconst (v := 0) 1 X dX0_countOf_0 rfl ki_0 ?_
  refine v_istore_n 2 [(1, .int 0), (0, .ref bc)] X dX0_countOf_1 rfl rfl (by decide) rfl ?_
  refine v_aload_n 3 X 1 dX0_countOf_2 rfl rfl rfl ?_
  refine v_astore_n 4 [(2, .ref bc), (1, .int 0), (0, .ref bc)] X dX0_countOf_3 rfl rfl (by decide) rfl ?_
  refine v_aload_n 5 X 0 dX0_countOf_4 rfl rfl rfl ?_
  refine v_alen 6 X 0 0 rfl rfl rfl dX0_countOf_5 rfl ?_
  refine v_istore_n 7 [(3, .int (nI n)), (2, .ref bc), (1, .int 0), (0, .ref bc)] X dX0_countOf_6 rfl rfl (by decide) rfl ?_
  refine v_iconst (v := 0) 8 X dX0_countOf_7 rfl ki_0 ?_
  refine v_istore 10 [(4, .int 0), (3, .int (nI n)), (2, .ref bc), (1, .int 0), (0, .ref bc)] X dX0_countOf_8 rfl (by decide) rfl ?_
  obtain ⟨z10, hz10, hF⟩ := ob hF
  refine v_lv [3, 2, 1, 0] rfl (w_X0_countOf_10 X hAm (Nat.le_of_ble_eq_true rfl) (Nat.le_of_ble_eq_true rfl) (nI n) _ (0, 0) _ hz10 ?_)
  refine v_iload_n 38 X 0 dX0_countOf_37 rfl rfl rfl ?_
  obtain rfl := Option.some.inj hF
  exact v_iret X hr ⟨rfl, rfl⟩ (Nat.le_of_ble_eq_true rfl) (Nat.le_of_ble_eq_true rfl) dX0_countOf_38
theorem w_X0_clogged_16 (X : CX p s m args meth c D A cX0_clogged 6 "DyeLattice") (hAm : AMB D A s) {cb sb : Nat} (hcb : cb ≤ rmX0_clogged.cells) (hsb : sb ≤ rmX0_clogged.slots) (v3 : Int32) : ∀ (fu : Nat) (x : Int32 × Int32) (o : (Int32)), loopN (fun x => C_clogged_16 v3 n cg x.1 x.2) fu x = some o → (V p l e rmX0_clogged s m args below meth c D A 6 Q ([(a0, .inr (0, [.ref b0, .ref hq, .ref tx]))] ++ LW D b0 b1 b2 b3 b4 b5 n n4 cols rows kd thr bt tm rea gr vl so dy cg) cb sb 47 [(1, .int o)] []) → V p l e rmX0_clogged s m args below meth c D A 6 Q ([(a0, .inr (0, [.ref b0, .ref hq, .ref tx]))] ++ LW D b0 b1 b2 b3 b4 b5 n n4 cols rows kd thr bt tm rea gr vl so dy cg) cb sb 16 [(1, .int x.1), (2, .ref b5), (3, .int v3), (4, .int x.2)] [] := by
  refine v_loop (fun (x : Int32 × Int32) => V p l e rmX0_clogged s m args below meth c D A 6 Q ([(a0, .inr (0, [.ref b0, .ref hq, .ref tx]))] ++ LW D b0 b1 b2 b3 b4 b5 n n4 cols rows kd thr bt tm rea gr vl so dy cg) cb sb 16 [(1, .int x.1), (2, .ref b5), (3, .int v3), (4, .int x.2)] []) (fun (o : (Int32)) => V p l e rmX0_clogged s m args below meth c D A 6 Q ([(a0, .inr (0, [.ref b0, .ref hq, .ref tx]))] ++ LW D b0 b1 b2 b3 b4 b5 n n4 cols rows kd thr bt tm rea gr vl so dy cg) cb sb 47 [(1, .int o)] []) ?_
  rintro ⟨v1, v4⟩ r hF hI hO
  replace hF : C_clogged_16 v3 n cg v1 v4 = some r := hF
  show V p l e rmX0_clogged s m args below meth c D A 6 Q ([(a0, .inr (0, [.ref b0, .ref hq, .ref tx]))] ++ LW D b0 b1 b2 b3 b4 b5 n n4 cols rows kd thr bt tm rea gr vl so dy cg) cb sb 16 [(1, .int v1), (2, .ref b5), (3, .int v3), (4, .int v4)] []
  unfold C_clogged_16 at hF
  refine v_iload 18 X 3 dX0_clogged_16 rfl rfl ?_
  refine v_iload_n 19 X 2 dX0_clogged_18 rfl rfl rfl ?_
  refine v_icmp_ge 22 47 X dX0_clogged_19 rfl (by decide) (fun h19 => ?_) (fun h19 => ?_)
  · replace hF := ifp h19 hF
    obtain rfl := Option.some.inj hF
    exact v_lv [0] rfl ((hO _ rfl))
  · replace hF := ifn h19 hF
    refine v_aload_n 23 X 1 dX0_clogged_22 rfl rfl rfl ?_
    refine v_iload 25 X 3 dX0_clogged_23 rfl rfl ?_
    obtain ⟨z25, hz25, hF⟩ := ob hF
    refine v_zald 26 X 6 hz25 rfl dX0_clogged_25 rfl ?_
    refine v_istore 28 [(5, .int z25), (1, .int v1), (2, .ref b5), (3, .int v3), (4, .int v4)] X dX0_clogged_26 rfl (by decide) rfl ?_
    refine v_iload_n 29 X 1 dX0_clogged_28 rfl rfl rfl ?_
    refine v_iload 31 X 0 dX0_clogged_29 rfl rfl ?_
    refine v_if_eq 34 38 X dX0_clogged_31 rfl (by decide) (fun h31 => ?_) (fun h31 => ?_)
    · replace hF := ifp h31 hF
      refine v_iconst (v := 0) 39 X dX0_clogged_38 rfl ki_0 ?_
      refine v_iadd 40 X dX0_clogged_39 rfl ?_
      refine v_istore_n 41 [(1, .int (v1 + 0)), (5, .int z25), (2, .ref b5), (3, .int v3), (4, .int v4)] X dX0_clogged_40 rfl rfl (by decide) rfl ?_
      refine v_iinc (v := (v4 + 1)) 44 [(4, .int (v4 + 1)), (1, .int (v1 + 0)), (5, .int z25), (2, .ref b5), (3, .int v3)] X 4 dX0_clogged_41 rfl rfl (by rfl) (by decide) rfl ?_
      refine v_goto 16 X dX0_clogged_44 (by decide) ?_
      obtain rfl := Option.some.inj hF
      exact v_lv [1, 3, 4, 0] rfl (hI _ rfl)
    · replace hF := ifn h31 hF
      refine v_iconst (v := 1) 35 X dX0_clogged_34 rfl ki_1 ?_
      refine v_goto 39 X dX0_clogged_35 (by decide) ?_
      refine v_iadd 40 X dX0_clogged_39 rfl ?_
      refine v_istore_n 41 [(1, .int (v1 + 1)), (5, .int z25), (2, .ref b5), (3, .int v3), (4, .int v4)] X dX0_clogged_40 rfl rfl (by decide) rfl ?_
      refine v_iinc (v := (v4 + 1)) 44 [(4, .int (v4 + 1)), (1, .int (v1 + 1)), (5, .int z25), (2, .ref b5), (3, .int v3)] X 4 dX0_clogged_41 rfl rfl (by rfl) (by decide) rfl ?_
      refine v_goto 16 X dX0_clogged_44 (by decide) ?_
      obtain rfl := Option.some.inj hF
      exact v_lv [1, 3, 4, 0] rfl (hI _ rfl)
theorem w_X0_clogged (r : Int32) (hF : C_clogged n cg = some r) : CTi l yX0_clogged cX0_clogged 6 (Option.some Jvm.ClassFile.FieldType.int) rmX0_clogged D ([(a0, .inr (0, [.ref b0, .ref hq, .ref tx]))] ++ LW D b0 b1 b2 b3 b4 b5 n n4 cols rows kd thr bt tm rea gr vl so dy cg) [.ref a0] (AMB D) (fun r1 u => r1 = r ∧ u = ([(a0, .inr (0, [.ref b0, .ref hq, .ref tx]))] ++ LW D b0 b1 b2 b3 b4 b5 n n4 cols rows kd thr bt tm rea gr vl so dy cg)) := by
  refine m_i (by decide) (Nat.le_of_ble_eq_true rfl) ?_
  intro p e s m args below meth c A B
  obtain ⟨X, hr, hAm, -, hnm, hnmd⟩ := B
  replace X : CX p s m args meth c D A cX0_clogged 6 "DyeLattice" := X
  refine v_lv (lv' := [(0, .ref a0)]) [0] rfl ?_
  unfold C_clogged at hF
  refine v_iconst (v := 0) 1 X dX0_clogged_0 rfl ki_0 ?_
  refine v_istore_n 2 [(1, .int 0), (0, .ref a0)] X dX0_clogged_1 rfl rfl (by decide) rfl ?_
  refine v_aload_n 3 X 1 dX0_clogged_2 rfl rfl rfl ?_
  refine v_get 6 X in_X0 0 0 rfl rfl (by decide) q245 rfl rfl dX0_clogged_3 rfl ?_
  refine v_getN 9 X hAm in_X1 1 11 rfl rfl (by decide) q164 rfl rfl dX0_clogged_6 rfl ?_
  refine v_astore_n 10 [(2, .ref b5), (1, .int 0), (0, .ref a0)] X dX0_clogged_9 rfl rfl (by decide) rfl ?_
  refine v_aload_n 11 X 0 dX0_clogged_10 rfl rfl rfl ?_
  refine v_alen 12 X 6 1 rfl rfl rfl dX0_clogged_11 rfl ?_
  refine v_istore_n 13 [(3, .int (nI n)), (2, .ref b5), (1, .int 0), (0, .ref a0)] X dX0_clogged_12 rfl rfl (by decide) rfl ?_
  refine v_iconst (v := 0) 14 X dX0_clogged_13 rfl ki_0 ?_
  refine v_istore 16 [(4, .int 0), (3, .int (nI n)), (2, .ref b5), (1, .int 0), (0, .ref a0)] X dX0_clogged_14 rfl (by decide) rfl ?_
  obtain ⟨z16, hz16, hF⟩ := ob hF
  refine v_lv [3, 2, 1, 0] rfl (w_X0_clogged_16 X hAm (Nat.le_of_ble_eq_true rfl) (Nat.le_of_ble_eq_true rfl) (nI n) _ (0, 0) _ hz16 ?_)
  refine v_iload_n 48 X 0 dX0_clogged_47 rfl rfl rfl ?_
  obtain rfl := Option.some.inj hF
  exact v_iret X hr ⟨rfl, rfl⟩ (Nat.le_of_ble_eq_true rfl) (Nat.le_of_ble_eq_true rfl) dX0_clogged_48
theorem w_X0_valve (v1 : Int32) (v2 : Int32) (r : Int32) (hF : C_valve cols rows kd n n4 vl v1 v2 = some r) : CTi l yX0_valve cX0_valve 3 (Option.some Jvm.ClassFile.FieldType.int) rmX0_valve D ([(a0, .inr (0, [.ref b0, .ref hq, .ref tx]))] ++ LW D b0 b1 b2 b3 b4 b5 n n4 cols rows kd thr bt tm rea gr vl so dy cg) [.ref a0, .int v1, .int v2] (AMB D) (fun r1 u => r1 = r ∧ u = ([(a0, .inr (0, [.ref b0, .ref hq, .ref tx]))] ++ LW D b0 b1 b2 b3 b4 b5 n n4 cols rows kd thr bt tm rea gr vl so dy cg)) := by
  refine m_i (by decide) (Nat.le_of_ble_eq_true rfl) ?_
  intro p e s m args below meth c A B
  obtain ⟨X, hr, hAm, -, hnm, hnmd⟩ := B
  replace X : CX p s m args meth c D A cX0_valve 3 "DyeLattice" := X
  refine v_lv (lv' := [(0, .ref a0), (1, .int v1), (2, .int v2)]) [0, 1, 2] rfl ?_
  unfold C_valve at hF
  refine v_aload_n 1 X 0 dX0_valve_0 rfl rfl rfl ?_
  refine v_get 4 X in_X0 0 0 rfl rfl (by decide) q245 rfl rfl dX0_valve_1 rfl ?_
  refine v_iload_n 5 X 1 dX0_valve_4 rfl rfl rfl ?_
  refine v_iload_n 6 X 2 dX0_valve_5 rfl rfl rfl ?_
  obtain ⟨z6, hz6, hF⟩ := ob hF
  refine vc_Vi (wr := ([(a0, .inr (0, [.ref b0, .ref hq, .ref tx]))])) 9 0 0 X 2 [.int v1, .int v2] [1, 2, 3, 4, 5, 6] [0] (LW D b0 b1 b2 b3 b4 b5 n n4 cols rows kd thr bt tm rea gr vl so dy cg) rfl rfl (by decide) (by decide) (by decide) (w_X1_isBond v1 v2 _ hz6) q436 q387 q388 q85 q389 hdX1_isBond 1 rfl rfl (pass_amb hAm) ⟨Nat.le_of_ble_eq_true rfl, Nat.le_of_ble_eq_true rfl⟩ ⟨(Nat.le_of_ble_eq_true rfl), (Nat.le_of_ble_eq_true rfl)⟩ rfl rfl (Nat.le_of_ble_eq_true rfl) dX0_valve_6 rfl rfl rfl (fun r6 u6 e6 => ?_)
  obtain ⟨e61, rfl⟩ := e6
  have e62 := e61.symm
  subst e62
  refine v_ws (ws' := ([(a0, .inr (0, [.ref b0, .ref hq, .ref tx]))] ++ LW D b0 b1 b2 b3 b4 b5 n n4 cols rows kd thr bt tm rea gr vl so dy cg)) [0, 1, 2, 3, 4, 5, 6] (by decide) rfl ?_
  refine v_if_eq 12 31 X dX0_valve_9 rfl (by decide) (fun h9 => ?_) (fun h9 => ?_)
  · replace hF := ifp h9 hF
    refine v_iconst (v := (-1)) 32 X dX0_valve_31 rfl ki_m1 ?_
    obtain rfl := Option.some.inj hF
    exact v_iret X hr ⟨rfl, rfl⟩ (Nat.le_of_ble_eq_true rfl) (Nat.le_of_ble_eq_true rfl) dX0_valve_32
  · replace hF := ifn h9 hF
    refine v_aload_n 13 X 0 dX0_valve_12 rfl rfl rfl ?_
    refine v_get 16 X in_X0 0 0 rfl rfl (by decide) q245 rfl rfl dX0_valve_13 rfl ?_
    refine v_getN 19 X hAm in_X1 1 8 rfl rfl (by decide) q157 rfl rfl dX0_valve_16 rfl ?_
    refine v_iconst (v := 4) 20 X dX0_valve_19 rfl ki_4 ?_
    refine v_iload_n 21 X 1 dX0_valve_20 rfl rfl rfl ?_
    refine v_imul 22 X dX0_valve_21 rfl ?_
    refine v_iload_n 23 X 2 dX0_valve_22 rfl rfl rfl ?_
    refine v_iadd 24 X dX0_valve_23 rfl ?_
    obtain ⟨z24, hz24, hF⟩ := ob hF
    refine v_aldV 25 X 3 hz24 rfl dX0_valve_24 rfl ?_
    obtain ⟨z25, hz25, hF⟩ := ob hF
    refine v_ordV 28 X hAm hz25 [0, 1, 2, 3, 4, 5, 6] rfl (by decide) q437 ⟨Nat.le_of_ble_eq_true rfl, Nat.le_of_ble_eq_true rfl⟩ ⟨(Nat.le_of_ble_eq_true rfl), (Nat.le_of_ble_eq_true rfl)⟩ (Nat.le_of_ble_eq_true rfl) dX0_valve_25 rfl ?_
    refine v_goto 32 X dX0_valve_28 (by decide) ?_
    obtain rfl := Option.some.inj hF
    exact v_iret X hr ⟨rfl, rfl⟩ (Nat.le_of_ble_eq_true rfl) (Nat.le_of_ble_eq_true rfl) dX0_valve_32
theorem w_X0_dyed (v1 : Int32) (r : Int32) (hF : C_dyed n dy v1 = some r) : CTi l yX0_dyed cX0_dyed 2 (Option.some Jvm.ClassFile.FieldType.int) rmX0_dyed D ([(a0, .inr (0, [.ref b0, .ref hq, .ref tx]))] ++ LW D b0 b1 b2 b3 b4 b5 n n4 cols rows kd thr bt tm rea gr vl so dy cg) [.ref a0, .int v1] (AMB D) (fun r1 u => r1 = r ∧ u = ([(a0, .inr (0, [.ref b0, .ref hq, .ref tx]))] ++ LW D b0 b1 b2 b3 b4 b5 n n4 cols rows kd thr bt tm rea gr vl so dy cg)) := by
  refine m_i (by decide) (Nat.le_of_ble_eq_true rfl) ?_
  intro p e s m args below meth c A B
  obtain ⟨X, hr, hAm, -, hnm, hnmd⟩ := B
  replace X : CX p s m args meth c D A cX0_dyed 2 "DyeLattice" := X
  refine v_lv (lv' := [(0, .ref a0), (1, .int v1)]) [0, 1] rfl ?_
  unfold C_dyed at hF
  refine v_iload_n 1 X 1 dX0_dyed_0 rfl rfl rfl ?_
  obtain ⟨z1, hz1, hF⟩ := ob hF
  refine v_mSi 4 X 1 [.int v1] (w_X0_isDye ([(a0, .inr (0, [.ref b0, .ref hq, .ref tx]))] ++ LW D b0 b1 b2 b3 b4 b5 n n4 cols rows kd thr bt tm rea gr vl so dy cg) v1 _ hz1) q469 q470 q84 q471 hdX0_isDye pass_no ⟨rfl, rfl⟩ ⟨Nat.le_of_ble_eq_true rfl, Nat.le_of_ble_eq_true rfl⟩ ⟨(Nat.le_of_ble_eq_true rfl), (Nat.le_of_ble_eq_true rfl)⟩ rfl rfl (Nat.le_of_ble_eq_true rfl) dX0_dyed_1 rfl ?_
  refine v_if_eq 7 18 X dX0_dyed_4 rfl (by decide) (fun h4 => ?_) (fun h4 => ?_)
  · replace hF := ifp h4 hF
    refine v_iconst (v := (-1)) 19 X dX0_dyed_18 rfl ki_m1 ?_
    obtain rfl := Option.some.inj hF
    exact v_iret X hr ⟨rfl, rfl⟩ (Nat.le_of_ble_eq_true rfl) (Nat.le_of_ble_eq_true rfl) dX0_dyed_19
  · replace hF := ifn h4 hF
    refine v_aload_n 8 X 0 dX0_dyed_7 rfl rfl rfl ?_
    refine v_get 11 X in_X0 0 0 rfl rfl (by decide) q245 rfl rfl dX0_dyed_8 rfl ?_
    refine v_iload_n 12 X 1 dX0_dyed_11 rfl rfl rfl ?_
    obtain ⟨z12, hz12, hF⟩ := ob hF
    refine vc_Vi (wr := ([(a0, .inr (0, [.ref b0, .ref hq, .ref tx]))])) 15 0 0 X 1 [.int v1] [1, 2, 3, 4, 5, 6] [0] (LW D b0 b1 b2 b3 b4 b5 n n4 cols rows kd thr bt tm rea gr vl so dy cg) rfl rfl (by decide) (by decide) (by decide) (w_X1_dyed v1 _ hz12) q1053 q1054 q1055 q85 q1056 hdX1_dyed 1 rfl rfl (pass_amb hAm) ⟨Nat.le_of_ble_eq_true rfl, Nat.le_of_ble_eq_true rfl⟩ ⟨(Nat.le_of_ble_eq_true rfl), (Nat.le_of_ble_eq_true rfl)⟩ rfl rfl (Nat.le_of_ble_eq_true rfl) dX0_dyed_12 rfl rfl rfl (fun r12 u12 e12 => ?_)
    obtain ⟨e121, rfl⟩ := e12
    have e122 := e121.symm
    subst e122
    refine v_ws (ws' := ([(a0, .inr (0, [.ref b0, .ref hq, .ref tx]))] ++ LW D b0 b1 b2 b3 b4 b5 n n4 cols rows kd thr bt tm rea gr vl so dy cg)) [0, 1, 2, 3, 4, 5, 6] (by decide) rfl ?_
    refine v_goto 19 X dX0_dyed_15 (by decide) ?_
    obtain rfl := Option.some.inj hF
    exact v_iret X hr ⟨rfl, rfl⟩ (Nat.le_of_ble_eq_true rfl) (Nat.le_of_ble_eq_true rfl) dX0_dyed_19
theorem w_X0_reach (v1 : Int32) (r : Int32) (hF : C_reach cols rows thr kd n n4 vl gr so v1 = some r) : CTi l yX0_reach cX0_reach 2 (Option.some Jvm.ClassFile.FieldType.int) rmX0_reach D ([(a0, .inr (0, [.ref b0, .ref hq, .ref tx]))] ++ LW D b0 b1 b2 b3 b4 b5 n n4 cols rows kd thr bt tm rea gr vl so dy cg) [.ref a0, .int v1] (AMB D) (fun r1 u => r1 = r ∧ u = ([(a0, .inr (0, [.ref b0, .ref hq, .ref tx]))] ++ LW D b0 b1 b2 b3 b4 b5 n n4 cols rows kd thr bt tm rea gr vl so dy cg)) := by
  refine m_i (by decide) (Nat.le_of_ble_eq_true rfl) ?_
  intro p e s m args below meth c A B
  obtain ⟨X, hr, hAm, -, hnm, hnmd⟩ := B
  replace X : CX p s m args meth c D A cX0_reach 2 "DyeLattice" := X
  refine v_lv (lv' := [(0, .ref a0), (1, .int v1)]) [0, 1] rfl ?_
  unfold C_reach at hF
  refine v_iload_n 1 X 1 dX0_reach_0 rfl rfl rfl ?_
  obtain ⟨z1, hz1, hF⟩ := ob hF
  refine v_mSi 4 X 1 [.int v1] (w_X0_isDye ([(a0, .inr (0, [.ref b0, .ref hq, .ref tx]))] ++ LW D b0 b1 b2 b3 b4 b5 n n4 cols rows kd thr bt tm rea gr vl so dy cg) v1 _ hz1) q469 q470 q84 q471 hdX0_isDye pass_no ⟨rfl, rfl⟩ ⟨Nat.le_of_ble_eq_true rfl, Nat.le_of_ble_eq_true rfl⟩ ⟨(Nat.le_of_ble_eq_true rfl), (Nat.le_of_ble_eq_true rfl)⟩ rfl rfl (Nat.le_of_ble_eq_true rfl) dX0_reach_1 rfl ?_
  refine v_if_eq 7 18 X dX0_reach_4 rfl (by decide) (fun h4 => ?_) (fun h4 => ?_)
  · replace hF := ifp h4 hF
    refine v_iconst (v := (-1)) 19 X dX0_reach_18 rfl ki_m1 ?_
    obtain rfl := Option.some.inj hF
    exact v_iret X hr ⟨rfl, rfl⟩ (Nat.le_of_ble_eq_true rfl) (Nat.le_of_ble_eq_true rfl) dX0_reach_19
  · replace hF := ifn h4 hF
    refine v_aload_n 8 X 0 dX0_reach_7 rfl rfl rfl ?_
    refine v_get 11 X in_X0 0 0 rfl rfl (by decide) q245 rfl rfl dX0_reach_8 rfl ?_
    refine v_iload_n 12 X 1 dX0_reach_11 rfl rfl rfl ?_
    obtain ⟨z12, hz12, hF⟩ := ob hF
    refine vc_Vi (wr := ([(a0, .inr (0, [.ref b0, .ref hq, .ref tx]))])) 15 4 163 X 1 [.int v1] [1, 2, 3, 4, 5, 6] [0] (LW D b0 b1 b2 b3 b4 b5 n n4 cols rows kd thr bt tm rea gr vl so dy cg) rfl rfl (by decide) (by decide) (by decide) (w_X1_reach v1 _ hz12) q1061 q1062 q1063 q85 q1064 hdX1_reach 1 rfl rfl (pass_amb hAm) ⟨Nat.le_of_ble_eq_true rfl, Nat.le_of_ble_eq_true rfl⟩ ⟨(Nat.le_of_ble_eq_true rfl), (Nat.le_of_ble_eq_true rfl)⟩ rfl rfl (Nat.le_of_ble_eq_true rfl) dX0_reach_12 rfl rfl rfl (fun r12 u12 e12 => ?_)
    obtain ⟨e121, rfl⟩ := e12
    have e122 := e121.symm
    subst e122
    refine v_ws (ws' := ([(a0, .inr (0, [.ref b0, .ref hq, .ref tx]))] ++ LW D b0 b1 b2 b3 b4 b5 n n4 cols rows kd thr bt tm rea gr vl so dy cg)) [0, 1, 2, 3, 4, 5, 6] (by decide) rfl ?_
    refine v_goto 19 X dX0_reach_15 (by decide) ?_
    obtain rfl := Option.some.inj hF
    exact v_iret X hr ⟨rfl, rfl⟩ (Nat.le_of_ble_eq_true rfl) (Nat.le_of_ble_eq_true rfl) dX0_reach_19
theorem w_X0_sides_j57 (X : CX p s m args meth c D A cX0_sides 4 "DyeLattice") (hAm : AMB D A s) (v3 : Int32) (s0 : Int32) (s1 : Int32) (hr : meth.sig.returnType = (Option.some Jvm.ClassFile.FieldType.int)) {r : Int32} (hF : C_sides_j57 rows v3 s0 s1 = some r) : V p l e rmX0_sides s m args below meth c D A 4 (MQ below (va_Qi (fun r1 u => r1 = r ∧ u = ([(a0, .inr (0, [.ref b0, .ref hq, .ref tx]))] ++ LW D b0 b1 b2 b3 b4 b5 n n4 cols rows kd thr bt tm rea gr vl so dy cg)) (Wd D A) A) args s rmX0_sides.cells rmX0_sides.slots A) ([(a0, .inr (0, [.ref b0, .ref hq, .ref tx]))] ++ LW D b0 b1 b2 b3 b4 b5 n n4 cols rows kd thr bt tm rea gr vl so dy cg) 0 0 57 [(0, .ref a0), (3, .int v3)] [.int s1, .int s0] := by
  unfold C_sides_j57 at hF
  refine v_ior 58 X dX0_sides_57 rfl ?_
  refine v_iload_n 59 X 1 dX0_sides_58 rfl rfl rfl ?_
  refine v_aload_n 60 X 0 dX0_sides_59 rfl rfl rfl ?_
  refine v_get 63 X in_X0 0 0 rfl rfl (by decide) q245 rfl rfl dX0_sides_60 rfl ?_
  refine v_getN 66 X hAm in_X1 1 1 rfl rfl (by decide) q140 rfl rfl dX0_sides_63 rfl ?_
  refine v_iconst (v := 1) 67 X dX0_sides_66 rfl ki_1 ?_
  refine v_isub 68 X dX0_sides_67 rfl ?_
  refine v_icmp_ne 71 76 X dX0_sides_68 rfl (by decide) (fun h68 => ?_) (fun h68 => ?_)
  · replace hF := ifn h68 hF
    refine v_iconst (v := 0) 77 X dX0_sides_76 rfl ki_0 ?_
    refine v_ior 78 X dX0_sides_77 rfl ?_
    obtain rfl := Option.some.inj hF
    exact v_iret X hr ⟨rfl, rfl⟩ (Nat.le_of_ble_eq_true rfl) (Nat.le_of_ble_eq_true rfl) dX0_sides_78
  · replace hF := ifp h68 hF
    refine v_bipush (v := 8) 73 X dX0_sides_71 rfl kb_8 ?_
    refine v_goto 77 X dX0_sides_73 (by decide) ?_
    refine v_ior 78 X dX0_sides_77 rfl ?_
    obtain rfl := Option.some.inj hF
    exact v_iret X hr ⟨rfl, rfl⟩ (Nat.le_of_ble_eq_true rfl) (Nat.le_of_ble_eq_true rfl) dX0_sides_78
theorem w_X0_sides_j29 (X : CX p s m args meth c D A cX0_sides 4 "DyeLattice") (hAm : AMB D A s) (v2 : Int32) (v3 : Int32) (s0 : Int32) (hr : meth.sig.returnType = (Option.some Jvm.ClassFile.FieldType.int)) {r : Int32} (hF : C_sides_j29 cols rows v2 v3 s0 = some r) : V p l e rmX0_sides s m args below meth c D A 4 (MQ below (va_Qi (fun r1 u => r1 = r ∧ u = ([(a0, .inr (0, [.ref b0, .ref hq, .ref tx]))] ++ LW D b0 b1 b2 b3 b4 b5 n n4 cols rows kd thr bt tm rea gr vl so dy cg)) (Wd D A) A) args s rmX0_sides.cells rmX0_sides.slots A) ([(a0, .inr (0, [.ref b0, .ref hq, .ref tx]))] ++ LW D b0 b1 b2 b3 b4 b5 n n4 cols rows kd thr bt tm rea gr vl so dy cg) 0 0 29 [(0, .ref a0), (2, .int v2), (3, .int v3)] [.int s0] := by
  unfold C_sides_j29 at hF
  refine v_iload_n 30 X 1 dX0_sides_29 rfl rfl rfl ?_
  refine v_aload_n 31 X 0 dX0_sides_30 rfl rfl rfl ?_
  refine v_get 34 X in_X0 0 0 rfl rfl (by decide) q245 rfl rfl dX0_sides_31 rfl ?_
  refine v_getN 37 X hAm in_X1 1 0 rfl rfl (by decide) q137 rfl rfl dX0_sides_34 rfl ?_
  refine v_iconst (v := 1) 38 X dX0_sides_37 rfl ki_1 ?_
  refine v_isub 39 X dX0_sides_38 rfl ?_
  refine v_icmp_ne 42 46 X dX0_sides_39 rfl (by decide) (fun h39 => ?_) (fun h39 => ?_)
  · replace hF := ifn h39 hF
    refine v_iconst (v := 0) 47 X dX0_sides_46 rfl ki_0 ?_
    refine v_ior 48 X dX0_sides_47 rfl ?_
    refine v_iload_n 49 X 2 dX0_sides_48 rfl rfl rfl ?_
    refine v_if_ne 52 56 X dX0_sides_49 rfl (by decide) (fun h49 => ?_) (fun h49 => ?_)
    · replace hF := ifn h49 hF
      refine v_iconst (v := 0) 57 X dX0_sides_56 rfl ki_0 ?_
      exact v_lv [0, 2] rfl (w_X0_sides_j57 X hAm v3 (s0 ||| 0) 0 hr hF)
    · replace hF := ifp h49 hF
      refine v_iconst (v := 4) 53 X dX0_sides_52 rfl ki_4 ?_
      refine v_goto 57 X dX0_sides_53 (by decide) ?_
      exact v_lv [0, 2] rfl (w_X0_sides_j57 X hAm v3 (s0 ||| 0) 4 hr hF)
  · replace hF := ifp h39 hF
    refine v_iconst (v := 2) 43 X dX0_sides_42 rfl ki_2 ?_
    refine v_goto 47 X dX0_sides_43 (by decide) ?_
    refine v_ior 48 X dX0_sides_47 rfl ?_
    refine v_iload_n 49 X 2 dX0_sides_48 rfl rfl rfl ?_
    refine v_if_ne 52 56 X dX0_sides_49 rfl (by decide) (fun h49 => ?_) (fun h49 => ?_)
    · replace hF := ifn h49 hF
      refine v_iconst (v := 0) 57 X dX0_sides_56 rfl ki_0 ?_
      exact v_lv [0, 2] rfl (w_X0_sides_j57 X hAm v3 (s0 ||| 2) 0 hr hF)
    · replace hF := ifp h49 hF
      refine v_iconst (v := 4) 53 X dX0_sides_52 rfl ki_4 ?_
      refine v_goto 57 X dX0_sides_53 (by decide) ?_
      exact v_lv [0, 2] rfl (w_X0_sides_j57 X hAm v3 (s0 ||| 2) 4 hr hF)
theorem w_X0_sides (v1 : Int32) (r : Int32) (hF : C_sides cols rows v1 = some r) : CTi l yX0_sides cX0_sides 4 (Option.some Jvm.ClassFile.FieldType.int) rmX0_sides D ([(a0, .inr (0, [.ref b0, .ref hq, .ref tx]))] ++ LW D b0 b1 b2 b3 b4 b5 n n4 cols rows kd thr bt tm rea gr vl so dy cg) [.ref a0, .int v1] (AMB D) (fun r1 u => r1 = r ∧ u = ([(a0, .inr (0, [.ref b0, .ref hq, .ref tx]))] ++ LW D b0 b1 b2 b3 b4 b5 n n4 cols rows kd thr bt tm rea gr vl so dy cg)) := by
  refine m_i (by decide) (Nat.le_of_ble_eq_true rfl) ?_
  intro p e s m args below meth c A B
  obtain ⟨X, hr, hAm, -, hnm, hnmd⟩ := B
  replace X : CX p s m args meth c D A cX0_sides 4 "DyeLattice" := X
  refine v_lv (lv' := [(0, .ref a0), (1, .int v1)]) [0, 1] rfl ?_
  unfold C_sides at hF
  refine v_iload_n 1 X 1 dX0_sides_0 rfl rfl rfl ?_
  refine v_aload_n 2 X 0 dX0_sides_1 rfl rfl rfl ?_
  refine v_get 5 X in_X0 0 0 rfl rfl (by decide) q245 rfl rfl dX0_sides_2 rfl ?_
  refine v_getN 8 X hAm in_X1 1 0 rfl rfl (by decide) q137 rfl rfl dX0_sides_5 rfl ?_
  obtain ⟨z8, hz8, hF⟩ := ob hF
  refine v_irem 9 X hz8 dX0_sides_8 rfl ?_
  refine v_istore_n 10 [(2, .int z8), (0, .ref a0), (1, .int v1)] X dX0_sides_9 rfl rfl (by decide) rfl ?_
  refine v_iload_n 11 X 2 dX0_sides_10 rfl rfl rfl ?_
  refine v_aload_n 12 X 1 dX0_sides_11 rfl rfl rfl ?_
  refine v_get 15 X in_X0 0 0 rfl rfl (by decide) q245 rfl rfl dX0_sides_12 rfl ?_
  refine v_getN 18 X hAm in_X1 1 0 rfl rfl (by decide) q137 rfl rfl dX0_sides_15 rfl ?_
  obtain ⟨z18, hz18, hF⟩ := ob hF
  refine v_idiv 19 X hz18 dX0_sides_18 rfl ?_
  refine v_istore_n 20 [(3, .int z18), (2, .int z8), (0, .ref a0), (1, .int v1)] X dX0_sides_19 rfl rfl (by decide) rfl ?_
  refine v_iload_n 21 X 1 dX0_sides_20 rfl rfl rfl ?_
  refine v_if_ne 24 28 X dX0_sides_21 rfl (by decide) (fun h21 => ?_) (fun h21 => ?_)
  · replace hF := ifn h21 hF
    refine v_iconst (v := 0) 29 X dX0_sides_28 rfl ki_0 ?_
    exact v_lv [2, 1, 0] rfl (w_X0_sides_j29 X hAm z8 z18 0 hr hF)
  · replace hF := ifp h21 hF
    refine v_iconst (v := 1) 25 X dX0_sides_24 rfl ki_1 ?_
    refine v_goto 29 X dX0_sides_25 (by decide) ?_
    exact v_lv [2, 1, 0] rfl (w_X0_sides_j29 X hAm z8 z18 1 hr hF)
theorem w_X0_bondsOf_6_j128 (X : CX p s m args meth c D A cX0_bondsOf 9 "DyeLattice") (hAm : AMB D A s) {cb sb : Nat} (v1 : Int32) (v2 : Int32) (v5 : Int32) (s0 : Int32) (hcb : cb ≤ rmX0_bondsOf.cells) (hsb : sb ≤ rmX0_bondsOf.slots) {r : (Int32 × Int32) ⊕ (Int32)} (hI : ∀ y, r = .inl y → V p l e rmX0_bondsOf s m args below meth c D A 9 Q ([(a0, .inr (0, [.ref b0, .ref hq, .ref tx]))] ++ LW D b0 b1 b2 b3 b4 b5 n n4 cols rows kd thr bt tm rea gr vl so dy cg ++ [(bc, .inl (D.1 100, n, .inl clu))]) cb sb 6 [(0, .ref a0), (1, .int v1), (2, .int v2), (3, .ref bc), (4, .int y.1), (5, .int y.2)] []) (hO : ∀ y, r = .inr y → (V p l e rmX0_bondsOf s m args below meth c D A 9 Q ([(a0, .inr (0, [.ref b0, .ref hq, .ref tx]))] ++ LW D b0 b1 b2 b3 b4 b5 n n4 cols rows kd thr bt tm rea gr vl so dy cg ++ [(bc, .inl (D.1 100, n, .inl clu))]) cb sb 138 [(4, .int y)] [])) (hF : C_bondsOf_6_j128 v1 v2 v5 s0 = some r) : V p l e rmX0_bondsOf s m args below meth c D A 9 Q ([(a0, .inr (0, [.ref b0, .ref hq, .ref tx])), (bc, .inl (D.1 100, n, .inl clu))] ++ LW D b0 b1 b2 b3 b4 b5 n n4 cols rows kd thr bt tm rea gr vl so dy cg) cb sb 128 [(0, .ref a0), (1, .int v1), (2, .int v2), (3, .ref bc), (5, .int v5)] [.int s0] := by
  unfold C_bondsOf_6_j128 at hF
  refine v_iconst (v := 0) 129 X dX0_bondsOf_128 rfl ki_0 ?_
  refine v_iadd 130 X dX0_bondsOf_129 rfl ?_
  refine v_istore 132 [(4, .int (s0 + 0)), (0, .ref a0), (1, .int v1), (2, .int v2), (3, .ref bc), (5, .int v5)] X dX0_bondsOf_130 rfl (by decide) rfl ?_
  refine v_iinc (v := (v5 + 1)) 135 [(5, .int (v5 + 1)), (4, .int (s0 + 0)), (0, .ref a0), (1, .int v1), (2, .int v2), (3, .ref bc)] X 5 dX0_bondsOf_132 rfl rfl (by rfl) (by decide) rfl ?_
  refine v_goto 6 X dX0_bondsOf_135 (by decide) ?_
  obtain rfl := Option.some.inj hF
  refine v_ws (ws' := ([(a0, .inr (0, [.ref b0, .ref hq, .ref tx]))] ++ LW D b0 b1 b2 b3 b4 b5 n n4 cols rows kd thr bt tm rea gr vl so dy cg ++ [(bc, .inl (D.1 100, n, .inl clu))])) [0, 2, 3, 4, 5, 6, 7, 1] (by decide) rfl ?_
  exact v_lv [2, 3, 4, 5, 1, 0] rfl (hI _ rfl)
theorem w_X0_bondsOf_6_j80 (X : CX p s m args meth c D A cX0_bondsOf 9 "DyeLattice") (hAm : AMB D A s) {cb sb : Nat} (v1 : Int32) (v2 : Int32) (v4 : Int32) (v5 : Int32) (v7 : Int32) (s0 : Int32) (hcb : cb ≤ rmX0_bondsOf.cells) (hsb : sb ≤ rmX0_bondsOf.slots) {r : (Int32 × Int32) ⊕ (Int32)} (hI : ∀ y, r = .inl y → V p l e rmX0_bondsOf s m args below meth c D A 9 Q ([(a0, .inr (0, [.ref b0, .ref hq, .ref tx]))] ++ LW D b0 b1 b2 b3 b4 b5 n n4 cols rows kd thr bt tm rea gr vl so dy cg ++ [(bc, .inl (D.1 100, n, .inl clu))]) cb sb 6 [(0, .ref a0), (1, .int v1), (2, .int v2), (3, .ref bc), (4, .int y.1), (5, .int y.2)] []) (hO : ∀ y, r = .inr y → (V p l e rmX0_bondsOf s m args below meth c D A 9 Q ([(a0, .inr (0, [.ref b0, .ref hq, .ref tx]))] ++ LW D b0 b1 b2 b3 b4 b5 n n4 cols rows kd thr bt tm rea gr vl so dy cg ++ [(bc, .inl (D.1 100, n, .inl clu))]) cb sb 138 [(4, .int y)] [])) (hF : C_bondsOf_6_j80 n4 vl v1 v2 v4 v5 v7 s0 = some r) : V p l e rmX0_bondsOf s m args below meth c D A 9 Q ([(a0, .inr (0, [.ref b0, .ref hq, .ref tx])), (bc, .inl (D.1 100, n, .inl clu))] ++ LW D b0 b1 b2 b3 b4 b5 n n4 cols rows kd thr bt tm rea gr vl so dy cg) cb sb 80 [(0, .ref a0), (1, .int v1), (2, .int v2), (3, .ref bc), (4, .int v4), (5, .int v5), (7, .int v7)] [.int s0] := by
  unfold C_bondsOf_6_j80 at hF
  refine v_istore 82 [(8, .int s0), (0, .ref a0), (1, .int v1), (2, .int v2), (3, .ref bc), (4, .int v4), (5, .int v5), (7, .int v7)] X dX0_bondsOf_80 rfl (by decide) rfl ?_
  refine v_iload 84 X 5 dX0_bondsOf_82 rfl rfl ?_
  refine v_iload_n 85 X 3 dX0_bondsOf_84 rfl rfl rfl ?_
  refine v_if_eq 88 117 X dX0_bondsOf_85 rfl (by decide) (fun h85 => ?_) (fun h85 => ?_)
  · replace hF := ifp h85 hF
    refine v_iload 119 X 7 dX0_bondsOf_117 rfl rfl ?_
    refine v_iload 121 X 0 dX0_bondsOf_119 rfl rfl ?_
    refine v_icmp_eq 124 128 X dX0_bondsOf_121 rfl (by decide) (fun h121 => ?_) (fun h121 => ?_)
    · replace hF := ifp h121 hF
      exact v_lv [1, 2, 3, 4, 6] rfl (w_X0_bondsOf_6_j128 X hAm v1 v2 v5 v4 hcb hsb hI hO hF)
    · replace hF := ifn h121 hF
      refine v_iconst (v := 1) 125 X dX0_bondsOf_124 rfl ki_1 ?_
      refine v_goto 129 X dX0_bondsOf_125 (by decide) ?_
      refine v_iadd 130 X dX0_bondsOf_129 rfl ?_
      refine v_istore 132 [(4, .int (v4 + 1)), (8, .int s0), (0, .ref a0), (1, .int v1), (2, .int v2), (3, .ref bc), (5, .int v5), (7, .int v7)] X dX0_bondsOf_130 rfl (by decide) rfl ?_
      refine v_iinc (v := (v5 + 1)) 135 [(5, .int (v5 + 1)), (4, .int (v4 + 1)), (8, .int s0), (0, .ref a0), (1, .int v1), (2, .int v2), (3, .ref bc), (7, .int v7)] X 6 dX0_bondsOf_132 rfl rfl (by rfl) (by decide) rfl ?_
      refine v_goto 6 X dX0_bondsOf_135 (by decide) ?_
      obtain rfl := Option.some.inj hF
      refine v_ws (ws' := ([(a0, .inr (0, [.ref b0, .ref hq, .ref tx]))] ++ LW D b0 b1 b2 b3 b4 b5 n n4 cols rows kd thr bt tm rea gr vl so dy cg ++ [(bc, .inl (D.1 100, n, .inl clu))])) [0, 2, 3, 4, 5, 6, 7, 1] (by decide) rfl ?_
      exact v_lv [3, 4, 5, 6, 1, 0] rfl (hI _ rfl)
  · replace hF := ifn h85 hF
    refine v_iload 90 X 7 dX0_bondsOf_88 rfl rfl ?_
    refine v_if_eq 93 128 X dX0_bondsOf_90 rfl (by decide) (fun h90 => ?_) (fun h90 => ?_)
    · replace hF := ifp h90 hF
      exact v_lv [1, 2, 3, 4, 6] rfl (w_X0_bondsOf_6_j128 X hAm v1 v2 v5 v4 hcb hsb hI hO hF)
    · replace hF := ifn h90 hF
      refine v_iload 95 X 0 dX0_bondsOf_93 rfl rfl ?_
      refine v_if_eq 98 128 X dX0_bondsOf_95 rfl (by decide) (fun h95 => ?_) (fun h95 => ?_)
      · replace hF := ifp h95 hF
        exact v_lv [1, 2, 3, 4, 6] rfl (w_X0_bondsOf_6_j128 X hAm v1 v2 v5 v4 hcb hsb hI hO hF)
      · replace hF := ifn h95 hF
        refine v_aload_n 99 X 1 dX0_bondsOf_98 rfl rfl rfl ?_
        refine v_get 102 X in_X0 0 0 rfl rfl (by decide) q245 rfl rfl dX0_bondsOf_99 rfl ?_
        refine v_getN 105 X hAm in_X1 2 8 rfl rfl (by decide) q157 rfl rfl dX0_bondsOf_102 rfl ?_
        refine v_iload 107 X 6 dX0_bondsOf_105 rfl rfl ?_
        obtain ⟨z107, hz107, hF⟩ := ob hF
        refine v_aldV 108 X 4 hz107 rfl dX0_bondsOf_107 rfl ?_
        refine v_getV 111 X hAm 1 (by decide) (by rfl) q1094 dX0_bondsOf_108 rfl ?_
        obtain ⟨z111, hz111, hF⟩ := ob hF
        refine v_acmpV_eq 114 128 X hAm hz111 dX0_bondsOf_111 rfl (by decide) (fun h111 => ?_) (fun h111 => ?_)
        · replace hF := ifp h111 hF
          exact v_lv [1, 2, 3, 4, 6] rfl (w_X0_bondsOf_6_j128 X hAm v1 v2 v5 v4 hcb hsb hI hO hF)
        · replace hF := ifn h111 hF
          refine v_goto 124 X dX0_bondsOf_114 (by decide) ?_
          refine v_iconst (v := 1) 125 X dX0_bondsOf_124 rfl ki_1 ?_
          refine v_goto 129 X dX0_bondsOf_125 (by decide) ?_
          refine v_iadd 130 X dX0_bondsOf_129 rfl ?_
          refine v_istore 132 [(4, .int (v4 + 1)), (8, .int s0), (0, .ref a0), (1, .int v1), (2, .int v2), (3, .ref bc), (5, .int v5), (7, .int v7)] X dX0_bondsOf_130 rfl (by decide) rfl ?_
          refine v_iinc (v := (v5 + 1)) 135 [(5, .int (v5 + 1)), (4, .int (v4 + 1)), (8, .int s0), (0, .ref a0), (1, .int v1), (2, .int v2), (3, .ref bc), (7, .int v7)] X 6 dX0_bondsOf_132 rfl rfl (by rfl) (by decide) rfl ?_
          refine v_goto 6 X dX0_bondsOf_135 (by decide) ?_
          obtain rfl := Option.some.inj hF
          refine v_ws (ws' := ([(a0, .inr (0, [.ref b0, .ref hq, .ref tx]))] ++ LW D b0 b1 b2 b3 b4 b5 n n4 cols rows kd thr bt tm rea gr vl so dy cg ++ [(bc, .inl (D.1 100, n, .inl clu))])) [0, 2, 3, 4, 5, 6, 7, 1] (by decide) rfl ?_
          exact v_lv [3, 4, 5, 6, 1, 0] rfl (hI _ rfl)
theorem w_X0_bondsOf_6_j54 (X : CX p s m args meth c D A cX0_bondsOf 9 "DyeLattice") (hAm : AMB D A s) {cb sb : Nat} (v1 : Int32) (v2 : Int32) (v4 : Int32) (v5 : Int32) (v6 : Int32) (s0 : Int32) (hcb : cb ≤ rmX0_bondsOf.cells) (hsb : sb ≤ rmX0_bondsOf.slots) {r : (Int32 × Int32) ⊕ (Int32)} (hI : ∀ y, r = .inl y → V p l e rmX0_bondsOf s m args below meth c D A 9 Q ([(a0, .inr (0, [.ref b0, .ref hq, .ref tx]))] ++ LW D b0 b1 b2 b3 b4 b5 n n4 cols rows kd thr bt tm rea gr vl so dy cg ++ [(bc, .inl (D.1 100, n, .inl clu))]) cb sb 6 [(0, .ref a0), (1, .int v1), (2, .int v2), (3, .ref bc), (4, .int y.1), (5, .int y.2)] []) (hO : ∀ y, r = .inr y → (V p l e rmX0_bondsOf s m args below meth c D A 9 Q ([(a0, .inr (0, [.ref b0, .ref hq, .ref tx]))] ++ LW D b0 b1 b2 b3 b4 b5 n n4 cols rows kd thr bt tm rea gr vl so dy cg ++ [(bc, .inl (D.1 100, n, .inl clu))]) cb sb 138 [(4, .int y)] [])) (hF : C_bondsOf_6_j54 cols rows n n4 vl clu v1 v2 v4 v5 v6 s0 = some r) : V p l e rmX0_bondsOf s m args below meth c D A 9 Q ([(a0, .inr (0, [.ref b0, .ref hq, .ref tx])), (bc, .inl (D.1 100, n, .inl clu))] ++ LW D b0 b1 b2 b3 b4 b5 n n4 cols rows kd thr bt tm rea gr vl so dy cg) cb sb 54 [(0, .ref a0), (1, .int v1), (2, .int v2), (3, .ref bc), (4, .int v4), (5, .int v5), (6, .int v6)] [.int s0] := by
  unfold C_bondsOf_6_j54 at hF
  refine v_istore 56 [(7, .int s0), (0, .ref a0), (1, .int v1), (2, .int v2), (3, .ref bc), (4, .int v4), (5, .int v5), (6, .int v6)] X dX0_bondsOf_54 rfl (by decide) rfl ?_
  refine v_aload_n 57 X 4 dX0_bondsOf_56 rfl rfl rfl ?_
  refine v_aload_n 58 X 1 dX0_bondsOf_57 rfl rfl rfl ?_
  refine v_get 61 X in_X0 0 0 rfl rfl (by decide) q245 rfl rfl dX0_bondsOf_58 rfl ?_
  refine v_iload 63 X 7 dX0_bondsOf_61 rfl rfl ?_
  refine v_iload 65 X 6 dX0_bondsOf_63 rfl rfl ?_
  refine v_iconst (v := 4) 66 X dX0_bondsOf_65 rfl ki_4 ?_
  obtain ⟨z66, hz66, hF⟩ := ob hF
  refine v_irem 67 X hz66 dX0_bondsOf_66 rfl ?_
  obtain ⟨z67, hz67, hF⟩ := ob hF
  refine vc_Vi (wr := ([(a0, .inr (0, [.ref b0, .ref hq, .ref tx])), (bc, .inl (D.1 100, n, .inl clu))])) 70 cb sb X 2 [.int v6, .int z66] [2, 3, 4, 5, 6, 7] [0, 1] (LW D b0 b1 b2 b3 b4 b5 n n4 cols rows kd thr bt tm rea gr vl so dy cg) rfl rfl (by decide) (by decide) (by decide) (w_X1_second v6 z66 _ hz67) q1093 q397 q398 q85 q399 hdX1_second 2 rfl rfl (pass_amb hAm) ⟨Nat.le_of_ble_eq_true rfl, Nat.le_of_ble_eq_true rfl⟩ ⟨(by exact hcb), (by exact hsb)⟩ rfl rfl (Nat.le_of_ble_eq_true rfl) dX0_bondsOf_67 rfl (by show cb + 0 = cb + 0; omega) (by show sb + 0 = sb + 0; omega) (fun r67 u67 e67 => ?_)
  obtain ⟨e671, rfl⟩ := e67
  have e672 := e671.symm
  subst e672
  refine v_ws (ws' := ([(a0, .inr (0, [.ref b0, .ref hq, .ref tx])), (bc, .inl (D.1 100, n, .inl clu))] ++ LW D b0 b1 b2 b3 b4 b5 n n4 cols rows kd thr bt tm rea gr vl so dy cg)) [0, 1, 2, 3, 4, 5, 6, 7] (by decide) rfl ?_
  obtain ⟨z70, hz70, hF⟩ := ob hF
  refine v_iald 71 X 1 hz70 rfl dX0_bondsOf_70 rfl ?_
  refine v_iload_n 72 X 2 dX0_bondsOf_71 rfl rfl rfl ?_
  refine v_icmp_ne 75 79 X dX0_bondsOf_72 rfl (by decide) (fun h72 => ?_) (fun h72 => ?_)
  · replace hF := ifn h72 hF
    refine v_iconst (v := 0) 80 X dX0_bondsOf_79 rfl ki_0 ?_
    exact v_lv [1, 2, 3, 4, 5, 6, 0] rfl (w_X0_bondsOf_6_j80 X hAm v1 v2 v4 v5 s0 0 hcb hsb hI hO hF)
  · replace hF := ifp h72 hF
    refine v_iconst (v := 1) 76 X dX0_bondsOf_75 rfl ki_1 ?_
    refine v_goto 80 X dX0_bondsOf_76 (by decide) ?_
    exact v_lv [1, 2, 3, 4, 5, 6, 0] rfl (w_X0_bondsOf_6_j80 X hAm v1 v2 v4 v5 s0 1 hcb hsb hI hO hF)
theorem w_X0_bondsOf_6 (X : CX p s m args meth c D A cX0_bondsOf 9 "DyeLattice") (hAm : AMB D A s) {cb sb : Nat} (hcb : cb ≤ rmX0_bondsOf.cells) (hsb : sb ≤ rmX0_bondsOf.slots) (v1 : Int32) (v2 : Int32) : ∀ (fu : Nat) (x : Int32 × Int32) (o : (Int32)), loopN (fun x => C_bondsOf_6 v1 v2 cols rows kd n n4 vl clu x.1 x.2) fu x = some o → (V p l e rmX0_bondsOf s m args below meth c D A 9 Q ([(a0, .inr (0, [.ref b0, .ref hq, .ref tx]))] ++ LW D b0 b1 b2 b3 b4 b5 n n4 cols rows kd thr bt tm rea gr vl so dy cg ++ [(bc, .inl (D.1 100, n, .inl clu))]) cb sb 138 [(4, .int o)] []) → V p l e rmX0_bondsOf s m args below meth c D A 9 Q ([(a0, .inr (0, [.ref b0, .ref hq, .ref tx]))] ++ LW D b0 b1 b2 b3 b4 b5 n n4 cols rows kd thr bt tm rea gr vl so dy cg ++ [(bc, .inl (D.1 100, n, .inl clu))]) cb sb 6 [(0, .ref a0), (1, .int v1), (2, .int v2), (3, .ref bc), (4, .int x.1), (5, .int x.2)] [] := by
  refine v_loop (fun (x : Int32 × Int32) => V p l e rmX0_bondsOf s m args below meth c D A 9 Q ([(a0, .inr (0, [.ref b0, .ref hq, .ref tx]))] ++ LW D b0 b1 b2 b3 b4 b5 n n4 cols rows kd thr bt tm rea gr vl so dy cg ++ [(bc, .inl (D.1 100, n, .inl clu))]) cb sb 6 [(0, .ref a0), (1, .int v1), (2, .int v2), (3, .ref bc), (4, .int x.1), (5, .int x.2)] []) (fun (o : (Int32)) => V p l e rmX0_bondsOf s m args below meth c D A 9 Q ([(a0, .inr (0, [.ref b0, .ref hq, .ref tx]))] ++ LW D b0 b1 b2 b3 b4 b5 n n4 cols rows kd thr bt tm rea gr vl so dy cg ++ [(bc, .inl (D.1 100, n, .inl clu))]) cb sb 138 [(4, .int o)] []) ?_
  rintro ⟨v4, v5⟩ r hF hI hO
  replace hF : C_bondsOf_6 v1 v2 cols rows kd n n4 vl clu v4 v5 = some r := hF
  show V p l e rmX0_bondsOf s m args below meth c D A 9 Q ([(a0, .inr (0, [.ref b0, .ref hq, .ref tx]))] ++ LW D b0 b1 b2 b3 b4 b5 n n4 cols rows kd thr bt tm rea gr vl so dy cg ++ [(bc, .inl (D.1 100, n, .inl clu))]) cb sb 6 [(0, .ref a0), (1, .int v1), (2, .int v2), (3, .ref bc), (4, .int v4), (5, .int v5)] []
  unfold C_bondsOf_6 at hF
  refine v_iload 8 X 5 dX0_bondsOf_6 rfl rfl ?_
  refine v_aload_n 9 X 0 dX0_bondsOf_8 rfl rfl rfl ?_
  refine v_get 12 X in_X0 0 0 rfl rfl (by decide) q245 rfl rfl dX0_bondsOf_9 rfl ?_
  refine v_getN 15 X hAm in_X1 1 8 rfl rfl (by decide) q157 rfl rfl dX0_bondsOf_12 rfl ?_
  refine v_alen 16 X 3 4 rfl rfl rfl dX0_bondsOf_15 rfl ?_
  refine v_icmp_ge 19 138 X dX0_bondsOf_16 rfl (by decide) (fun h16 => ?_) (fun h16 => ?_)
  · replace hF := ifp h16 hF
    obtain rfl := Option.some.inj hF
    exact v_lv [4] rfl ((hO _ rfl))
  · replace hF := ifn h16 hF
    refine v_iload 21 X 5 dX0_bondsOf_19 rfl rfl ?_
    refine v_iconst (v := 4) 22 X dX0_bondsOf_21 rfl ki_4 ?_
    obtain ⟨z22, hz22, hF⟩ := ob hF
    refine v_idiv 23 X hz22 dX0_bondsOf_22 rfl ?_
    refine v_istore 25 [(6, .int z22), (0, .ref a0), (1, .int v1), (2, .int v2), (3, .ref bc), (4, .int v4), (5, .int v5)] X dX0_bondsOf_23 rfl (by decide) rfl ?_
    refine v_aload_n 26 X 1 dX0_bondsOf_25 rfl rfl rfl ?_
    refine v_get 29 X in_X0 0 0 rfl rfl (by decide) q245 rfl rfl dX0_bondsOf_26 rfl ?_
    refine v_iload 31 X 0 dX0_bondsOf_29 rfl rfl ?_
    refine v_iload 33 X 6 dX0_bondsOf_31 rfl rfl ?_
    refine v_iconst (v := 4) 34 X dX0_bondsOf_33 rfl ki_4 ?_
    obtain ⟨z34, hz34, hF⟩ := ob hF
    refine v_irem 35 X hz34 dX0_bondsOf_34 rfl ?_
    obtain ⟨z35, hz35, hF⟩ := ob hF
    refine vc_Vi (wr := ([(a0, .inr (0, [.ref b0, .ref hq, .ref tx])), (bc, .inl (D.1 100, n, .inl clu))])) 38 cb sb X 2 [.int z22, .int z34] [1, 2, 3, 4, 5, 6] [0, 7] (LW D b0 b1 b2 b3 b4 b5 n n4 cols rows kd thr bt tm rea gr vl so dy cg) rfl rfl (by decide) (by decide) (by decide) (w_X1_isBond z22 z34 _ hz35) q436 q387 q388 q85 q389 hdX1_isBond 1 rfl rfl (pass_amb hAm) ⟨Nat.le_of_ble_eq_true rfl, Nat.le_of_ble_eq_true rfl⟩ ⟨(by exact hcb), (by exact hsb)⟩ rfl rfl (Nat.le_of_ble_eq_true rfl) dX0_bondsOf_35 rfl (by show cb + 0 = cb + 0; omega) (by show sb + 0 = sb + 0; omega) (fun r35 u35 e35 => ?_)
    obtain ⟨e351, rfl⟩ := e35
    have e352 := e351.symm
    subst e352
    refine v_ws (ws' := ([(a0, .inr (0, [.ref b0, .ref hq, .ref tx])), (bc, .inl (D.1 100, n, .inl clu))] ++ LW D b0 b1 b2 b3 b4 b5 n n4 cols rows kd thr bt tm rea gr vl so dy cg)) [0, 1, 2, 3, 4, 5, 6, 7] (by decide) rfl ?_
    refine v_if_eq 41 132 X dX0_bondsOf_38 rfl (by decide) (fun h38 => ?_) (fun h38 => ?_)
    · replace hF := ifp h38 hF
      refine v_iinc (v := (v5 + 1)) 135 [(5, .int (v5 + 1)), (6, .int z22), (0, .ref a0), (1, .int v1), (2, .int v2), (3, .ref bc), (4, .int v4)] X 6 dX0_bondsOf_132 rfl rfl (by rfl) (by decide) rfl ?_
      refine v_goto 6 X dX0_bondsOf_135 (by decide) ?_
      obtain rfl := Option.some.inj hF
      refine v_ws (ws' := ([(a0, .inr (0, [.ref b0, .ref hq, .ref tx]))] ++ LW D b0 b1 b2 b3 b4 b5 n n4 cols rows kd thr bt tm rea gr vl so dy cg ++ [(bc, .inl (D.1 100, n, .inl clu))])) [0, 2, 3, 4, 5, 6, 7, 1] (by decide) rfl ?_
      exact v_lv [2, 3, 4, 5, 6, 0] rfl (hI _ rfl)
    · replace hF := ifn h38 hF
      refine v_aload_n 42 X 4 dX0_bondsOf_41 rfl rfl rfl ?_
      refine v_iload 44 X 0 dX0_bondsOf_42 rfl rfl ?_
      obtain ⟨z44, hz44, hF⟩ := ob hF
      refine v_iald 45 X 1 hz44 rfl dX0_bondsOf_44 rfl ?_
      refine v_iload_n 46 X 2 dX0_bondsOf_45 rfl rfl rfl ?_
      refine v_icmp_ne 49 53 X dX0_bondsOf_46 rfl (by decide) (fun h46 => ?_) (fun h46 => ?_)
      · replace hF := ifn h46 hF
        refine v_iconst (v := 0) 54 X dX0_bondsOf_53 rfl ki_0 ?_
        exact v_lv [1, 2, 3, 4, 5, 6, 0] rfl (w_X0_bondsOf_6_j54 X hAm v1 v2 v4 v5 z22 0 hcb hsb hI hO hF)
      · replace hF := ifp h46 hF
        refine v_iconst (v := 1) 50 X dX0_bondsOf_49 rfl ki_1 ?_
        refine v_goto 54 X dX0_bondsOf_50 (by decide) ?_
        exact v_lv [1, 2, 3, 4, 5, 6, 0] rfl (w_X0_bondsOf_6_j54 X hAm v1 v2 v4 v5 z22 1 hcb hsb hI hO hF)
theorem w_X0_bondsOf (v1 : Int32) (v2 : Int32) (r : Int32) (hF : C_bondsOf cols rows kd n n4 vl clu v1 v2 = some r) : CTi l yX0_bondsOf cX0_bondsOf 9 (Option.some Jvm.ClassFile.FieldType.int) rmX0_bondsOf D ([(a0, .inr (0, [.ref b0, .ref hq, .ref tx]))] ++ LW D b0 b1 b2 b3 b4 b5 n n4 cols rows kd thr bt tm rea gr vl so dy cg ++ [(bc, .inl (D.1 100, n, .inl clu))]) [.ref a0, .int v1, .int v2, .ref bc] (AMB D) (fun r1 u => r1 = r ∧ u = ([(a0, .inr (0, [.ref b0, .ref hq, .ref tx]))] ++ LW D b0 b1 b2 b3 b4 b5 n n4 cols rows kd thr bt tm rea gr vl so dy cg ++ [(bc, .inl (D.1 100, n, .inl clu))])) := by
  refine m_i (by decide) (Nat.le_of_ble_eq_true rfl) ?_
  intro p e s m args below meth c A B
  obtain ⟨X, hr, hAm, -, hnm, hnmd⟩ := B
  replace X : CX p s m args meth c D A cX0_bondsOf 9 "DyeLattice" := X
  refine v_lv (lv' := [(0, .ref a0), (1, .int v1), (2, .int v2), (3, .ref bc)]) [0, 1, 2, 3] rfl ?_
  unfold C_bondsOf at hF
  refine v_iconst (v := 0) 1 X dX0_bondsOf_0 rfl ki_0 ?_
  refine v_istore 3 [(4, .int 0), (0, .ref a0), (1, .int v1), (2, .int v2), (3, .ref bc)] X dX0_bondsOf_1 rfl (by decide) rfl ?_
  refine v_iconst (v := 0) 4 X dX0_bondsOf_3 rfl ki_0 ?_
  refine v_istore 6 [(5, .int 0), (4, .int 0), (0, .ref a0), (1, .int v1), (2, .int v2), (3, .ref bc)] X dX0_bondsOf_4 rfl (by decide) rfl ?_
  obtain ⟨z6, hz6, hF⟩ := ob hF
  refine v_lv [2, 3, 4, 5, 1, 0] rfl (w_X0_bondsOf_6 X hAm (Nat.le_of_ble_eq_true rfl) (Nat.le_of_ble_eq_true rfl) v1 v2 _ (0, 0) _ hz6 ?_)
  refine v_iload 140 X 0 dX0_bondsOf_138 rfl rfl ?_
  obtain rfl := Option.some.inj hF
  exact v_iret X hr ⟨rfl, rfl⟩ (Nat.le_of_ble_eq_true rfl) (Nat.le_of_ble_eq_true rfl) dX0_bondsOf_140
theorem w_X0_cell (v1 : Int32) (v2 : Int32) (r : Int32) (hF : C_cell cols rows thr kd n n4 vl gr so dy cg v1 v2 = some r) : CTi l yX0_cell cX0_cell 3 (Option.some Jvm.ClassFile.FieldType.int) rmX0_cell D ([(a0, .inr (0, [.ref b0, .ref hq, .ref tx]))] ++ LW D b0 b1 b2 b3 b4 b5 n n4 cols rows kd thr bt tm rea gr vl so dy cg) [.ref a0, .int v1, .int v2] (AMB D) (fun r1 u => r1 = r ∧ u = ([(a0, .inr (0, [.ref b0, .ref hq, .ref tx]))] ++ LW D b0 b1 b2 b3 b4 b5 n n4 cols rows kd thr bt tm rea gr vl so dy cg)) := by
  refine m_i (by decide) (Nat.le_of_ble_eq_true rfl) ?_
  intro p e s m args below meth c A B
  obtain ⟨X, hr, hAm, -, hnm, hnmd⟩ := B
  replace X : CX p s m args meth c D A cX0_cell 3 "DyeLattice" := X
  refine v_lv (lv' := [(0, .ref a0), (1, .int v1), (2, .int v2)]) [0, 1, 2] rfl ?_
  unfold C_cell at hF
  refine v_aload_n 1 X 0 dX0_cell_0 rfl rfl rfl ?_
  refine v_get 4 X in_X0 0 0 rfl rfl (by decide) q245 rfl rfl dX0_cell_1 rfl ?_
  refine v_iload_n 5 X 1 dX0_cell_4 rfl rfl rfl ?_
  obtain ⟨z5, hz5, hF⟩ := ob hF
  refine vc_Vi (wr := ([(a0, .inr (0, [.ref b0, .ref hq, .ref tx]))])) 8 0 0 X 1 [.int v1] [1, 2, 3, 4, 5, 6] [0] (LW D b0 b1 b2 b3 b4 b5 n n4 cols rows kd thr bt tm rea gr vl so dy cg) rfl rfl (by decide) (by decide) (by decide) (w_X1_isCell v1 _ hz5) q414 q391 q392 q85 q393 hdX1_isCell 1 rfl rfl (pass_amb hAm) ⟨Nat.le_of_ble_eq_true rfl, Nat.le_of_ble_eq_true rfl⟩ ⟨(Nat.le_of_ble_eq_true rfl), (Nat.le_of_ble_eq_true rfl)⟩ rfl rfl (Nat.le_of_ble_eq_true rfl) dX0_cell_5 rfl rfl rfl (fun r5 u5 e5 => ?_)
  obtain ⟨e51, rfl⟩ := e5
  have e52 := e51.symm
  subst e52
  refine v_ws (ws' := ([(a0, .inr (0, [.ref b0, .ref hq, .ref tx]))] ++ LW D b0 b1 b2 b3 b4 b5 n n4 cols rows kd thr bt tm rea gr vl so dy cg)) [0, 1, 2, 3, 4, 5, 6] (by decide) rfl ?_
  refine v_if_ne 11 13 X dX0_cell_8 rfl (by decide) (fun h8 => ?_) (fun h8 => ?_)
  · replace hF := ifn h8 hF
    refine v_iload_n 14 X 2 dX0_cell_13 rfl rfl rfl ?_
    by_cases h14_0 : v2 = 0
    · replace hF := ifp h14_0 hF
      refine v_tableAt 56 X 0 h14_0 dX0_cell_14 (by decide) (by decide) (by rfl) (by decide) ?_
      refine v_aload_n 57 X 0 dX0_cell_56 rfl rfl rfl ?_
      refine v_get 60 X in_X0 0 0 rfl rfl (by decide) q245 rfl rfl dX0_cell_57 rfl ?_
      refine v_getN 63 X hAm in_X1 1 7 rfl rfl (by decide) q154 rfl rfl dX0_cell_60 rfl ?_
      refine v_iload_n 64 X 1 dX0_cell_63 rfl rfl rfl ?_
      obtain ⟨z64, hz64, hF⟩ := ob hF
      refine v_iald 65 X 2 hz64 rfl dX0_cell_64 rfl ?_
      obtain rfl := Option.some.inj hF
      exact v_iret X hr ⟨rfl, rfl⟩ (Nat.le_of_ble_eq_true rfl) (Nat.le_of_ble_eq_true rfl) dX0_cell_65
    · replace hF := ifn h14_0 hF
      by_cases h14_1 : v2 = 1
      · replace hF := ifp h14_1 hF
        refine v_tableAt 66 X 1 h14_1 dX0_cell_14 (by decide) (by decide) (by rfl) (by decide) ?_
        refine v_aload_n 67 X 0 dX0_cell_66 rfl rfl rfl ?_
        refine v_get 70 X in_X0 0 0 rfl rfl (by decide) q245 rfl rfl dX0_cell_67 rfl ?_
        refine v_iload_n 71 X 1 dX0_cell_70 rfl rfl rfl ?_
        obtain ⟨z71, hz71, hF⟩ := ob hF
        refine vc_Vi (wr := ([(a0, .inr (0, [.ref b0, .ref hq, .ref tx]))])) 74 0 0 X 1 [.int v1] [1, 2, 3, 4, 5, 6] [0] (LW D b0 b1 b2 b3 b4 b5 n n4 cols rows kd thr bt tm rea gr vl so dy cg) rfl rfl (by decide) (by decide) (by decide) (w_X1_isOpen v1 _ hz71) q1040 q429 q430 q85 q431 hdX1_isOpen 1 rfl rfl (pass_amb hAm) ⟨Nat.le_of_ble_eq_true rfl, Nat.le_of_ble_eq_true rfl⟩ ⟨(Nat.le_of_ble_eq_true rfl), (Nat.le_of_ble_eq_true rfl)⟩ rfl rfl (Nat.le_of_ble_eq_true rfl) dX0_cell_71 rfl rfl rfl (fun r71 u71 e71 => ?_)
        obtain ⟨e711, rfl⟩ := e71
        have e712 := e711.symm
        subst e712
        refine v_ws (ws' := ([(a0, .inr (0, [.ref b0, .ref hq, .ref tx]))] ++ LW D b0 b1 b2 b3 b4 b5 n n4 cols rows kd thr bt tm rea gr vl so dy cg)) [0, 1, 2, 3, 4, 5, 6] (by decide) rfl ?_
        refine v_if_eq 77 81 X dX0_cell_74 rfl (by decide) (fun h74 => ?_) (fun h74 => ?_)
        · replace hF := ifp h74 hF
          refine v_iconst (v := 0) 82 X dX0_cell_81 rfl ki_0 ?_
          obtain rfl := Option.some.inj hF
          exact v_iret X hr ⟨rfl, rfl⟩ (Nat.le_of_ble_eq_true rfl) (Nat.le_of_ble_eq_true rfl) dX0_cell_82
        · replace hF := ifn h74 hF
          refine v_iconst (v := 1) 78 X dX0_cell_77 rfl ki_1 ?_
          refine v_goto 82 X dX0_cell_78 (by decide) ?_
          obtain rfl := Option.some.inj hF
          exact v_iret X hr ⟨rfl, rfl⟩ (Nat.le_of_ble_eq_true rfl) (Nat.le_of_ble_eq_true rfl) dX0_cell_82
      · replace hF := ifn h14_1 hF
        by_cases h14_2 : v2 = 2
        · replace hF := ifp h14_2 hF
          refine v_tableAt 83 X 2 h14_2 dX0_cell_14 (by decide) (by decide) (by rfl) (by decide) ?_
          refine v_aload_n 84 X 0 dX0_cell_83 rfl rfl rfl ?_
          refine v_get 87 X in_X0 0 0 rfl rfl (by decide) q245 rfl rfl dX0_cell_84 rfl ?_
          refine v_getN 90 X hAm in_X1 1 9 rfl rfl (by decide) q160 rfl rfl dX0_cell_87 rfl ?_
          refine v_iload_n 91 X 1 dX0_cell_90 rfl rfl rfl ?_
          obtain ⟨z91, hz91, hF⟩ := ob hF
          refine v_iald 92 X 4 hz91 rfl dX0_cell_91 rfl ?_
          obtain rfl := Option.some.inj hF
          exact v_iret X hr ⟨rfl, rfl⟩ (Nat.le_of_ble_eq_true rfl) (Nat.le_of_ble_eq_true rfl) dX0_cell_92
        · replace hF := ifn h14_2 hF
          by_cases h14_3 : v2 = 3
          · replace hF := ifp h14_3 hF
            refine v_tableAt 93 X 3 h14_3 dX0_cell_14 (by decide) (by decide) (by rfl) (by decide) ?_
            refine v_aload_n 94 X 0 dX0_cell_93 rfl rfl rfl ?_
            refine v_get 97 X in_X0 0 0 rfl rfl (by decide) q245 rfl rfl dX0_cell_94 rfl ?_
            refine v_getN 100 X hAm in_X1 1 10 rfl rfl (by decide) q162 rfl rfl dX0_cell_97 rfl ?_
            refine v_iload_n 101 X 1 dX0_cell_100 rfl rfl rfl ?_
            obtain ⟨z101, hz101, hF⟩ := ob hF
            refine v_iald 102 X 5 hz101 rfl dX0_cell_101 rfl ?_
            obtain rfl := Option.some.inj hF
            exact v_iret X hr ⟨rfl, rfl⟩ (Nat.le_of_ble_eq_true rfl) (Nat.le_of_ble_eq_true rfl) dX0_cell_102
          · replace hF := ifn h14_3 hF
            by_cases h14_4 : v2 = 4
            · replace hF := ifp h14_4 hF
              refine v_tableAt 103 X 4 h14_4 dX0_cell_14 (by decide) (by decide) (by rfl) (by decide) ?_
              refine v_aload_n 104 X 0 dX0_cell_103 rfl rfl rfl ?_
              refine v_get 107 X in_X0 0 0 rfl rfl (by decide) q245 rfl rfl dX0_cell_104 rfl ?_
              refine v_getN 110 X hAm in_X1 1 11 rfl rfl (by decide) q164 rfl rfl dX0_cell_107 rfl ?_
              refine v_iload_n 111 X 1 dX0_cell_110 rfl rfl rfl ?_
              obtain ⟨z111, hz111, hF⟩ := ob hF
              refine v_zald 112 X 6 hz111 rfl dX0_cell_111 rfl ?_
              refine v_if_eq 115 119 X dX0_cell_112 rfl (by decide) (fun h112 => ?_) (fun h112 => ?_)
              · replace hF := ifp h112 hF
                refine v_iconst (v := 0) 120 X dX0_cell_119 rfl ki_0 ?_
                obtain rfl := Option.some.inj hF
                exact v_iret X hr ⟨rfl, rfl⟩ (Nat.le_of_ble_eq_true rfl) (Nat.le_of_ble_eq_true rfl) dX0_cell_120
              · replace hF := ifn h112 hF
                refine v_iconst (v := 1) 116 X dX0_cell_115 rfl ki_1 ?_
                refine v_goto 120 X dX0_cell_116 (by decide) ?_
                obtain rfl := Option.some.inj hF
                exact v_iret X hr ⟨rfl, rfl⟩ (Nat.le_of_ble_eq_true rfl) (Nat.le_of_ble_eq_true rfl) dX0_cell_120
            · replace hF := ifn h14_4 hF
              by_cases h14_5 : v2 = 5
              · replace hF := ifp h14_5 hF
                refine v_tableAt 121 X 5 h14_5 dX0_cell_14 (by decide) (by decide) (by rfl) (by decide) ?_
                refine v_aload_n 122 X 0 dX0_cell_121 rfl rfl rfl ?_
                refine v_get 125 X in_X0 0 0 rfl rfl (by decide) q245 rfl rfl dX0_cell_122 rfl ?_
                refine v_aload_n 126 X 0 dX0_cell_125 rfl rfl rfl ?_
                refine v_get 129 X in_X0 0 0 rfl rfl (by decide) q245 rfl rfl dX0_cell_126 rfl ?_
                refine v_getN 132 X hAm in_X1 1 3 rfl rfl (by decide) q145 rfl rfl dX0_cell_129 rfl ?_
                obtain ⟨z132, hz132, hF⟩ := ob hF
                refine vc_Vr (wr := ([(a0, .inr (0, [.ref b0, .ref hq, .ref tx]))])) 135 244 13202 X 1 [.int thr] [1, 2, 3, 4, 5, 6] [0] (LW D b0 b1 b2 b3 b4 b5 n n4 cols rows kd thr bt tm rea gr vl so dy cg) rfl rfl (by decide) (by decide) (by decide) (w_X1_clusters thr _ hz132) q1001 q1002 q1003 q85 q1004 hdX1_clusters 1 rfl rfl (pass_amb hAm) ⟨Nat.le_of_ble_eq_true rfl, Nat.le_of_ble_eq_true rfl⟩ ⟨(Nat.le_of_ble_eq_true rfl), (Nat.le_of_ble_eq_true rfl)⟩ rfl rfl (Nat.le_of_ble_eq_true rfl) dX0_cell_132 rfl rfl rfl (fun a132 u132 e132 => ?_)
                obtain ⟨q132_6, e1321, rfl⟩ := e132
                have e1322 := e1321.symm
                subst e1322
                refine v_ws (ws' := ([(a0, .inr (0, [.ref b0, .ref hq, .ref tx]))] ++ LW D b0 b1 b2 b3 b4 b5 n n4 cols rows kd thr bt tm rea gr vl so dy cg ++ [(q132_6, .inl (D.1 100, n, .inl z132))])) [0, 1, 2, 3, 4, 5, 6, 7] (by decide) rfl ?_
                refine v_iload_n 136 X 1 dX0_cell_135 rfl rfl rfl ?_
                obtain ⟨z136, hz136, hF⟩ := ob hF
                refine v_iald 137 X 7 hz136 rfl dX0_cell_136 rfl ?_
                obtain rfl := Option.some.inj hF
                refine v_ws (ws' := ([(a0, .inr (0, [.ref b0, .ref hq, .ref tx]))] ++ LW D b0 b1 b2 b3 b4 b5 n n4 cols rows kd thr bt tm rea gr vl so dy cg)) [0, 1, 2, 3, 4, 5, 6] (by decide) rfl ?_
                exact v_iret X hr ⟨rfl, rfl⟩ (Nat.le_of_ble_eq_true rfl) (Nat.le_of_ble_eq_true rfl) dX0_cell_137
              · replace hF := ifn h14_5 hF
                by_cases h14_6 : v2 = 6
                · replace hF := ifp h14_6 hF
                  refine v_tableAt 138 X 6 h14_6 dX0_cell_14 (by decide) (by decide) (by rfl) (by decide) ?_
                  refine v_aload_n 139 X 0 dX0_cell_138 rfl rfl rfl ?_
                  refine v_get 142 X in_X0 0 0 rfl rfl (by decide) q245 rfl rfl dX0_cell_139 rfl ?_
                  refine v_iload_n 143 X 1 dX0_cell_142 rfl rfl rfl ?_
                  obtain ⟨z143, hz143, hF⟩ := ob hF
                  refine vc_Vi (wr := ([(a0, .inr (0, [.ref b0, .ref hq, .ref tx]))])) 146 0 0 X 1 [.int v1] [1, 2, 3, 4, 5, 6] [0] (LW D b0 b1 b2 b3 b4 b5 n n4 cols rows kd thr bt tm rea gr vl so dy cg) rfl rfl (by decide) (by decide) (by decide) (w_X1_bondsAt v1 _ hz143) q1041 q1042 q1043 q85 q1044 hdX1_bondsAt 1 rfl rfl (pass_amb hAm) ⟨Nat.le_of_ble_eq_true rfl, Nat.le_of_ble_eq_true rfl⟩ ⟨(Nat.le_of_ble_eq_true rfl), (Nat.le_of_ble_eq_true rfl)⟩ rfl rfl (Nat.le_of_ble_eq_true rfl) dX0_cell_143 rfl rfl rfl (fun r143 u143 e143 => ?_)
                  obtain ⟨e1431, rfl⟩ := e143
                  have e1432 := e1431.symm
                  subst e1432
                  refine v_ws (ws' := ([(a0, .inr (0, [.ref b0, .ref hq, .ref tx]))] ++ LW D b0 b1 b2 b3 b4 b5 n n4 cols rows kd thr bt tm rea gr vl so dy cg)) [0, 1, 2, 3, 4, 5, 6] (by decide) rfl ?_
                  obtain rfl := Option.some.inj hF
                  exact v_iret X hr ⟨rfl, rfl⟩ (Nat.le_of_ble_eq_true rfl) (Nat.le_of_ble_eq_true rfl) dX0_cell_146
                · replace hF := ifn h14_6 hF
                  refine v_tableNo 147 X dX0_cell_14 ?_ (by decide) ?_
                  · refine Classical.byContradiction (fun hh => ?_)
                    have hc : (v2).toInt = 0 ∨ (v2).toInt = 1 ∨ (v2).toInt = 2 ∨ (v2).toInt = 3 ∨ (v2).toInt = 4 ∨ (v2).toInt = 5 ∨ (v2).toInt = 6 := by omega
                    rcases hc with hc | hc | hc | hc | hc | hc | hc
                    · exact h14_0 (i32_of hc)
                    · exact h14_1 (i32_of hc)
                    · exact h14_2 (i32_of hc)
                    · exact h14_3 (i32_of hc)
                    · exact h14_4 (i32_of hc)
                    · exact h14_5 (i32_of hc)
                    · exact h14_6 (i32_of hc)
                  refine v_iconst (v := (-1)) 148 X dX0_cell_147 rfl ki_m1 ?_
                  obtain rfl := Option.some.inj hF
                  exact v_iret X hr ⟨rfl, rfl⟩ (Nat.le_of_ble_eq_true rfl) (Nat.le_of_ble_eq_true rfl) dX0_cell_148
  · replace hF := ifp h8 hF
    refine v_iconst (v := (-1)) 12 X dX0_cell_11 rfl ki_m1 ?_
    obtain rfl := Option.some.inj hF
    exact v_iret X hr ⟨rfl, rfl⟩ (Nat.le_of_ble_eq_true rfl) (Nat.le_of_ble_eq_true rfl) dX0_cell_12
theorem w_X0_cluster_57_j84 (X : CX p s m args meth c D A cX0_cluster 9 "DyeLattice") (hAm : AMB D A s) {cb sb : Nat} {q26_6 : Nat} {z26 : (Nat → Int32)} (v1 : Int32) (v2 : Int32) (v5 : Int32) (v6 : Int32) (v7 : Int32) (v8 : Int32) (s0 : Int32) (hcb : cb ≤ rmX0_cluster.cells) (hsb : sb ≤ rmX0_cluster.slots) {r : (Int32 × Int32 × Int32 × Int32 × Int32) ⊕ (Int32 × Int32 × Int32 × Int32)} (hI : ∀ y, r = .inl y → V p l e rmX0_cluster s m args below meth c D A 9 Q ([(a0, .inr (0, [.ref b0, .ref hq, .ref tx]))] ++ LW D b0 b1 b2 b3 b4 b5 n n4 cols rows kd thr bt tm rea gr vl so dy cg ++ [(q26_6, .inl (D.1 100, n, .inl z26))]) cb sb 57 [(0, .ref a0), (1, .int v1), (2, .int v2), (3, .ref q26_6), (4, .int y.1), (5, .int y.2.1), (6, .int y.2.2.1), (7, .int y.2.2.2.1), (8, .int y.2.2.2.2)] []) (hO : ∀ y, r = .inr y → (V p l e rmX0_cluster s m args below meth c D A 9 Q ([(a0, .inr (0, [.ref b0, .ref hq, .ref tx]))] ++ LW D b0 b1 b2 b3 b4 b5 n n4 cols rows kd thr bt tm rea gr vl so dy cg ++ [(q26_6, .inl (D.1 100, n, .inl z26))]) cb sb 121 [(0, .ref a0), (1, .int v1), (2, .int v2), (3, .ref q26_6), (4, .int y.1), (5, .int y.2.1), (6, .int y.2.2.1), (7, .int y.2.2.2)] [])) (hF : C_cluster_57_j84 cols rows n gr v1 v2 v5 v6 v7 v8 s0 = some r) : V p l e rmX0_cluster s m args below meth c D A 9 Q ([(a0, .inr (0, [.ref b0, .ref hq, .ref tx]))] ++ LW D b0 b1 b2 b3 b4 b5 n n4 cols rows kd thr bt tm rea gr vl so dy cg ++ [(q26_6, .inl (D.1 100, n, .inl z26))]) cb sb 84 [(0, .ref a0), (1, .int v1), (2, .int v2), (3, .ref q26_6), (5, .int v5), (6, .int v6), (7, .int v7), (8, .int v8)] [.int s0] := by
  unfold C_cluster_57_j84 at hF
  refine v_istore 86 [(4, .int s0), (0, .ref a0), (1, .int v1), (2, .int v2), (3, .ref q26_6), (5, .int v5), (6, .int v6), (7, .int v7), (8, .int v8)] X dX0_cluster_84 rfl (by decide) rfl ?_
  refine v_iinc (v := (v5 + 1)) 89 [(5, .int (v5 + 1)), (4, .int s0), (0, .ref a0), (1, .int v1), (2, .int v2), (3, .ref q26_6), (6, .int v6), (7, .int v7), (8, .int v8)] X 5 dX0_cluster_86 rfl rfl (by rfl) (by decide) rfl ?_
  refine v_iload 91 X 6 dX0_cluster_89 rfl rfl ?_
  refine v_aload_n 92 X 2 dX0_cluster_91 rfl rfl rfl ?_
  refine v_get 95 X in_X0 0 0 rfl rfl (by decide) q245 rfl rfl dX0_cluster_92 rfl ?_
  refine v_getN 98 X hAm in_X1 1 7 rfl rfl (by decide) q154 rfl rfl dX0_cluster_95 rfl ?_
  refine v_iload 100 X 8 dX0_cluster_98 rfl rfl ?_
  obtain ⟨z100, hz100, hF⟩ := ob hF
  refine v_iald 101 X 2 hz100 rfl dX0_cluster_100 rfl ?_
  refine v_iadd 102 X dX0_cluster_101 rfl ?_
  refine v_istore 104 [(6, .int (v6 + z100)), (5, .int (v5 + 1)), (4, .int s0), (0, .ref a0), (1, .int v1), (2, .int v2), (3, .ref q26_6), (7, .int v7), (8, .int v8)] X dX0_cluster_102 rfl (by decide) rfl ?_
  refine v_iload 106 X 7 dX0_cluster_104 rfl rfl ?_
  refine v_aload_n 107 X 3 dX0_cluster_106 rfl rfl rfl ?_
  refine v_iload 109 X 8 dX0_cluster_107 rfl rfl ?_
  obtain ⟨z109, hz109, hF⟩ := ob hF
  refine vc_Vi (wr := ([(q26_6, .inl (D.1 100, n, .inl z26))])) 112 cb sb X 1 [.int v8] [0, 1, 2, 3, 4, 5, 6] [7] ([(a0, .inr (0, [.ref b0, .ref hq, .ref tx]))] ++ LW D b0 b1 b2 b3 b4 b5 n n4 cols rows kd thr bt tm rea gr vl so dy cg) rfl rfl (by decide) (by decide) (by decide) (w_X0_sides v8 _ hz109) q1085 q1087 qs28 q84 q1088 hdX0_sides 0 rfl rfl (pass_amb hAm) ⟨Nat.le_of_ble_eq_true rfl, Nat.le_of_ble_eq_true rfl⟩ ⟨(by exact hcb), (by exact hsb)⟩ rfl rfl (Nat.le_of_ble_eq_true rfl) dX0_cluster_109 rfl (by show cb + 0 = cb + 0; omega) (by show sb + 0 = sb + 0; omega) (fun r109 u109 e109 => ?_)
  obtain ⟨e1091, rfl⟩ := e109
  have e1092 := e1091.symm
  subst e1092
  refine v_ws (ws' := ([(q26_6, .inl (D.1 100, n, .inl z26)), (a0, .inr (0, [.ref b0, .ref hq, .ref tx]))] ++ LW D b0 b1 b2 b3 b4 b5 n n4 cols rows kd thr bt tm rea gr vl so dy cg)) [0, 1, 2, 3, 4, 5, 6, 7] (by decide) rfl ?_
  refine v_ior 113 X dX0_cluster_112 rfl ?_
  refine v_istore 115 [(7, .int (v7 ||| z109)), (6, .int (v6 + z100)), (5, .int (v5 + 1)), (4, .int s0), (0, .ref a0), (1, .int v1), (2, .int v2), (3, .ref q26_6), (8, .int v8)] X dX0_cluster_113 rfl (by decide) rfl ?_
  refine v_iinc (v := (v8 + 1)) 118 [(8, .int (v8 + 1)), (7, .int (v7 ||| z109)), (6, .int (v6 + z100)), (5, .int (v5 + 1)), (4, .int s0), (0, .ref a0), (1, .int v1), (2, .int v2), (3, .ref q26_6)] X 8 dX0_cluster_115 rfl rfl (by rfl) (by decide) rfl ?_
  refine v_goto 57 X dX0_cluster_118 (by decide) ?_
  obtain rfl := Option.some.inj hF
  refine v_ws (ws' := ([(a0, .inr (0, [.ref b0, .ref hq, .ref tx]))] ++ LW D b0 b1 b2 b3 b4 b5 n n4 cols rows kd thr bt tm rea gr vl so dy cg ++ [(q26_6, .inl (D.1 100, n, .inl z26))])) [1, 2, 3, 4, 5, 6, 7, 0] (by decide) rfl ?_
  exact v_lv [5, 6, 7, 8, 4, 3, 2, 1, 0] rfl (hI _ rfl)
theorem w_X0_cluster_57 (X : CX p s m args meth c D A cX0_cluster 9 "DyeLattice") (hAm : AMB D A s) {q26_6 : Nat} {cb sb : Nat} (hcb : cb ≤ rmX0_cluster.cells) (hsb : sb ≤ rmX0_cluster.slots) (v1 : Int32) (v2 : Int32) (z26 : (Nat → Int32)) : ∀ (fu : Nat) (x : Int32 × Int32 × Int32 × Int32 × Int32) (o : (Int32 × Int32 × Int32 × Int32)), loopN (fun x => C_cluster_57 v1 v2 cols rows n gr z26 x.1 x.2.1 x.2.2.1 x.2.2.2.1 x.2.2.2.2) fu x = some o → (V p l e rmX0_cluster s m args below meth c D A 9 Q ([(a0, .inr (0, [.ref b0, .ref hq, .ref tx]))] ++ LW D b0 b1 b2 b3 b4 b5 n n4 cols rows kd thr bt tm rea gr vl so dy cg ++ [(q26_6, .inl (D.1 100, n, .inl z26))]) cb sb 121 [(0, .ref a0), (1, .int v1), (2, .int v2), (3, .ref q26_6), (4, .int o.1), (5, .int o.2.1), (6, .int o.2.2.1), (7, .int o.2.2.2)] []) → V p l e rmX0_cluster s m args below meth c D A 9 Q ([(a0, .inr (0, [.ref b0, .ref hq, .ref tx]))] ++ LW D b0 b1 b2 b3 b4 b5 n n4 cols rows kd thr bt tm rea gr vl so dy cg ++ [(q26_6, .inl (D.1 100, n, .inl z26))]) cb sb 57 [(0, .ref a0), (1, .int v1), (2, .int v2), (3, .ref q26_6), (4, .int x.1), (5, .int x.2.1), (6, .int x.2.2.1), (7, .int x.2.2.2.1), (8, .int x.2.2.2.2)] [] := by
  refine v_loop (fun (x : Int32 × Int32 × Int32 × Int32 × Int32) => V p l e rmX0_cluster s m args below meth c D A 9 Q ([(a0, .inr (0, [.ref b0, .ref hq, .ref tx]))] ++ LW D b0 b1 b2 b3 b4 b5 n n4 cols rows kd thr bt tm rea gr vl so dy cg ++ [(q26_6, .inl (D.1 100, n, .inl z26))]) cb sb 57 [(0, .ref a0), (1, .int v1), (2, .int v2), (3, .ref q26_6), (4, .int x.1), (5, .int x.2.1), (6, .int x.2.2.1), (7, .int x.2.2.2.1), (8, .int x.2.2.2.2)] []) (fun (o : (Int32 × Int32 × Int32 × Int32)) => V p l e rmX0_cluster s m args below meth c D A 9 Q ([(a0, .inr (0, [.ref b0, .ref hq, .ref tx]))] ++ LW D b0 b1 b2 b3 b4 b5 n n4 cols rows kd thr bt tm rea gr vl so dy cg ++ [(q26_6, .inl (D.1 100, n, .inl z26))]) cb sb 121 [(0, .ref a0), (1, .int v1), (2, .int v2), (3, .ref q26_6), (4, .int o.1), (5, .int o.2.1), (6, .int o.2.2.1), (7, .int o.2.2.2)] []) ?_
  rintro ⟨v4, v5, v6, v7, v8⟩ r hF hI hO
  replace hF : C_cluster_57 v1 v2 cols rows n gr z26 v4 v5 v6 v7 v8 = some r := hF
  show V p l e rmX0_cluster s m args below meth c D A 9 Q ([(a0, .inr (0, [.ref b0, .ref hq, .ref tx]))] ++ LW D b0 b1 b2 b3 b4 b5 n n4 cols rows kd thr bt tm rea gr vl so dy cg ++ [(q26_6, .inl (D.1 100, n, .inl z26))]) cb sb 57 [(0, .ref a0), (1, .int v1), (2, .int v2), (3, .ref q26_6), (4, .int v4), (5, .int v5), (6, .int v6), (7, .int v7), (8, .int v8)] []
  unfold C_cluster_57 at hF
  refine v_iload 59 X 8 dX0_cluster_57 rfl rfl ?_
  refine v_aload_n 60 X 3 dX0_cluster_59 rfl rfl rfl ?_
  refine v_alen 61 X 7 0 rfl rfl rfl dX0_cluster_60 rfl ?_
  refine v_icmp_ge 64 121 X dX0_cluster_61 rfl (by decide) (fun h61 => ?_) (fun h61 => ?_)
  · replace hF := ifp h61 hF
    obtain rfl := Option.some.inj hF
    exact v_lv [0, 1, 2, 3, 4, 5, 6, 7] rfl ((hO _ rfl))
  · replace hF := ifn h61 hF
    refine v_aload_n 65 X 3 dX0_cluster_64 rfl rfl rfl ?_
    refine v_iload 67 X 8 dX0_cluster_65 rfl rfl ?_
    obtain ⟨z67, hz67, hF⟩ := ob hF
    refine v_iald 68 X 7 hz67 rfl dX0_cluster_67 rfl ?_
    refine v_iload_n 69 X 1 dX0_cluster_68 rfl rfl rfl ?_
    refine v_icmp_ne 72 115 X dX0_cluster_69 rfl (by decide) (fun h69 => ?_) (fun h69 => ?_)
    · replace hF := ifn h69 hF
      refine v_iinc (v := (v8 + 1)) 118 [(8, .int (v8 + 1)), (0, .ref a0), (1, .int v1), (2, .int v2), (3, .ref q26_6), (4, .int v4), (5, .int v5), (6, .int v6), (7, .int v7)] X 8 dX0_cluster_115 rfl rfl (by rfl) (by decide) rfl ?_
      refine v_goto 57 X dX0_cluster_118 (by decide) ?_
      obtain rfl := Option.some.inj hF
      exact v_lv [1, 2, 3, 4, 5, 6, 7, 8, 0] rfl (hI _ rfl)
    · replace hF := ifp h69 hF
      refine v_iload 74 X 5 dX0_cluster_72 rfl rfl ?_
      refine v_if_ne 77 82 X dX0_cluster_74 rfl (by decide) (fun h74 => ?_) (fun h74 => ?_)
      · replace hF := ifn h74 hF
        refine v_iload 84 X 4 dX0_cluster_82 rfl rfl ?_
        exact v_lv [0, 1, 2, 3, 5, 6, 7, 8] rfl (w_X0_cluster_57_j84 X hAm v1 v2 v5 v6 v7 v8 v4 hcb hsb hI hO hF)
      · replace hF := ifp h74 hF
        refine v_iload 79 X 8 dX0_cluster_77 rfl rfl ?_
        refine v_goto 84 X dX0_cluster_79 (by decide) ?_
        exact v_lv [0, 1, 2, 3, 5, 6, 7, 8] rfl (w_X0_cluster_57_j84 X hAm v1 v2 v5 v6 v7 v8 v8 hcb hsb hI hO hF)
theorem w_X0_cluster (v1 : Int32) (v2 : Int32) (r : Int32) (hF : C_cluster cols rows thr kd n n4 vl gr v1 v2 = some r) : CTi l yX0_cluster cX0_cluster 9 (Option.some Jvm.ClassFile.FieldType.int) rmX0_cluster D ([(a0, .inr (0, [.ref b0, .ref hq, .ref tx]))] ++ LW D b0 b1 b2 b3 b4 b5 n n4 cols rows kd thr bt tm rea gr vl so dy cg) [.ref a0, .int v1, .int v2] (AMB D) (fun r1 u => r1 = r ∧ u = ([(a0, .inr (0, [.ref b0, .ref hq, .ref tx]))] ++ LW D b0 b1 b2 b3 b4 b5 n n4 cols rows kd thr bt tm rea gr vl so dy cg)) := by
  refine m_i (by decide) (Nat.le_of_ble_eq_true rfl) ?_
  intro p e s m args below meth c A B
  obtain ⟨X, hr, hAm, -, hnm, hnmd⟩ := B
  replace X : CX p s m args meth c D A cX0_cluster 9 "DyeLattice" := X
  refine v_lv (lv' := [(0, .ref a0), (1, .int v1), (2, .int v2)]) [0, 1, 2] rfl ?_
  unfold C_cluster at hF
  refine v_iload_n 1 X 1 dX0_cluster_0 rfl rfl rfl ?_
  refine v_if_lt 4 13 X dX0_cluster_1 rfl (by decide) (fun h1 => ?_) (fun h1 => ?_)
  · replace hF := ifp h1 hF
    refine v_iconst (v := (-1)) 14 X dX0_cluster_13 rfl ki_m1 ?_
    obtain rfl := Option.some.inj hF
    exact v_iret X hr ⟨rfl, rfl⟩ (Nat.le_of_ble_eq_true rfl) (Nat.le_of_ble_eq_true rfl) dX0_cluster_14
  · replace hF := ifn h1 hF
    refine v_iload_n 5 X 2 dX0_cluster_4 rfl rfl rfl ?_
    refine v_iconst (v := 0) 6 X dX0_cluster_5 rfl ki_0 ?_
    refine v_iconst (v := 5) 7 X dX0_cluster_6 rfl ki_5 ?_
    obtain ⟨z7, hz7, hF⟩ := ob hF
    refine v_mSi 10 X 3 [.int v2, .int 0, .int 5] (w_X0_isBetween ([(a0, .inr (0, [.ref b0, .ref hq, .ref tx]))] ++ LW D b0 b1 b2 b3 b4 b5 n n4 cols rows kd thr bt tm rea gr vl so dy cg) v2 0 5 _ hz7) q260 q261 q84 q262 hdX0_isBetween pass_no ⟨rfl, rfl⟩ ⟨Nat.le_of_ble_eq_true rfl, Nat.le_of_ble_eq_true rfl⟩ ⟨(Nat.le_of_ble_eq_true rfl), (Nat.le_of_ble_eq_true rfl)⟩ rfl rfl (Nat.le_of_ble_eq_true rfl) dX0_cluster_7 rfl ?_
    refine v_if_ne 13 15 X dX0_cluster_10 rfl (by decide) (fun h10 => ?_) (fun h10 => ?_)
    · replace hF := ifn h10 hF
      refine v_aload_n 16 X 0 dX0_cluster_15 rfl rfl rfl ?_
      refine v_get 19 X in_X0 0 0 rfl rfl (by decide) q245 rfl rfl dX0_cluster_16 rfl ?_
      refine v_aload_n 20 X 0 dX0_cluster_19 rfl rfl rfl ?_
      refine v_get 23 X in_X0 0 0 rfl rfl (by decide) q245 rfl rfl dX0_cluster_20 rfl ?_
      refine v_getN 26 X hAm in_X1 1 3 rfl rfl (by decide) q145 rfl rfl dX0_cluster_23 rfl ?_
      obtain ⟨z26, hz26, hF⟩ := ob hF
      refine vc_Vr (wr := ([(a0, .inr (0, [.ref b0, .ref hq, .ref tx]))])) 29 244 13202 X 1 [.int thr] [1, 2, 3, 4, 5, 6] [0] (LW D b0 b1 b2 b3 b4 b5 n n4 cols rows kd thr bt tm rea gr vl so dy cg) rfl rfl (by decide) (by decide) (by decide) (w_X1_clusters thr _ hz26) q1001 q1002 q1003 q85 q1004 hdX1_clusters 1 rfl rfl (pass_amb hAm) ⟨Nat.le_of_ble_eq_true rfl, Nat.le_of_ble_eq_true rfl⟩ ⟨(Nat.le_of_ble_eq_true rfl), (Nat.le_of_ble_eq_true rfl)⟩ rfl rfl (Nat.le_of_ble_eq_true rfl) dX0_cluster_26 rfl rfl rfl (fun a26 u26 e26 => ?_)
      obtain ⟨q26_6, e261, rfl⟩ := e26
      have e262 := e261.symm
      subst e262
      refine v_ws (ws' := ([(a0, .inr (0, [.ref b0, .ref hq, .ref tx]))] ++ LW D b0 b1 b2 b3 b4 b5 n n4 cols rows kd thr bt tm rea gr vl so dy cg ++ [(q26_6, .inl (D.1 100, n, .inl z26))])) [0, 1, 2, 3, 4, 5, 6, 7] (by decide) rfl ?_
      refine v_astore_n 30 [(3, .ref q26_6), (0, .ref a0), (1, .int v1), (2, .int v2)] X dX0_cluster_29 rfl rfl (by decide) rfl ?_
      refine v_iload_n 31 X 2 dX0_cluster_30 rfl rfl rfl ?_
      refine v_aload_n 32 X 0 dX0_cluster_31 rfl rfl rfl ?_
      obtain ⟨z32, hz32, hF⟩ := ob hF
      refine vc_Si (wr := ([(a0, .inr (0, [.ref b0, .ref hq, .ref tx]))] ++ LW D b0 b1 b2 b3 b4 b5 n n4 cols rows kd thr bt tm rea gr vl so dy cg)) 35 244 13202 X 1 [.ref q26_6] [7] [0, 1, 2, 3, 4, 5, 6] ([(q26_6, .inl (D.1 100, n, .inl z26))]) rfl rfl (by decide) (by decide) (by decide) (w_X0_countOf _ hz32) q1028 q1029 q84 q1030 hdX0_countOf (pass_amb hAm) ⟨Nat.le_of_ble_eq_true rfl, Nat.le_of_ble_eq_true rfl⟩ ⟨(Nat.le_of_ble_eq_true rfl), (Nat.le_of_ble_eq_true rfl)⟩ rfl rfl (Nat.le_of_ble_eq_true rfl) dX0_cluster_32 rfl rfl rfl (fun r32 u32 e32 => ?_)
      obtain ⟨e321, rfl⟩ := e32
      have e322 := e321.symm
      subst e322
      refine v_ws (ws' := ([(a0, .inr (0, [.ref b0, .ref hq, .ref tx]))] ++ LW D b0 b1 b2 b3 b4 b5 n n4 cols rows kd thr bt tm rea gr vl so dy cg ++ [(q26_6, .inl (D.1 100, n, .inl z26))])) [0, 1, 2, 3, 4, 5, 6, 7] (by decide) rfl ?_
      refine v_icmp_lt 38 41 X dX0_cluster_35 rfl (by decide) (fun h35 => ?_) (fun h35 => ?_)
      · replace hF := ifp h35 hF
        refine v_bipush (v := (-9)) 43 X dX0_cluster_41 rfl kb_m9 ?_
        refine v_istore 45 [(4, .int (-9)), (3, .ref q26_6), (0, .ref a0), (1, .int v1), (2, .int v2)] X dX0_cluster_43 rfl (by decide) rfl ?_
        refine v_iconst (v := 0) 46 X dX0_cluster_45 rfl ki_0 ?_
        refine v_istore 48 [(5, .int 0), (4, .int (-9)), (3, .ref q26_6), (0, .ref a0), (1, .int v1), (2, .int v2)] X dX0_cluster_46 rfl (by decide) rfl ?_
        refine v_iconst (v := 0) 49 X dX0_cluster_48 rfl ki_0 ?_
        refine v_istore 51 [(6, .int 0), (5, .int 0), (4, .int (-9)), (3, .ref q26_6), (0, .ref a0), (1, .int v1), (2, .int v2)] X dX0_cluster_49 rfl (by decide) rfl ?_
        refine v_iconst (v := 0) 52 X dX0_cluster_51 rfl ki_0 ?_
        refine v_istore 54 [(7, .int 0), (6, .int 0), (5, .int 0), (4, .int (-9)), (3, .ref q26_6), (0, .ref a0), (1, .int v1), (2, .int v2)] X dX0_cluster_52 rfl (by decide) rfl ?_
        refine v_iconst (v := 0) 55 X dX0_cluster_54 rfl ki_0 ?_
        refine v_istore 57 [(8, .int 0), (7, .int 0), (6, .int 0), (5, .int 0), (4, .int (-9)), (3, .ref q26_6), (0, .ref a0), (1, .int v1), (2, .int v2)] X dX0_cluster_55 rfl (by decide) rfl ?_
        obtain ⟨z57, hz57, hF⟩ := ob hF
        refine v_lv [6, 7, 8, 5, 4, 3, 2, 1, 0] rfl (w_X0_cluster_57 X hAm (Nat.le_of_ble_eq_true rfl) (Nat.le_of_ble_eq_true rfl) v1 v2 z26 _ ((-9), 0, 0, 0, 0) _ hz57 ?_)
        refine v_iload_n 122 X 2 dX0_cluster_121 rfl rfl rfl ?_
        by_cases h122_0 : v2 = 0
        · replace hF := ifp h122_0 hF
          refine v_tableAt 152 X 0 h122_0 dX0_cluster_122 (by decide) (by decide) (by rfl) (by decide) ?_
          refine v_iload 154 X 4 dX0_cluster_152 rfl rfl ?_
          obtain rfl := Option.some.inj hF
          refine v_ws (ws' := ([(a0, .inr (0, [.ref b0, .ref hq, .ref tx]))] ++ LW D b0 b1 b2 b3 b4 b5 n n4 cols rows kd thr bt tm rea gr vl so dy cg)) [0, 1, 2, 3, 4, 5, 6] (by decide) rfl ?_
          exact v_iret X hr ⟨rfl, rfl⟩ (Nat.le_of_ble_eq_true rfl) (Nat.le_of_ble_eq_true rfl) dX0_cluster_154
        · replace hF := ifn h122_0 hF
          by_cases h122_1 : v2 = 1
          · replace hF := ifp h122_1 hF
            refine v_tableAt 155 X 1 h122_1 dX0_cluster_122 (by decide) (by decide) (by rfl) (by decide) ?_
            refine v_iload 157 X 5 dX0_cluster_155 rfl rfl ?_
            obtain rfl := Option.some.inj hF
            refine v_ws (ws' := ([(a0, .inr (0, [.ref b0, .ref hq, .ref tx]))] ++ LW D b0 b1 b2 b3 b4 b5 n n4 cols rows kd thr bt tm rea gr vl so dy cg)) [0, 1, 2, 3, 4, 5, 6] (by decide) rfl ?_
            exact v_iret X hr ⟨rfl, rfl⟩ (Nat.le_of_ble_eq_true rfl) (Nat.le_of_ble_eq_true rfl) dX0_cluster_157
          · replace hF := ifn h122_1 hF
            by_cases h122_2 : v2 = 2
            · replace hF := ifp h122_2 hF
              refine v_tableAt 158 X 2 h122_2 dX0_cluster_122 (by decide) (by decide) (by rfl) (by decide) ?_
              refine v_iload 160 X 6 dX0_cluster_158 rfl rfl ?_
              obtain rfl := Option.some.inj hF
              refine v_ws (ws' := ([(a0, .inr (0, [.ref b0, .ref hq, .ref tx]))] ++ LW D b0 b1 b2 b3 b4 b5 n n4 cols rows kd thr bt tm rea gr vl so dy cg)) [0, 1, 2, 3, 4, 5, 6] (by decide) rfl ?_
              exact v_iret X hr ⟨rfl, rfl⟩ (Nat.le_of_ble_eq_true rfl) (Nat.le_of_ble_eq_true rfl) dX0_cluster_160
            · replace hF := ifn h122_2 hF
              by_cases h122_3 : v2 = 3
              · replace hF := ifp h122_3 hF
                refine v_tableAt 161 X 3 h122_3 dX0_cluster_122 (by decide) (by decide) (by rfl) (by decide) ?_
                refine v_iload 163 X 7 dX0_cluster_161 rfl rfl ?_
                obtain rfl := Option.some.inj hF
                refine v_ws (ws' := ([(a0, .inr (0, [.ref b0, .ref hq, .ref tx]))] ++ LW D b0 b1 b2 b3 b4 b5 n n4 cols rows kd thr bt tm rea gr vl so dy cg)) [0, 1, 2, 3, 4, 5, 6] (by decide) rfl ?_
                exact v_iret X hr ⟨rfl, rfl⟩ (Nat.le_of_ble_eq_true rfl) (Nat.le_of_ble_eq_true rfl) dX0_cluster_163
              · replace hF := ifn h122_3 hF
                refine v_tableNo 164 X dX0_cluster_122 ?_ (by decide) ?_
                · refine Classical.byContradiction (fun hh => ?_)
                  have hc : (v2).toInt = 0 ∨ (v2).toInt = 1 ∨ (v2).toInt = 2 ∨ (v2).toInt = 3 := by omega
                  rcases hc with hc | hc | hc | hc
                  · exact h122_0 (i32_of hc)
                  · exact h122_1 (i32_of hc)
                  · exact h122_2 (i32_of hc)
                  · exact h122_3 (i32_of hc)
                refine v_aload_n 165 X 0 dX0_cluster_164 rfl rfl rfl ?_
                refine v_iload_n 166 X 1 dX0_cluster_165 rfl rfl rfl ?_
                refine v_iload_n 167 X 2 dX0_cluster_166 rfl rfl rfl ?_
                refine v_iconst (v := 5) 168 X dX0_cluster_167 rfl ki_5 ?_
                refine v_icmp_ne 171 175 X dX0_cluster_168 rfl (by decide) (fun h168 => ?_) (fun h168 => ?_)
                · replace hF := ifn h168 hF
                  refine v_iconst (v := 0) 176 X dX0_cluster_175 rfl ki_0 ?_
                  refine v_aload_n 177 X 3 dX0_cluster_176 rfl rfl rfl ?_
                  obtain ⟨z177, hz177, hF⟩ := ob hF
                  refine v_mVi 180 X 3 [.int v1, .int 0, .ref q26_6] (w_X0_bondsOf v1 0 _ hz177) q1089 q1091 qs29 q84 q1092 hdX0_bondsOf 0 rfl rfl (pass_amb hAm) ⟨rfl, rfl⟩ ⟨Nat.le_of_ble_eq_true rfl, Nat.le_of_ble_eq_true rfl⟩ ⟨(Nat.le_of_ble_eq_true rfl), (Nat.le_of_ble_eq_true rfl)⟩ rfl rfl (Nat.le_of_ble_eq_true rfl) dX0_cluster_177 rfl ?_
                  obtain rfl := Option.some.inj hF
                  refine v_ws (ws' := ([(a0, .inr (0, [.ref b0, .ref hq, .ref tx]))] ++ LW D b0 b1 b2 b3 b4 b5 n n4 cols rows kd thr bt tm rea gr vl so dy cg)) [0, 1, 2, 3, 4, 5, 6] (by decide) rfl ?_
                  exact v_iret X hr ⟨rfl, rfl⟩ (Nat.le_of_ble_eq_true rfl) (Nat.le_of_ble_eq_true rfl) dX0_cluster_180
                · replace hF := ifp h168 hF
                  refine v_iconst (v := 1) 172 X dX0_cluster_171 rfl ki_1 ?_
                  refine v_goto 176 X dX0_cluster_172 (by decide) ?_
                  refine v_aload_n 177 X 3 dX0_cluster_176 rfl rfl rfl ?_
                  obtain ⟨z177, hz177, hF⟩ := ob hF
                  refine v_mVi 180 X 3 [.int v1, .int 1, .ref q26_6] (w_X0_bondsOf v1 1 _ hz177) q1089 q1091 qs29 q84 q1092 hdX0_bondsOf 0 rfl rfl (pass_amb hAm) ⟨rfl, rfl⟩ ⟨Nat.le_of_ble_eq_true rfl, Nat.le_of_ble_eq_true rfl⟩ ⟨(Nat.le_of_ble_eq_true rfl), (Nat.le_of_ble_eq_true rfl)⟩ rfl rfl (Nat.le_of_ble_eq_true rfl) dX0_cluster_177 rfl ?_
                  obtain rfl := Option.some.inj hF
                  refine v_ws (ws' := ([(a0, .inr (0, [.ref b0, .ref hq, .ref tx]))] ++ LW D b0 b1 b2 b3 b4 b5 n n4 cols rows kd thr bt tm rea gr vl so dy cg)) [0, 1, 2, 3, 4, 5, 6] (by decide) rfl ?_
                  exact v_iret X hr ⟨rfl, rfl⟩ (Nat.le_of_ble_eq_true rfl) (Nat.le_of_ble_eq_true rfl) dX0_cluster_180
      · replace hF := ifn h35 hF
        refine v_bipush (v := (-9)) 40 X dX0_cluster_38 rfl kb_m9 ?_
        obtain rfl := Option.some.inj hF
        refine v_ws (ws' := ([(a0, .inr (0, [.ref b0, .ref hq, .ref tx]))] ++ LW D b0 b1 b2 b3 b4 b5 n n4 cols rows kd thr bt tm rea gr vl so dy cg)) [0, 1, 2, 3, 4, 5, 6] (by decide) rfl ?_
        exact v_iret X hr ⟨rfl, rfl⟩ (Nat.le_of_ble_eq_true rfl) (Nat.le_of_ble_eq_true rfl) dX0_cluster_40
    · replace hF := ifp h10 hF
      refine v_iconst (v := (-1)) 14 X dX0_cluster_13 rfl ki_m1 ?_
      obtain rfl := Option.some.inj hF
      exact v_iret X hr ⟨rfl, rfl⟩ (Nat.le_of_ble_eq_true rfl) (Nat.le_of_ble_eq_true rfl) dX0_cluster_14
end
