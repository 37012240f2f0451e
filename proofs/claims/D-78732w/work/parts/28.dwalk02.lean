set_option maxRecDepth 100000
set_option maxHeartbeats 4000000
section
variable {p : Program} {l : Launch} {e : Env} {s : State} {m : MethodId} {args : Array Value} {below : List Frame} {meth : Method} {c : Code} {D : va_G} {A : Nat → Prop} {Q : State → Prop} {ws : va_W} {t1 t2 bm bc a0 hq tx : Nat} {k0 k1 k2 : Int32} {mk clu : Nat → Int32} {b0 b1 b2 b3 b4 b5 n n4 kd : Nat} {cols rows thr bt tm rea : Int32} {gr so dy cg : Nat → Int32} {vl : Nat → Nat}
theorem w_X0_thresholdBetween (v1 : Int32) (v2 : Int32) (r : Int32) (hF : C_thresholdBetween cols rows kd n n4 vl gr v1 v2 = some r) : CTi l yX0_thresholdBetween cX0_thresholdBetween 3 (Option.some Jvm.ClassFile.FieldType.int) rmX0_thresholdBetween D ([(a0, .inr (0, [.ref b0, .ref hq, .ref tx]))] ++ LW D b0 b1 b2 b3 b4 b5 n n4 cols rows kd thr bt tm rea gr vl so dy cg) [.ref a0, .int v1, .int v2] (AMB D) (fun r1 u => r1 = r ∧ u = ([(a0, .inr (0, [.ref b0, .ref hq, .ref tx]))] ++ LW D b0 b1 b2 b3 b4 b5 n n4 cols rows kd thr bt tm rea gr vl so dy cg)) := by
  refine m_i (by decide) (Nat.le_of_ble_eq_true rfl) ?_
  intro p e s m args below meth c A B
  obtain ⟨X, hr, hAm, -, hnm, hnmd⟩ := B
  replace X : CX p s m args meth c D A cX0_thresholdBetween 3 "DyeLattice" := X
  refine v_lv (lv' := [(0, .ref a0), (1, .int v1), (2, .int v2)]) [0, 1, 2] rfl ?_
  unfold C_thresholdBetween at hF
  refine v_aload_n 1 X 0 dX0_thresholdBetween_0 rfl rfl rfl ?_
  refine v_get 4 X in_X0 0 0 rfl rfl (by decide) q245 rfl rfl dX0_thresholdBetween_1 rfl ?_
  refine v_iload_n 5 X 1 dX0_thresholdBetween_4 rfl rfl rfl ?_
  obtain ⟨z5, hz5, hF⟩ := ob hF
  refine vc_Vi (wr := ([(a0, .inr (0, [.ref b0, .ref hq, .ref tx]))])) 8 0 0 X 1 [.int v1] [1, 2, 3, 4, 5, 6] [0] (LW D b0 b1 b2 b3 b4 b5 n n4 cols rows kd thr bt tm rea gr vl so dy cg) rfl rfl (by decide) (by decide) (by decide) (w_X1_isCell v1 _ hz5) q414 q391 q392 q85 q393 hdX1_isCell 1 rfl rfl (pass_amb hAm) ⟨Nat.le_of_ble_eq_true rfl, Nat.le_of_ble_eq_true rfl⟩ ⟨(Nat.le_of_ble_eq_true rfl), (Nat.le_of_ble_eq_true rfl)⟩ rfl rfl (Nat.le_of_ble_eq_true rfl) dX0_thresholdBetween_5 rfl rfl rfl (fun r5 u5 e5 => ?_)
  obtain ⟨e51, rfl⟩ := e5
  have e52 := e51.symm
  subst e52
  refine v_ws (ws' := ([(a0, .inr (0, [.ref b0, .ref hq, .ref tx]))] ++ LW D b0 b1 b2 b3 b4 b5 n n4 cols rows kd thr bt tm rea gr vl so dy cg)) [0, 1, 2, 3, 4, 5, 6] (by decide) rfl ?_
  refine v_if_eq 11 22 X dX0_thresholdBetween_8 rfl (by decide) (fun h8 => ?_) (fun h8 => ?_)
  · replace hF := ifp h8 hF
    refine v_iconst (v := (-1)) 23 X dX0_thresholdBetween_22 rfl ki_m1 ?_
    obtain rfl := Option.some.inj hF
    exact v_iret X hr ⟨rfl, rfl⟩ (Nat.le_of_ble_eq_true rfl) (Nat.le_of_ble_eq_true rfl) dX0_thresholdBetween_23
  · replace hF := ifn h8 hF
    refine v_aload_n 12 X 0 dX0_thresholdBetween_11 rfl rfl rfl ?_
    refine v_get 15 X in_X0 0 0 rfl rfl (by decide) q245 rfl rfl dX0_thresholdBetween_12 rfl ?_
    refine v_iload_n 16 X 2 dX0_thresholdBetween_15 rfl rfl rfl ?_
    obtain ⟨z16, hz16, hF⟩ := ob hF
    refine vc_Vi (wr := ([(a0, .inr (0, [.ref b0, .ref hq, .ref tx]))])) 19 0 0 X 1 [.int v2] [1, 2, 3, 4, 5, 6] [0] (LW D b0 b1 b2 b3 b4 b5 n n4 cols rows kd thr bt tm rea gr vl so dy cg) rfl rfl (by decide) (by decide) (by decide) (w_X1_isCell v2 _ hz16) q414 q391 q392 q85 q393 hdX1_isCell 1 rfl rfl (pass_amb hAm) ⟨Nat.le_of_ble_eq_true rfl, Nat.le_of_ble_eq_true rfl⟩ ⟨(Nat.le_of_ble_eq_true rfl), (Nat.le_of_ble_eq_true rfl)⟩ rfl rfl (Nat.le_of_ble_eq_true rfl) dX0_thresholdBetween_16 rfl rfl rfl (fun r16 u16 e16 => ?_)
    obtain ⟨e161, rfl⟩ := e16
    have e162 := e161.symm
    subst e162
    refine v_ws (ws' := ([(a0, .inr (0, [.ref b0, .ref hq, .ref tx]))] ++ LW D b0 b1 b2 b3 b4 b5 n n4 cols rows kd thr bt tm rea gr vl so dy cg)) [0, 1, 2, 3, 4, 5, 6] (by decide) rfl ?_
    refine v_if_ne 22 24 X dX0_thresholdBetween_19 rfl (by decide) (fun h19 => ?_) (fun h19 => ?_)
    · replace hF := ifn h19 hF
      refine v_aload_n 25 X 0 dX0_thresholdBetween_24 rfl rfl rfl ?_
      refine v_iload_n 26 X 1 dX0_thresholdBetween_25 rfl rfl rfl ?_
      refine v_iload_n 27 X 2 dX0_thresholdBetween_26 rfl rfl rfl ?_
      refine vl_of ?_
      refine vl_make 32 1 3 X hAm 8 (by decide) (by decide) (x := yX0_thresholdBetween) rfl hnmd rfl rfl sok8 rfl [.ref a0, .int v1, .int v2] rfl rfl (lam_fit rfl) rfl (Nat.le_of_ble_eq_true rfl) (Nat.le_of_ble_eq_true rfl) (Nat.le_of_ble_eq_true rfl) dX0_thresholdBetween_27 rfl rfl rfl (fun q27 => ?_)
      obtain ⟨z32, hz32, hF⟩ := ob hF
      refine vl_Si (wr := ([] : va_W)) 35 37 1470 X 1 [.ref q27] [0, 1, 2, 3, 4, 5, 6] [] ([(a0, .inr (0, [.ref b0, .ref hq, .ref tx]))] ++ LW D b0 b1 b2 b3 b4 b5 n n4 cols rows kd thr bt tm rea gr vl so dy cg) rfl rfl (by decide) (by decide) (by decide) (w_X1_smallest_b _ hz32) q1148 q1122 q85 q1123 hdX1_smallest (aml_blind hAm) (aml_xp hAm (List.forall_mem_cons.mpr ⟨Or.inl (List.Mem.head _), (fun _ h => by cases h)⟩)) ⟨Nat.le_of_ble_eq_true rfl, Nat.le_of_ble_eq_true rfl⟩ ⟨(Nat.le_of_ble_eq_true rfl), (Nat.le_of_ble_eq_true rfl)⟩ rfl rfl (Nat.le_of_ble_eq_true rfl) dX0_thresholdBetween_32 rfl rfl rfl (fun r32 u32 e32 => ?_)
      obtain ⟨e321, rfl⟩ := e32
      have e322 := e321.symm
      subst e322
      refine v_ws (ws' := ([(a0, .inr (0, [.ref b0, .ref hq, .ref tx]))] ++ LW D b0 b1 b2 b3 b4 b5 n n4 cols rows kd thr bt tm rea gr vl so dy cg)) [0, 1, 2, 3, 4, 5, 6] (by decide) rfl ?_
      obtain rfl := Option.some.inj hF
      exact v_iret X hr ⟨rfl, rfl⟩ (Nat.le_of_ble_eq_true rfl) (Nat.le_of_ble_eq_true rfl) dX0_thresholdBetween_35
    · replace hF := ifp h19 hF
      refine v_iconst (v := (-1)) 23 X dX0_thresholdBetween_22 rfl ki_m1 ?_
      obtain rfl := Option.some.inj hF
      exact v_iret X hr ⟨rfl, rfl⟩ (Nat.le_of_ble_eq_true rfl) (Nat.le_of_ble_eq_true rfl) dX0_thresholdBetween_23
theorem w_X0_pivots_26 (X : CX p s m args meth c D A cX0_pivots 3 "DyeLattice") (hAm : AMB D A s) : ∀ (fu cb sb : Nat) (x : Int32 × Int32) (o : (Int32)), cb + fu * 4 ≤ rmX0_pivots.cells → sb + fu * 164 ≤ rmX0_pivots.slots → loopN (fun x => C_pivots_26 cols rows thr kd n n4 vl gr x.1 x.2) fu x = some o → (V p l e rmX0_pivots s m args below meth c D A 3 Q ([(a0, .inr (0, [.ref b0, .ref hq, .ref tx]))] ++ LW D b0 b1 b2 b3 b4 b5 n n4 cols rows kd thr bt tm rea gr vl so dy cg) (cb + fu * 4) (sb + fu * 164) 80 [(1, .int o)] []) → V p l e rmX0_pivots s m args below meth c D A 3 Q ([(a0, .inr (0, [.ref b0, .ref hq, .ref tx]))] ++ LW D b0 b1 b2 b3 b4 b5 n n4 cols rows kd thr bt tm rea gr vl so dy cg) cb sb 26 [(0, .ref a0), (1, .int x.1), (2, .int x.2)] [] := by
  refine v_loopA 4 164 rmX0_pivots.cells rmX0_pivots.slots (fun cb sb (x : Int32 × Int32) => V p l e rmX0_pivots s m args below meth c D A 3 Q ([(a0, .inr (0, [.ref b0, .ref hq, .ref tx]))] ++ LW D b0 b1 b2 b3 b4 b5 n n4 cols rows kd thr bt tm rea gr vl so dy cg) cb sb 26 [(0, .ref a0), (1, .int x.1), (2, .int x.2)] []) (fun cb sb (o : (Int32)) => V p l e rmX0_pivots s m args below meth c D A 3 Q ([(a0, .inr (0, [.ref b0, .ref hq, .ref tx]))] ++ LW D b0 b1 b2 b3 b4 b5 n n4 cols rows kd thr bt tm rea gr vl so dy cg) cb sb 80 [(1, .int o)] []) (fun c0 s0 c1 s1 o hc hs h => v_cs c1 s1 hc hs (h)) ?_
  rintro cb sb ⟨v1, v2⟩ r hcb hsb hF hI hO
  replace hF : C_pivots_26 cols rows thr kd n n4 vl gr v1 v2 = some r := hF
  show V p l e rmX0_pivots s m args below meth c D A 3 Q ([(a0, .inr (0, [.ref b0, .ref hq, .ref tx]))] ++ LW D b0 b1 b2 b3 b4 b5 n n4 cols rows kd thr bt tm rea gr vl so dy cg) cb sb 26 [(0, .ref a0), (1, .int v1), (2, .int v2)] []
  unfold C_pivots_26 at hF
  refine v_iload_n 27 X 2 dX0_pivots_26 rfl rfl rfl ?_
  refine v_aload_n 28 X 0 dX0_pivots_27 rfl rfl rfl ?_
  refine v_get 31 X in_X0 0 0 rfl rfl (by decide) q245 rfl rfl dX0_pivots_28 rfl ?_
  have hz31 : L_cells n = some (nI n) := rfl
  refine vc_Vi (wr := ([(a0, .inr (0, [.ref b0, .ref hq, .ref tx]))])) 34 cb sb X 0 [] [1, 2, 3, 4, 5, 6] [0] (LW D b0 b1 b2 b3 b4 b5 n n4 cols rows kd thr bt tm rea gr vl so dy cg) rfl rfl (by decide) (by decide) (by decide) (w_X1_cells _ hz31) q344 q345 q346 q85 q347 hdX1_cells 1 rfl rfl (pass_amb hAm) ⟨Nat.le_of_ble_eq_true rfl, Nat.le_of_ble_eq_true rfl⟩ ⟨(Nat.le_trans (show cb + 0 ≤ cb + 4 from by omega) hcb), (Nat.le_trans (show sb + 0 ≤ sb + 164 from by omega) hsb)⟩ rfl rfl (Nat.le_of_ble_eq_true rfl) dX0_pivots_31 rfl (by show cb + 0 = cb + 0; omega) (by show sb + 0 = sb + 0; omega) (fun r31 u31 e31 => ?_)
  obtain ⟨e311, rfl⟩ := e31
  have e312 := e311.symm
  subst e312
  refine v_ws (ws' := ([(a0, .inr (0, [.ref b0, .ref hq, .ref tx]))] ++ LW D b0 b1 b2 b3 b4 b5 n n4 cols rows kd thr bt tm rea gr vl so dy cg)) [0, 1, 2, 3, 4, 5, 6] (by decide) rfl ?_
  refine v_icmp_ge 37 80 X dX0_pivots_34 rfl (by decide) (fun h34 => ?_) (fun h34 => ?_)
  · replace hF := ifp h34 hF
    refine v_cs (cb + 4) (sb + 164) (by omega) (by omega) ?_
    obtain rfl := Option.some.inj hF
    exact v_lv [1] rfl ((hO _ rfl))
  · replace hF := ifn h34 hF
    refine v_iload_n 38 X 1 dX0_pivots_37 rfl rfl rfl ?_
    refine v_aload_n 39 X 0 dX0_pivots_38 rfl rfl rfl ?_
    refine v_get 42 X in_X0 0 0 rfl rfl (by decide) q245 rfl rfl dX0_pivots_39 rfl ?_
    refine v_iload_n 43 X 2 dX0_pivots_42 rfl rfl rfl ?_
    obtain ⟨z43, hz43, hF⟩ := ob hF
    refine vc_Vi (wr := ([(a0, .inr (0, [.ref b0, .ref hq, .ref tx]))])) 46 cb sb X 1 [.int v2] [1, 2, 3, 4, 5, 6] [0] (LW D b0 b1 b2 b3 b4 b5 n n4 cols rows kd thr bt tm rea gr vl so dy cg) rfl rfl (by decide) (by decide) (by decide) (w_X1_isOpen v2 _ hz43) q1040 q429 q430 q85 q431 hdX1_isOpen 1 rfl rfl (pass_amb hAm) ⟨Nat.le_of_ble_eq_true rfl, Nat.le_of_ble_eq_true rfl⟩ ⟨(Nat.le_trans (show cb + 0 ≤ cb + 4 from by omega) hcb), (Nat.le_trans (show sb + 0 ≤ sb + 164 from by omega) hsb)⟩ rfl rfl (Nat.le_of_ble_eq_true rfl) dX0_pivots_43 rfl (by show cb + 0 = cb + 0; omega) (by show sb + 0 = sb + 0; omega) (fun r43 u43 e43 => ?_)
    obtain ⟨e431, rfl⟩ := e43
    have e432 := e431.symm
    subst e432
    refine v_ws (ws' := ([(a0, .inr (0, [.ref b0, .ref hq, .ref tx]))] ++ LW D b0 b1 b2 b3 b4 b5 n n4 cols rows kd thr bt tm rea gr vl so dy cg)) [0, 1, 2, 3, 4, 5, 6] (by decide) rfl ?_
    refine v_if_eq 49 71 X dX0_pivots_46 rfl (by decide) (fun h46 => ?_) (fun h46 => ?_)
    · replace hF := ifp h46 hF
      refine v_iconst (v := 0) 72 X dX0_pivots_71 rfl ki_0 ?_
      refine v_iadd 73 X dX0_pivots_72 rfl ?_
      refine v_istore_n 74 [(1, .int (v1 + 0)), (0, .ref a0), (2, .int v2)] X dX0_pivots_73 rfl rfl (by decide) rfl ?_
      refine v_iinc (v := (v2 + 1)) 77 [(2, .int (v2 + 1)), (1, .int (v1 + 0)), (0, .ref a0)] X 2 dX0_pivots_74 rfl rfl (by rfl) (by decide) rfl ?_
      refine v_goto 26 X dX0_pivots_77 (by decide) ?_
      refine v_cs (cb + 4) (sb + 164) (by omega) (by omega) ?_
      obtain rfl := Option.some.inj hF
      exact v_lv [2, 1, 0] rfl (hI _ rfl)
    · replace hF := ifn h46 hF
      refine v_aload_n 50 X 0 dX0_pivots_49 rfl rfl rfl ?_
      refine v_get 53 X in_X0 0 0 rfl rfl (by decide) q245 rfl rfl dX0_pivots_50 rfl ?_
      refine v_aload_n 54 X 0 dX0_pivots_53 rfl rfl rfl ?_
      refine v_get 57 X in_X0 0 0 rfl rfl (by decide) q245 rfl rfl dX0_pivots_54 rfl ?_
      refine v_getN 60 X hAm in_X1 1 3 rfl rfl (by decide) q145 rfl rfl dX0_pivots_57 rfl ?_
      refine v_iload_n 61 X 2 dX0_pivots_60 rfl rfl rfl ?_
      obtain ⟨z61, hz61, hF⟩ := ob hF
      refine vc_Vi (wr := ([(a0, .inr (0, [.ref b0, .ref hq, .ref tx]))])) 64 (cb + 4) (sb + 164) X 2 [.int thr, .int v2] [1, 2, 3, 4, 5, 6] [0] (LW D b0 b1 b2 b3 b4 b5 n n4 cols rows kd thr bt tm rea gr vl so dy cg) rfl rfl (by decide) (by decide) (by decide) (w_X1_spans thr v2 _ hz61) q1099 q1100 q1101 q85 q1102 hdX1_spans 1 rfl rfl (pass_amb hAm) ⟨Nat.le_of_ble_eq_true rfl, Nat.le_of_ble_eq_true rfl⟩ ⟨(Nat.le_trans (show cb + 4 ≤ cb + 4 from by omega) hcb), (Nat.le_trans (show sb + 164 ≤ sb + 164 from by omega) hsb)⟩ rfl rfl (Nat.le_of_ble_eq_true rfl) dX0_pivots_61 rfl (by show cb + 4 = cb + 4; omega) (by show sb + 164 = sb + 164; omega) (fun r61 u61 e61 => ?_)
      obtain ⟨e611, rfl⟩ := e61
      have e612 := e611.symm
      subst e612
      refine v_ws (ws' := ([(a0, .inr (0, [.ref b0, .ref hq, .ref tx]))] ++ LW D b0 b1 b2 b3 b4 b5 n n4 cols rows kd thr bt tm rea gr vl so dy cg)) [0, 1, 2, 3, 4, 5, 6] (by decide) rfl ?_
      refine v_if_ne 67 71 X dX0_pivots_64 rfl (by decide) (fun h64 => ?_) (fun h64 => ?_)
      · replace hF := ifn h64 hF
        refine v_iconst (v := 0) 72 X dX0_pivots_71 rfl ki_0 ?_
        refine v_iadd 73 X dX0_pivots_72 rfl ?_
        refine v_istore_n 74 [(1, .int (v1 + 0)), (0, .ref a0), (2, .int v2)] X dX0_pivots_73 rfl rfl (by decide) rfl ?_
        refine v_iinc (v := (v2 + 1)) 77 [(2, .int (v2 + 1)), (1, .int (v1 + 0)), (0, .ref a0)] X 2 dX0_pivots_74 rfl rfl (by rfl) (by decide) rfl ?_
        refine v_goto 26 X dX0_pivots_77 (by decide) ?_
        obtain rfl := Option.some.inj hF
        exact v_lv [2, 1, 0] rfl (hI _ rfl)
      · replace hF := ifp h64 hF
        refine v_iconst (v := 1) 68 X dX0_pivots_67 rfl ki_1 ?_
        refine v_goto 72 X dX0_pivots_68 (by decide) ?_
        refine v_iadd 73 X dX0_pivots_72 rfl ?_
        refine v_istore_n 74 [(1, .int (v1 + 1)), (0, .ref a0), (2, .int v2)] X dX0_pivots_73 rfl rfl (by decide) rfl ?_
        refine v_iinc (v := (v2 + 1)) 77 [(2, .int (v2 + 1)), (1, .int (v1 + 1)), (0, .ref a0)] X 2 dX0_pivots_74 rfl rfl (by rfl) (by decide) rfl ?_
        refine v_goto 26 X dX0_pivots_77 (by decide) ?_
        obtain rfl := Option.some.inj hF
        exact v_lv [2, 1, 0] rfl (hI _ rfl)
theorem w_X0_pivots (r : Int32) (hF : C_pivots cols rows thr kd n n4 vl gr = some r) : CTi l yX0_pivots cX0_pivots 3 (Option.some Jvm.ClassFile.FieldType.int) rmX0_pivots D ([(a0, .inr (0, [.ref b0, .ref hq, .ref tx]))] ++ LW D b0 b1 b2 b3 b4 b5 n n4 cols rows kd thr bt tm rea gr vl so dy cg) [.ref a0] (AMB D) (fun r1 u => r1 = r ∧ u = ([(a0, .inr (0, [.ref b0, .ref hq, .ref tx]))] ++ LW D b0 b1 b2 b3 b4 b5 n n4 cols rows kd thr bt tm rea gr vl so dy cg)) := by
  refine m_i (by decide) (Nat.le_of_ble_eq_true rfl) ?_
  intro p e s m args below meth c A B
  obtain ⟨X, hr, hAm, -, hnm, hnmd⟩ := B
  replace X : CX p s m args meth c D A cX0_pivots 3 "DyeLattice" := X
  refine v_lv (lv' := [(0, .ref a0)]) [0] rfl ?_
  unfold C_pivots at hF
  refine v_aload_n 1 X 0 dX0_pivots_0 rfl rfl rfl ?_
  refine v_get 4 X in_X0 0 0 rfl rfl (by decide) q245 rfl rfl dX0_pivots_1 rfl ?_
  refine v_aload_n 5 X 0 dX0_pivots_4 rfl rfl rfl ?_
  refine v_get 8 X in_X0 0 0 rfl rfl (by decide) q245 rfl rfl dX0_pivots_5 rfl ?_
  refine v_getN 11 X hAm in_X1 1 3 rfl rfl (by decide) q145 rfl rfl dX0_pivots_8 rfl ?_
  refine v_bipush (v := (-9)) 13 X dX0_pivots_11 rfl kb_m9 ?_
  obtain ⟨z13, hz13, hF⟩ := ob hF
  refine vc_Vi (wr := ([(a0, .inr (0, [.ref b0, .ref hq, .ref tx]))])) 16 4 164 X 2 [.int thr, .int (-9)] [1, 2, 3, 4, 5, 6] [0] (LW D b0 b1 b2 b3 b4 b5 n n4 cols rows kd thr bt tm rea gr vl so dy cg) rfl rfl (by decide) (by decide) (by decide) (w_X1_spans thr (-9) _ hz13) q1099 q1100 q1101 q85 q1102 hdX1_spans 1 rfl rfl (pass_amb hAm) ⟨Nat.le_of_ble_eq_true rfl, Nat.le_of_ble_eq_true rfl⟩ ⟨(Nat.le_of_ble_eq_true rfl), (Nat.le_of_ble_eq_true rfl)⟩ rfl rfl (Nat.le_of_ble_eq_true rfl) dX0_pivots_13 rfl rfl rfl (fun r13 u13 e13 => ?_)
  obtain ⟨e131, rfl⟩ := e13
  have e132 := e131.symm
  subst e132
  refine v_ws (ws' := ([(a0, .inr (0, [.ref b0, .ref hq, .ref tx]))] ++ LW D b0 b1 b2 b3 b4 b5 n n4 cols rows kd thr bt tm rea gr vl so dy cg)) [0, 1, 2, 3, 4, 5, 6] (by decide) rfl ?_
  refine v_if_ne 19 22 X dX0_pivots_16 rfl (by decide) (fun h16 => ?_) (fun h16 => ?_)
  · replace hF := ifn h16 hF
    refine v_iconst (v := 0) 23 X dX0_pivots_22 rfl ki_0 ?_
    refine v_istore_n 24 [(1, .int 0), (0, .ref a0)] X dX0_pivots_23 rfl rfl (by decide) rfl ?_
    refine v_iconst (v := 0) 25 X dX0_pivots_24 rfl ki_0 ?_
    refine v_istore_n 26 [(2, .int 0), (1, .int 0), (0, .ref a0)] X dX0_pivots_25 rfl rfl (by decide) rfl ?_
    obtain ⟨z26, hz26, hF⟩ := ob hF
    refine v_lv [2, 1, 0] rfl (w_X0_pivots_26 X hAm 81 4 164 (0, 0) _ (Nat.le_of_ble_eq_true rfl) (Nat.le_of_ble_eq_true rfl) hz26 ?_)
    refine v_c0 328 13448 rfl rfl ?_
    refine v_iload_n 81 X 0 dX0_pivots_80 rfl rfl rfl ?_
    obtain rfl := Option.some.inj hF
    exact v_iret X hr ⟨rfl, rfl⟩ (Nat.le_of_ble_eq_true rfl) (Nat.le_of_ble_eq_true rfl) dX0_pivots_81
  · replace hF := ifp h16 hF
    refine v_bipush (v := (-2)) 21 X dX0_pivots_19 rfl kb_m2 ?_
    obtain rfl := Option.some.inj hF
    exact v_iret X hr ⟨rfl, rfl⟩ (Nat.le_of_ble_eq_true rfl) (Nat.le_of_ble_eq_true rfl) dX0_pivots_21
end
