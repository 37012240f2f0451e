set_option maxRecDepth 100000
set_option maxHeartbeats 4000000
section
variable {p : Program} {l : Launch} {e : Env} {s : State} {m : MethodId} {args : Array Value} {below : List Frame} {meth : Method} {c : Code} {D : va_G} {A : Nat → Prop} {Q : State → Prop} {ws : va_W} {t1 t2 bm bc a0 hq tx he ne b0u : Nat} {el : Nat → Option Nat} {hd tl : Int32} {hs : List Nat} {fst fsu : List Value} {k0 k1 k2 : Int32} {mk clu : Nat → Int32} {b0 b1 b2 b3 b4 b5 n n4 kd : Nat} {cols rows thr bt tm rea : Int32} {gr so dy cg : Nat → Int32} {vl : Nat → Nat}
theorem w_X0_setKind (v1 : Int32) (r : ((Int32 × Int32 × Int32 × (Nat → Option Nat)) ⊕ (Int32 × Int32 × Int32 × Nat × Int32 × Int32 × Int32 × Int32 × Nat × (Nat → Int32) × Nat × (Nat → Nat) × (Nat → Int32) × (Nat → Int32) × (Nat → Int32) × Int32 × Int32 × (Nat → Option Nat)))) (hF : C_setKind cols rows thr bt tm rea kd n n4 vl gr so dy cg b0 ne el hd tl hs v1 = some r) : CTi l yX0_setKind cX0_setKind 2 (Option.some Jvm.ClassFile.FieldType.int) rmX0_setKind D ([(a0, .inr (0, [.ref b0, .ref hq, .ref tx]))] ++ LW D b0 b1 b2 b3 b4 b5 n n4 cols rows kd thr bt tm rea gr vl so dy cg ++ [(hq, .inr (8, [.ref he, .int hd, .int tl])), (he, .inl (D.1 103, ne, .inr (.inr (.inr (.inr el)))))]) [.ref a0, .int v1] (HX D hs) (fun r1 u => match r with | (.inl x) => r1 = x.1 ∧ u = ([(a0, .inr (0, [.ref b0, .ref hq, .ref tx]))] ++ LW D b0 b1 b2 b3 b4 b5 n n4 cols rows kd thr bt tm rea gr vl so dy cg ++ [(hq, .inr (8, [.ref he, .int x.2.1, .int x.2.2.1])), (he, .inl (D.1 103, ne, .inr (.inr (.inr (.inr x.2.2.2)))))]) | (.inr x) => ∃ qa1 qa2 qa3 qa4 qa5 qa6 : Nat, r1 = x.1 ∧ u = ([(a0, .inr (0, [.ref qa1, .ref hq, .ref tx]))] ++ LW D qa1 qa2 qa3 qa4 qa5 qa6 x.2.2.2.2.2.2.2.2.1 x.2.2.2.2.2.2.2.2.2.2.1 x.2.1 x.2.2.1 x.2.2.2.1 x.2.2.2.2.1 x.2.2.2.2.2.1 x.2.2.2.2.2.2.1 x.2.2.2.2.2.2.2.1 x.2.2.2.2.2.2.2.2.2.1 x.2.2.2.2.2.2.2.2.2.2.2.1 x.2.2.2.2.2.2.2.2.2.2.2.2.1 x.2.2.2.2.2.2.2.2.2.2.2.2.2.1 x.2.2.2.2.2.2.2.2.2.2.2.2.2.2.1 ++ [(hq, .inr (8, [.ref he, .int x.2.2.2.2.2.2.2.2.2.2.2.2.2.2.2.1, .int x.2.2.2.2.2.2.2.2.2.2.2.2.2.2.2.2.1])), (he, .inl (D.1 103, ne, .inr (.inr (.inr (.inr x.2.2.2.2.2.2.2.2.2.2.2.2.2.2.2.2.2)))))] ++ LW D b0 b1 b2 b3 b4 b5 n n4 cols rows kd thr bt tm rea gr vl so dy cg)) := by
  refine m_i (by decide) (Nat.le_of_ble_eq_true rfl) ?_
  intro p e s m args below meth c A B
  obtain ⟨X, hr, hAm, -, hnm, hnmd⟩ := B
  obtain ⟨hAm, hH⟩ := hAm
  replace X : CX p s m args meth c D A cX0_setKind 2 "DyeLattice" := X
  refine v_lv (lv' := [(0, .ref a0), (1, .int v1)]) [0, 1] rfl ?_
  unfold C_setKind at hF
  refine v_iload_n 1 X 1 dX0_setKind_0 rfl rfl rfl ?_
  refine v_iconst (v := 0) 2 X dX0_setKind_1 rfl ki_0 ?_
  refine v_iconst (v := 2) 3 X dX0_setKind_2 rfl ki_2 ?_
  obtain ⟨z3, hz3, hF⟩ := ob hF
  refine v_mSi 6 X 3 [.int v1, .int 0, .int 2] (w_X0_isBetween ([(a0, .inr (0, [.ref b0, .ref hq, .ref tx]))] ++ LW D b0 b1 b2 b3 b4 b5 n n4 cols rows kd thr bt tm rea gr vl so dy cg ++ [(hq, .inr (8, [.ref he, .int hd, .int tl])), (he, .inl (D.1 103, ne, .inr (.inr (.inr (.inr el)))))]) v1 0 2 _ hz3) q260 q261 q84 q262 hdX0_isBetween pass_no ⟨rfl, rfl⟩ ⟨Nat.le_of_ble_eq_true rfl, Nat.le_of_ble_eq_true rfl⟩ ⟨(Nat.le_of_ble_eq_true rfl), (Nat.le_of_ble_eq_true rfl)⟩ rfl rfl (Nat.le_of_ble_eq_true rfl) dX0_setKind_3 rfl ?_
  refine v_if_ne 9 11 X dX0_setKind_6 rfl (by decide) (fun h6 => ?_) (fun h6 => ?_)
  · replace hF := ifn h6 hF
    refine v_aload_n 12 X 0 dX0_setKind_11 rfl rfl rfl ?_
    obtain ⟨z12, hz12, hF⟩ := ob hF
    refine vc_Vr (wr := ([] : va_W)) 15 6 652 X 0 [] [0, 1, 2, 3, 4, 5, 6, 7, 8] [] ([(a0, .inr (0, [.ref b0, .ref hq, .ref tx]))] ++ LW D b0 b1 b2 b3 b4 b5 n n4 cols rows kd thr bt tm rea gr vl so dy cg ++ [(hq, .inr (8, [.ref he, .int hd, .int tl])), (he, .inl (D.1 103, ne, .inr (.inr (.inr (.inr el)))))]) rfl rfl (by decide) (by decide) (by decide) (w_X0_act _ hz12) q352 q354 qs3 q84 q355 hdX0_act 0 rfl rfl (hx_pass hAm hH) ⟨Nat.le_of_ble_eq_true rfl, Nat.le_of_ble_eq_true rfl⟩ ⟨(Nat.le_of_ble_eq_true rfl), (Nat.le_of_ble_eq_true rfl)⟩ rfl rfl (Nat.le_of_ble_eq_true rfl) dX0_setKind_12 rfl rfl rfl (fun a12 u12 e12 => ?_)
    obtain ⟨q12_1, q12_2, q12_3, q12_4, q12_5, q12_6, e121, rfl⟩ := e12
    have e122 := e121.symm
    subst e122
    refine v_ws (ws' := ([(a0, .inr (0, [.ref q12_1, .ref hq, .ref tx]))] ++ LW D q12_1 q12_2 q12_3 q12_4 q12_5 q12_6 z12.2.2.2.2.2.2.2.1 z12.2.2.2.2.2.2.2.2.2.1 z12.1 z12.2.1 z12.2.2.1 z12.2.2.2.1 z12.2.2.2.2.1 z12.2.2.2.2.2.1 z12.2.2.2.2.2.2.1 z12.2.2.2.2.2.2.2.2.1 z12.2.2.2.2.2.2.2.2.2.2.1 z12.2.2.2.2.2.2.2.2.2.2.2.1 z12.2.2.2.2.2.2.2.2.2.2.2.2.1 z12.2.2.2.2.2.2.2.2.2.2.2.2.2.1 ++ [(hq, .inr (8, [.ref he, .int z12.2.2.2.2.2.2.2.2.2.2.2.2.2.2.1, .int z12.2.2.2.2.2.2.2.2.2.2.2.2.2.2.2.1])), (he, .inl (D.1 103, ne, .inr (.inr (.inr (.inr z12.2.2.2.2.2.2.2.2.2.2.2.2.2.2.2.2)))))] ++ LW D b0 b1 b2 b3 b4 b5 n n4 cols rows kd thr bt tm rea gr vl so dy cg)) [0, 1, 2, 3, 4, 5, 6, 7, 8, 9, 10, 11, 12, 13, 14] (by decide) rfl ?_
    refine v_iload_n 16 X 1 dX0_setKind_15 rfl rfl rfl ?_
    obtain ⟨z16, hz16, hF⟩ := ob hF
    refine vc_Sv (wr := ([(a0, .inr (0, [.ref q12_1, .ref hq, .ref tx])), (hq, .inr (8, [.ref he, .int z12.2.2.2.2.2.2.2.2.2.2.2.2.2.2.1, .int z12.2.2.2.2.2.2.2.2.2.2.2.2.2.2.2.1])), (he, .inl (D.1 103, ne, .inr (.inr (.inr (.inr z12.2.2.2.2.2.2.2.2.2.2.2.2.2.2.2.2)))))] ++ LW D b0 b1 b2 b3 b4 b5 n n4 cols rows kd thr bt tm rea gr vl so dy cg)) 19 7 655 X 2 [.ref q12_1, .int v1] [1, 2, 3, 4, 5, 6] [0, 7, 8, 9, 10, 11, 12, 13, 14] (LW D q12_1 q12_2 q12_3 q12_4 q12_5 q12_6 z12.2.2.2.2.2.2.2.1 z12.2.2.2.2.2.2.2.2.2.1 z12.1 z12.2.1 z12.2.2.1 z12.2.2.2.1 z12.2.2.2.2.1 z12.2.2.2.2.2.1 z12.2.2.2.2.2.2.1 z12.2.2.2.2.2.2.2.2.1 z12.2.2.2.2.2.2.2.2.2.2.1 z12.2.2.2.2.2.2.2.2.2.2.2.1 z12.2.2.2.2.2.2.2.2.2.2.2.2.1 z12.2.2.2.2.2.2.2.2.2.2.2.2.2.1) rfl rfl (by decide) (by decide) (by decide) (w_X0_changeKind v1 _ hz16) q362 q363 q84 q364 hdX0_changeKind (pass_amb hAm) ⟨Nat.le_of_ble_eq_true rfl, Nat.le_of_ble_eq_true rfl⟩ ⟨(Nat.le_of_ble_eq_true rfl), (Nat.le_of_ble_eq_true rfl)⟩ rfl rfl (Nat.le_of_ble_eq_true rfl) dX0_setKind_16 rfl rfl rfl (fun u16 e16 => ?_)
    subst e16
    refine v_ws (ws' := ([(a0, .inr (0, [.ref q12_1, .ref hq, .ref tx])), (hq, .inr (8, [.ref he, .int z12.2.2.2.2.2.2.2.2.2.2.2.2.2.2.1, .int z12.2.2.2.2.2.2.2.2.2.2.2.2.2.2.2.1])), (he, .inl (D.1 103, ne, .inr (.inr (.inr (.inr z12.2.2.2.2.2.2.2.2.2.2.2.2.2.2.2.2)))))] ++ LW D b0 b1 b2 b3 b4 b5 n n4 cols rows kd thr bt tm rea gr vl so dy cg ++ LW D q12_1 q12_2 q12_3 q12_4 q12_5 q12_6 z12.2.2.2.2.2.2.2.1 z12.2.2.2.2.2.2.2.2.2.1 z12.1 z12.2.1 z16.1 z12.2.2.2.1 z12.2.2.2.2.1 z12.2.2.2.2.2.1 z12.2.2.2.2.2.2.1 z12.2.2.2.2.2.2.2.2.1 z16.2 z12.2.2.2.2.2.2.2.2.2.2.2.1 z12.2.2.2.2.2.2.2.2.2.2.2.2.1 z12.2.2.2.2.2.2.2.2.2.2.2.2.2.1)) [0, 1, 2, 3, 4, 5, 6, 7, 8, 9, 10, 11, 12, 13, 14] (by decide) rfl ?_
    refine v_aload_n 20 X 0 dX0_setKind_19 rfl rfl rfl ?_
    refine v_get 23 X in_X0 0 0 rfl rfl (by decide) q245 rfl rfl dX0_setKind_20 rfl ?_
    obtain ⟨z23, hz23, hF⟩ := ob hF
    refine vc_Vi (wr := ([(a0, .inr (0, [.ref q12_1, .ref hq, .ref tx])), (hq, .inr (8, [.ref he, .int z12.2.2.2.2.2.2.2.2.2.2.2.2.2.2.1, .int z12.2.2.2.2.2.2.2.2.2.2.2.2.2.2.2.1])), (he, .inl (D.1 103, ne, .inr (.inr (.inr (.inr z12.2.2.2.2.2.2.2.2.2.2.2.2.2.2.2.2)))))] ++ LW D b0 b1 b2 b3 b4 b5 n n4 cols rows kd thr bt tm rea gr vl so dy cg)) 26 7 655 X 0 [] [9, 10, 11, 12, 13, 14] [0, 1, 2, 3, 4, 5, 6, 7, 8] (LW D q12_1 q12_2 q12_3 q12_4 q12_5 q12_6 z12.2.2.2.2.2.2.2.1 z12.2.2.2.2.2.2.2.2.2.1 z12.1 z12.2.1 z16.1 z12.2.2.2.1 z12.2.2.2.2.1 z12.2.2.2.2.2.1 z12.2.2.2.2.2.2.1 z12.2.2.2.2.2.2.2.2.1 z16.2 z12.2.2.2.2.2.2.2.2.2.2.2.1 z12.2.2.2.2.2.2.2.2.2.2.2.2.1 z12.2.2.2.2.2.2.2.2.2.2.2.2.2.1) rfl rfl (by decide) (by decide) (by decide) (w_X1_bonds _ hz23) q382 q383 q384 q85 q385 hdX1_bonds 9 rfl rfl (pass_amb hAm) ⟨Nat.le_of_ble_eq_true rfl, Nat.le_of_ble_eq_true rfl⟩ ⟨(Nat.le_of_ble_eq_true rfl), (Nat.le_of_ble_eq_true rfl)⟩ rfl rfl (Nat.le_of_ble_eq_true rfl) dX0_setKind_23 rfl rfl rfl (fun r23 u23 e23 => ?_)
    obtain ⟨e231, rfl⟩ := e23
    have e232 := e231.symm
    subst e232
    refine v_ws (ws' := ([(a0, .inr (0, [.ref q12_1, .ref hq, .ref tx])), (hq, .inr (8, [.ref he, .int z12.2.2.2.2.2.2.2.2.2.2.2.2.2.2.1, .int z12.2.2.2.2.2.2.2.2.2.2.2.2.2.2.2.1])), (he, .inl (D.1 103, ne, .inr (.inr (.inr (.inr z12.2.2.2.2.2.2.2.2.2.2.2.2.2.2.2.2)))))] ++ LW D b0 b1 b2 b3 b4 b5 n n4 cols rows kd thr bt tm rea gr vl so dy cg ++ LW D q12_1 q12_2 q12_3 q12_4 q12_5 q12_6 z12.2.2.2.2.2.2.2.1 z12.2.2.2.2.2.2.2.2.2.1 z12.1 z12.2.1 z16.1 z12.2.2.2.1 z12.2.2.2.2.1 z12.2.2.2.2.2.1 z12.2.2.2.2.2.2.1 z12.2.2.2.2.2.2.2.2.1 z16.2 z12.2.2.2.2.2.2.2.2.2.2.2.1 z12.2.2.2.2.2.2.2.2.2.2.2.2.1 z12.2.2.2.2.2.2.2.2.2.2.2.2.2.1)) [0, 1, 2, 3, 4, 5, 6, 7, 8, 9, 10, 11, 12, 13, 14] (by decide) rfl ?_
    obtain rfl := Option.some.inj hF
    refine v_ws (ws' := ([(a0, .inr (0, [.ref q12_1, .ref hq, .ref tx]))] ++ LW D q12_1 q12_2 q12_3 q12_4 q12_5 q12_6 z12.2.2.2.2.2.2.2.1 z12.2.2.2.2.2.2.2.2.2.1 z12.1 z12.2.1 z16.1 z12.2.2.2.1 z12.2.2.2.2.1 z12.2.2.2.2.2.1 z12.2.2.2.2.2.2.1 z12.2.2.2.2.2.2.2.2.1 z16.2 z12.2.2.2.2.2.2.2.2.2.2.2.1 z12.2.2.2.2.2.2.2.2.2.2.2.2.1 z12.2.2.2.2.2.2.2.2.2.2.2.2.2.1 ++ [(hq, .inr (8, [.ref he, .int z12.2.2.2.2.2.2.2.2.2.2.2.2.2.2.1, .int z12.2.2.2.2.2.2.2.2.2.2.2.2.2.2.2.1])), (he, .inl (D.1 103, ne, .inr (.inr (.inr (.inr z12.2.2.2.2.2.2.2.2.2.2.2.2.2.2.2.2)))))] ++ LW D b0 b1 b2 b3 b4 b5 n n4 cols rows kd thr bt tm rea gr vl so dy cg)) [0, 9, 10, 11, 12, 13, 14, 1, 2, 3, 4, 5, 6, 7, 8] (by decide) rfl ?_
    exact v_iret X hr ⟨q12_1, q12_2, q12_3, q12_4, q12_5, q12_6, rfl, rfl⟩ (Nat.le_of_ble_eq_true rfl) (Nat.le_of_ble_eq_true rfl) dX0_setKind_26
  · replace hF := ifp h6 hF
    refine v_iconst (v := (-1)) 10 X dX0_setKind_9 rfl ki_m1 ?_
    obtain rfl := Option.some.inj hF
    exact v_iret X hr ⟨rfl, rfl⟩ (Nat.le_of_ble_eq_true rfl) (Nat.le_of_ble_eq_true rfl) dX0_setKind_10
theorem w_X0_setGrain (v1 : Int32) (v2 : Int32) (r : ((Int32 × Int32 × Int32 × (Nat → Option Nat)) ⊕ (Int32 × Int32 × Int32 × Nat × Int32 × Int32 × Int32 × Int32 × Nat × (Nat → Int32) × Nat × (Nat → Nat) × (Nat → Int32) × (Nat → Int32) × (Nat → Int32) × Int32 × Int32 × (Nat → Option Nat)))) (hF : C_setGrain cols rows thr bt tm rea kd n n4 vl gr so dy cg b0 ne el hd tl hs v1 v2 = some r) : CTi l yX0_setGrain cX0_setGrain 4 (Option.some Jvm.ClassFile.FieldType.int) rmX0_setGrain D ([(a0, .inr (0, [.ref b0, .ref hq, .ref tx]))] ++ LW D b0 b1 b2 b3 b4 b5 n n4 cols rows kd thr bt tm rea gr vl so dy cg ++ [(hq, .inr (8, [.ref he, .int hd, .int tl])), (he, .inl (D.1 103, ne, .inr (.inr (.inr (.inr el)))))]) [.ref a0, .int v1, .int v2] (HX D hs) (fun r1 u => match r with | (.inl x) => r1 = x.1 ∧ u = ([(a0, .inr (0, [.ref b0, .ref hq, .ref tx]))] ++ LW D b0 b1 b2 b3 b4 b5 n n4 cols rows kd thr bt tm rea gr vl so dy cg ++ [(hq, .inr (8, [.ref he, .int x.2.1, .int x.2.2.1])), (he, .inl (D.1 103, ne, .inr (.inr (.inr (.inr x.2.2.2)))))]) | (.inr x) => ∃ qa1 qa2 qa3 qa4 qa5 qa6 : Nat, r1 = x.1 ∧ u = ([(a0, .inr (0, [.ref qa1, .ref hq, .ref tx]))] ++ LW D qa1 qa2 qa3 qa4 qa5 qa6 x.2.2.2.2.2.2.2.2.1 x.2.2.2.2.2.2.2.2.2.2.1 x.2.1 x.2.2.1 x.2.2.2.1 x.2.2.2.2.1 x.2.2.2.2.2.1 x.2.2.2.2.2.2.1 x.2.2.2.2.2.2.2.1 x.2.2.2.2.2.2.2.2.2.1 x.2.2.2.2.2.2.2.2.2.2.2.1 x.2.2.2.2.2.2.2.2.2.2.2.2.1 x.2.2.2.2.2.2.2.2.2.2.2.2.2.1 x.2.2.2.2.2.2.2.2.2.2.2.2.2.2.1 ++ [(hq, .inr (8, [.ref he, .int x.2.2.2.2.2.2.2.2.2.2.2.2.2.2.2.1, .int x.2.2.2.2.2.2.2.2.2.2.2.2.2.2.2.2.1])), (he, .inl (D.1 103, ne, .inr (.inr (.inr (.inr x.2.2.2.2.2.2.2.2.2.2.2.2.2.2.2.2.2)))))] ++ LW D b0 b1 b2 b3 b4 b5 n n4 cols rows kd thr bt tm rea gr vl so dy cg)) := by
  refine m_i (by decide) (Nat.le_of_ble_eq_true rfl) ?_
  intro p e s m args below meth c A B
  obtain ⟨X, hr, hAm, -, hnm, hnmd⟩ := B
  obtain ⟨hAm, hH⟩ := hAm
  replace X : CX p s m args meth c D A cX0_setGrain 4 "DyeLattice" := X
  refine v_lv (lv' := [(0, .ref a0), (1, .int v1), (2, .int v2)]) [0, 1, 2] rfl ?_
  unfold C_setGrain at hF
  refine v_aload_n 1 X 0 dX0_setGrain_0 rfl rfl rfl ?_
  refine v_get 4 X in_X0 0 0 rfl rfl (by decide) q245 rfl rfl dX0_setGrain_1 rfl ?_
  refine v_iload_n 5 X 1 dX0_setGrain_4 rfl rfl rfl ?_
  obtain ⟨z5, hz5, hF⟩ := ob hF
  refine vc_Vi (wr := ([(a0, .inr (0, [.ref b0, .ref hq, .ref tx])), (hq, .inr (8, [.ref he, .int hd, .int tl])), (he, .inl (D.1 103, ne, .inr (.inr (.inr (.inr el)))))])) 8 0 0 X 1 [.int v1] [1, 2, 3, 4, 5, 6] [0, 7, 8] (LW D b0 b1 b2 b3 b4 b5 n n4 cols rows kd thr bt tm rea gr vl so dy cg) rfl rfl (by decide) (by decide) (by decide) (w_X1_isCell v1 _ hz5) q414 q391 q392 q85 q393 hdX1_isCell 1 rfl rfl (pass_amb hAm) ⟨Nat.le_of_ble_eq_true rfl, Nat.le_of_ble_eq_true rfl⟩ ⟨(Nat.le_of_ble_eq_true rfl), (Nat.le_of_ble_eq_true rfl)⟩ rfl rfl (Nat.le_of_ble_eq_true rfl) dX0_setGrain_5 rfl rfl rfl (fun r5 u5 e5 => ?_)
  obtain ⟨e51, rfl⟩ := e5
  have e52 := e51.symm
  subst e52
  refine v_ws (ws' := ([(a0, .inr (0, [.ref b0, .ref hq, .ref tx])), (hq, .inr (8, [.ref he, .int hd, .int tl])), (he, .inl (D.1 103, ne, .inr (.inr (.inr (.inr el)))))] ++ LW D b0 b1 b2 b3 b4 b5 n n4 cols rows kd thr bt tm rea gr vl so dy cg)) [0, 1, 2, 3, 4, 5, 6, 7, 8] (by decide) rfl ?_
  refine v_if_eq 11 21 X dX0_setGrain_8 rfl (by decide) (fun h8 => ?_) (fun h8 => ?_)
  · replace hF := ifp h8 hF
    refine v_iconst (v := (-1)) 22 X dX0_setGrain_21 rfl ki_m1 ?_
    obtain rfl := Option.some.inj hF
    refine v_ws (ws' := ([(a0, .inr (0, [.ref b0, .ref hq, .ref tx]))] ++ LW D b0 b1 b2 b3 b4 b5 n n4 cols rows kd thr bt tm rea gr vl so dy cg ++ [(hq, .inr (8, [.ref he, .int hd, .int tl])), (he, .inl (D.1 103, ne, .inr (.inr (.inr (.inr el)))))])) [0, 3, 4, 5, 6, 7, 8, 1, 2] (by decide) rfl ?_
    exact v_iret X hr ⟨rfl, rfl⟩ (Nat.le_of_ble_eq_true rfl) (Nat.le_of_ble_eq_true rfl) dX0_setGrain_22
  · replace hF := ifn h8 hF
    refine v_iload_n 12 X 2 dX0_setGrain_11 rfl rfl rfl ?_
    refine v_iconst (v := 0) 13 X dX0_setGrain_12 rfl ki_0 ?_
    refine v_bipush (v := 99) 15 X dX0_setGrain_13 rfl kb_99 ?_
    obtain ⟨z15, hz15, hF⟩ := ob hF
    refine v_mSi 18 X 3 [.int v2, .int 0, .int 99] (w_X0_isBetween ([(a0, .inr (0, [.ref b0, .ref hq, .ref tx])), (hq, .inr (8, [.ref he, .int hd, .int tl])), (he, .inl (D.1 103, ne, .inr (.inr (.inr (.inr el)))))] ++ LW D b0 b1 b2 b3 b4 b5 n n4 cols rows kd thr bt tm rea gr vl so dy cg) v2 0 99 _ hz15) q260 q261 q84 q262 hdX0_isBetween pass_no ⟨rfl, rfl⟩ ⟨Nat.le_of_ble_eq_true rfl, Nat.le_of_ble_eq_true rfl⟩ ⟨(Nat.le_of_ble_eq_true rfl), (Nat.le_of_ble_eq_true rfl)⟩ rfl rfl (Nat.le_of_ble_eq_true rfl) dX0_setGrain_15 rfl ?_
    refine v_if_ne 21 23 X dX0_setGrain_18 rfl (by decide) (fun h18 => ?_) (fun h18 => ?_)
    · replace hF := ifn h18 hF
      refine v_aload_n 24 X 0 dX0_setGrain_23 rfl rfl rfl ?_
      refine v_get 27 X in_X0 0 0 rfl rfl (by decide) q245 rfl rfl dX0_setGrain_24 rfl ?_
      refine v_getN 30 X hAm in_X1 3 7 rfl rfl (by decide) q154 rfl rfl dX0_setGrain_27 rfl ?_
      refine v_iload_n 31 X 1 dX0_setGrain_30 rfl rfl rfl ?_
      obtain ⟨z31, hz31, hF⟩ := ob hF
      refine v_iald 32 X 4 hz31 rfl dX0_setGrain_31 rfl ?_
      refine v_istore_n 33 [(3, .int z31), (0, .ref a0), (1, .int v1), (2, .int v2)] X dX0_setGrain_32 rfl rfl (by decide) rfl ?_
      refine v_aload_n 34 X 1 dX0_setGrain_33 rfl rfl rfl ?_
      obtain ⟨z34, hz34, hF⟩ := ob hF
      refine vc_Vr (wr := ([] : va_W)) 37 6 652 X 0 [] [0, 3, 4, 5, 6, 7, 8, 1, 2] [] ([(a0, .inr (0, [.ref b0, .ref hq, .ref tx]))] ++ LW D b0 b1 b2 b3 b4 b5 n n4 cols rows kd thr bt tm rea gr vl so dy cg ++ [(hq, .inr (8, [.ref he, .int hd, .int tl])), (he, .inl (D.1 103, ne, .inr (.inr (.inr (.inr el)))))]) rfl rfl (by decide) (by decide) (by decide) (w_X0_act _ hz34) q352 q354 qs3 q84 q355 hdX0_act 0 rfl rfl (hx_pass hAm hH) ⟨Nat.le_of_ble_eq_true rfl, Nat.le_of_ble_eq_true rfl⟩ ⟨(Nat.le_of_ble_eq_true rfl), (Nat.le_of_ble_eq_true rfl)⟩ rfl rfl (Nat.le_of_ble_eq_true rfl) dX0_setGrain_34 rfl rfl rfl (fun a34 u34 e34 => ?_)
      obtain ⟨q34_1, q34_2, q34_3, q34_4, q34_5, q34_6, e341, rfl⟩ := e34
      have e342 := e341.symm
      subst e342
      refine v_ws (ws' := ([(a0, .inr (0, [.ref q34_1, .ref hq, .ref tx]))] ++ LW D q34_1 q34_2 q34_3 q34_4 q34_5 q34_6 z34.2.2.2.2.2.2.2.1 z34.2.2.2.2.2.2.2.2.2.1 z34.1 z34.2.1 z34.2.2.1 z34.2.2.2.1 z34.2.2.2.2.1 z34.2.2.2.2.2.1 z34.2.2.2.2.2.2.1 z34.2.2.2.2.2.2.2.2.1 z34.2.2.2.2.2.2.2.2.2.2.1 z34.2.2.2.2.2.2.2.2.2.2.2.1 z34.2.2.2.2.2.2.2.2.2.2.2.2.1 z34.2.2.2.2.2.2.2.2.2.2.2.2.2.1 ++ [(hq, .inr (8, [.ref he, .int z34.2.2.2.2.2.2.2.2.2.2.2.2.2.2.1, .int z34.2.2.2.2.2.2.2.2.2.2.2.2.2.2.2.1])), (he, .inl (D.1 103, ne, .inr (.inr (.inr (.inr z34.2.2.2.2.2.2.2.2.2.2.2.2.2.2.2.2)))))] ++ LW D b0 b1 b2 b3 b4 b5 n n4 cols rows kd thr bt tm rea gr vl so dy cg)) [0, 1, 2, 3, 4, 5, 6, 7, 8, 9, 10, 11, 12, 13, 14] (by decide) rfl ?_
      refine v_getN 40 X hAm in_X1 1 7 rfl rfl (by decide) q154 rfl rfl dX0_setGrain_37 rfl ?_
      refine v_iload_n 41 X 2 dX0_setGrain_40 rfl rfl rfl ?_
      refine v_iload_n 42 X 3 dX0_setGrain_41 rfl rfl rfl ?_
      obtain ⟨z42, hz42, hF⟩ := ob hF
      refine v_iast 43 ([(a0, .inr (0, [.ref q34_1, .ref hq, .ref tx]))] ++ LW D q34_1 q34_2 q34_3 q34_4 q34_5 q34_6 z34.2.2.2.2.2.2.2.1 z34.2.2.2.2.2.2.2.2.2.1 z34.1 z34.2.1 z34.2.2.1 z34.2.2.2.1 z34.2.2.2.2.1 z34.2.2.2.2.2.1 z34.2.2.2.2.2.2.1 z42 z34.2.2.2.2.2.2.2.2.2.2.1 z34.2.2.2.2.2.2.2.2.2.2.2.1 z34.2.2.2.2.2.2.2.2.2.2.2.2.1 z34.2.2.2.2.2.2.2.2.2.2.2.2.2.1 ++ [(hq, .inr (8, [.ref he, .int z34.2.2.2.2.2.2.2.2.2.2.2.2.2.2.1, .int z34.2.2.2.2.2.2.2.2.2.2.2.2.2.2.2.1])), (he, .inl (D.1 103, ne, .inr (.inr (.inr (.inr z34.2.2.2.2.2.2.2.2.2.2.2.2.2.2.2.2)))))] ++ LW D b0 b1 b2 b3 b4 b5 n n4 cols rows kd thr bt tm rea gr vl so dy cg) X 2 hz42 rfl dX0_setGrain_42 rfl rfl ?_
      refine v_iload_n 44 X 0 dX0_setGrain_43 rfl rfl rfl ?_
      obtain rfl := Option.some.inj hF
      exact v_iret X hr ⟨q34_1, q34_2, q34_3, q34_4, q34_5, q34_6, rfl, rfl⟩ (Nat.le_of_ble_eq_true rfl) (Nat.le_of_ble_eq_true rfl) dX0_setGrain_44
    · replace hF := ifp h18 hF
      refine v_iconst (v := (-1)) 22 X dX0_setGrain_21 rfl ki_m1 ?_
      obtain rfl := Option.some.inj hF
      refine v_ws (ws' := ([(a0, .inr (0, [.ref b0, .ref hq, .ref tx]))] ++ LW D b0 b1 b2 b3 b4 b5 n n4 cols rows kd thr bt tm rea gr vl so dy cg ++ [(hq, .inr (8, [.ref he, .int hd, .int tl])), (he, .inl (D.1 103, ne, .inr (.inr (.inr (.inr el)))))])) [0, 3, 4, 5, 6, 7, 8, 1, 2] (by decide) rfl ?_
      exact v_iret X hr ⟨rfl, rfl⟩ (Nat.le_of_ble_eq_true rfl) (Nat.le_of_ble_eq_true rfl) dX0_setGrain_22
theorem w_X0_fill (v1 : Int32) (r : ((Int32 × Int32 × Int32 × (Nat → Option Nat)) ⊕ (Int32 × Int32 × Int32 × Nat × Int32 × Int32 × Int32 × Int32 × Nat × (Nat → Int32) × Nat × (Nat → Nat) × (Nat → Int32) × (Nat → Int32) × (Nat → Int32) × Int32 × Int32 × (Nat → Option Nat)))) (hF : C_fill cols rows thr bt tm rea kd n n4 vl gr so dy cg b0 ne el hd tl hs v1 = some r) : CTi l yX0_fill cX0_fill 2 (Option.some Jvm.ClassFile.FieldType.int) rmX0_fill D ([(a0, .inr (0, [.ref b0, .ref hq, .ref tx]))] ++ LW D b0 b1 b2 b3 b4 b5 n n4 cols rows kd thr bt tm rea gr vl so dy cg ++ [(hq, .inr (8, [.ref he, .int hd, .int tl])), (he, .inl (D.1 103, ne, .inr (.inr (.inr (.inr el)))))]) [.ref a0, .int v1] (HX D hs) (fun r1 u => match r with | (.inl x) => r1 = x.1 ∧ u = ([(a0, .inr (0, [.ref b0, .ref hq, .ref tx]))] ++ LW D b0 b1 b2 b3 b4 b5 n n4 cols rows kd thr bt tm rea gr vl so dy cg ++ [(hq, .inr (8, [.ref he, .int x.2.1, .int x.2.2.1])), (he, .inl (D.1 103, ne, .inr (.inr (.inr (.inr x.2.2.2)))))]) | (.inr x) => ∃ qa1 qa2 qa3 qa4 qa5 qa6 : Nat, r1 = x.1 ∧ u = ([(a0, .inr (0, [.ref qa1, .ref hq, .ref tx]))] ++ LW D qa1 qa2 qa3 qa4 qa5 qa6 x.2.2.2.2.2.2.2.2.1 x.2.2.2.2.2.2.2.2.2.2.1 x.2.1 x.2.2.1 x.2.2.2.1 x.2.2.2.2.1 x.2.2.2.2.2.1 x.2.2.2.2.2.2.1 x.2.2.2.2.2.2.2.1 x.2.2.2.2.2.2.2.2.2.1 x.2.2.2.2.2.2.2.2.2.2.2.1 x.2.2.2.2.2.2.2.2.2.2.2.2.1 x.2.2.2.2.2.2.2.2.2.2.2.2.2.1 x.2.2.2.2.2.2.2.2.2.2.2.2.2.2.1 ++ [(hq, .inr (8, [.ref he, .int x.2.2.2.2.2.2.2.2.2.2.2.2.2.2.2.1, .int x.2.2.2.2.2.2.2.2.2.2.2.2.2.2.2.2.1])), (he, .inl (D.1 103, ne, .inr (.inr (.inr (.inr x.2.2.2.2.2.2.2.2.2.2.2.2.2.2.2.2.2)))))] ++ LW D b0 b1 b2 b3 b4 b5 n n4 cols rows kd thr bt tm rea gr vl so dy cg)) := by
  refine m_i (by decide) (Nat.le_of_ble_eq_true rfl) ?_
  intro p e s m args below meth c A B
  obtain ⟨X, hr, hAm, -, hnm, hnmd⟩ := B
  obtain ⟨hAm, hH⟩ := hAm
  replace X : CX p s m args meth c D A cX0_fill 2 "DyeLattice" := X
  refine v_lv (lv' := [(0, .ref a0), (1, .int v1)]) [0, 1] rfl ?_
  unfold C_fill at hF
  refine v_iload_n 1 X 1 dX0_fill_0 rfl rfl rfl ?_
  refine v_iconst (v := 0) 2 X dX0_fill_1 rfl ki_0 ?_
  refine v_sipush (v := 9999) 5 X dX0_fill_2 rfl ks_9999 ?_
  obtain ⟨z5, hz5, hF⟩ := ob hF
  refine v_mSi 8 X 3 [.int v1, .int 0, .int 9999] (w_X0_isBetween ([(a0, .inr (0, [.ref b0, .ref hq, .ref tx]))] ++ LW D b0 b1 b2 b3 b4 b5 n n4 cols rows kd thr bt tm rea gr vl so dy cg ++ [(hq, .inr (8, [.ref he, .int hd, .int tl])), (he, .inl (D.1 103, ne, .inr (.inr (.inr (.inr el)))))]) v1 0 9999 _ hz5) q260 q261 q84 q262 hdX0_isBetween pass_no ⟨rfl, rfl⟩ ⟨Nat.le_of_ble_eq_true rfl, Nat.le_of_ble_eq_true rfl⟩ ⟨(Nat.le_of_ble_eq_true rfl), (Nat.le_of_ble_eq_true rfl)⟩ rfl rfl (Nat.le_of_ble_eq_true rfl) dX0_fill_5 rfl ?_
  refine v_if_eq 11 22 X dX0_fill_8 rfl (by decide) (fun h8 => ?_) (fun h8 => ?_)
  · replace hF := ifp h8 hF
    refine v_iconst (v := (-1)) 23 X dX0_fill_22 rfl ki_m1 ?_
    obtain rfl := Option.some.inj hF
    exact v_iret X hr ⟨rfl, rfl⟩ (Nat.le_of_ble_eq_true rfl) (Nat.le_of_ble_eq_true rfl) dX0_fill_23
  · replace hF := ifn h8 hF
    refine v_aload_n 12 X 0 dX0_fill_11 rfl rfl rfl ?_
    obtain ⟨z12, hz12, hF⟩ := ob hF
    refine vc_Vr (wr := ([] : va_W)) 15 6 652 X 0 [] [0, 1, 2, 3, 4, 5, 6, 7, 8] [] ([(a0, .inr (0, [.ref b0, .ref hq, .ref tx]))] ++ LW D b0 b1 b2 b3 b4 b5 n n4 cols rows kd thr bt tm rea gr vl so dy cg ++ [(hq, .inr (8, [.ref he, .int hd, .int tl])), (he, .inl (D.1 103, ne, .inr (.inr (.inr (.inr el)))))]) rfl rfl (by decide) (by decide) (by decide) (w_X0_act _ hz12) q352 q354 qs3 q84 q355 hdX0_act 0 rfl rfl (hx_pass hAm hH) ⟨Nat.le_of_ble_eq_true rfl, Nat.le_of_ble_eq_true rfl⟩ ⟨(Nat.le_of_ble_eq_true rfl), (Nat.le_of_ble_eq_true rfl)⟩ rfl rfl (Nat.le_of_ble_eq_true rfl) dX0_fill_12 rfl rfl rfl (fun a12 u12 e12 => ?_)
    obtain ⟨q12_1, q12_2, q12_3, q12_4, q12_5, q12_6, e121, rfl⟩ := e12
    have e122 := e121.symm
    subst e122
    refine v_ws (ws' := ([(a0, .inr (0, [.ref q12_1, .ref hq, .ref tx]))] ++ LW D q12_1 q12_2 q12_3 q12_4 q12_5 q12_6 z12.2.2.2.2.2.2.2.1 z12.2.2.2.2.2.2.2.2.2.1 z12.1 z12.2.1 z12.2.2.1 z12.2.2.2.1 z12.2.2.2.2.1 z12.2.2.2.2.2.1 z12.2.2.2.2.2.2.1 z12.2.2.2.2.2.2.2.2.1 z12.2.2.2.2.2.2.2.2.2.2.1 z12.2.2.2.2.2.2.2.2.2.2.2.1 z12.2.2.2.2.2.2.2.2.2.2.2.2.1 z12.2.2.2.2.2.2.2.2.2.2.2.2.2.1 ++ [(hq, .inr (8, [.ref he, .int z12.2.2.2.2.2.2.2.2.2.2.2.2.2.2.1, .int z12.2.2.2.2.2.2.2.2.2.2.2.2.2.2.2.1])), (he, .inl (D.1 103, ne, .inr (.inr (.inr (.inr z12.2.2.2.2.2.2.2.2.2.2.2.2.2.2.2.2)))))] ++ LW D b0 b1 b2 b3 b4 b5 n n4 cols rows kd thr bt tm rea gr vl so dy cg)) [0, 1, 2, 3, 4, 5, 6, 7, 8, 9, 10, 11, 12, 13, 14] (by decide) rfl ?_
    refine v_iload_n 16 X 1 dX0_fill_15 rfl rfl rfl ?_
    obtain ⟨z16, hz16, hF⟩ := ob hF
    refine vc_Vi (wr := ([(a0, .inr (0, [.ref q12_1, .ref hq, .ref tx])), (hq, .inr (8, [.ref he, .int z12.2.2.2.2.2.2.2.2.2.2.2.2.2.2.1, .int z12.2.2.2.2.2.2.2.2.2.2.2.2.2.2.2.1])), (he, .inl (D.1 103, ne, .inr (.inr (.inr (.inr z12.2.2.2.2.2.2.2.2.2.2.2.2.2.2.2.2)))))] ++ LW D b0 b1 b2 b3 b4 b5 n n4 cols rows kd thr bt tm rea gr vl so dy cg)) 19 6 652 X 1 [.int v1] [1, 2, 3, 4, 5, 6] [0, 7, 8, 9, 10, 11, 12, 13, 14] (LW D q12_1 q12_2 q12_3 q12_4 q12_5 q12_6 z12.2.2.2.2.2.2.2.1 z12.2.2.2.2.2.2.2.2.2.1 z12.1 z12.2.1 z12.2.2.1 z12.2.2.2.1 z12.2.2.2.2.1 z12.2.2.2.2.2.1 z12.2.2.2.2.2.2.1 z12.2.2.2.2.2.2.2.2.1 z12.2.2.2.2.2.2.2.2.2.2.1 z12.2.2.2.2.2.2.2.2.2.2.2.1 z12.2.2.2.2.2.2.2.2.2.2.2.2.1 z12.2.2.2.2.2.2.2.2.2.2.2.2.2.1) rfl rfl (by decide) (by decide) (by decide) (w_X1_fill v1 _ hz16) q419 q420 q421 q85 q422 hdX1_fill 1 rfl rfl (pass_amb hAm) ⟨Nat.le_of_ble_eq_true rfl, Nat.le_of_ble_eq_true rfl⟩ ⟨(Nat.le_of_ble_eq_true rfl), (Nat.le_of_ble_eq_true rfl)⟩ rfl rfl (Nat.le_of_ble_eq_true rfl) dX0_fill_16 rfl rfl rfl (fun r16 u16 e16 => ?_)
    obtain ⟨e161, rfl⟩ := e16
    have e162 := e161.symm
    subst e162
    refine v_ws (ws' := ([(a0, .inr (0, [.ref q12_1, .ref hq, .ref tx])), (hq, .inr (8, [.ref he, .int z12.2.2.2.2.2.2.2.2.2.2.2.2.2.2.1, .int z12.2.2.2.2.2.2.2.2.2.2.2.2.2.2.2.1])), (he, .inl (D.1 103, ne, .inr (.inr (.inr (.inr z12.2.2.2.2.2.2.2.2.2.2.2.2.2.2.2.2)))))] ++ LW D b0 b1 b2 b3 b4 b5 n n4 cols rows kd thr bt tm rea gr vl so dy cg ++ LW D q12_1 q12_2 q12_3 q12_4 q12_5 q12_6 z12.2.2.2.2.2.2.2.1 z12.2.2.2.2.2.2.2.2.2.1 z12.1 z12.2.1 z12.2.2.1 z12.2.2.2.1 z12.2.2.2.2.1 z12.2.2.2.2.2.1 z12.2.2.2.2.2.2.1 z16.2 z12.2.2.2.2.2.2.2.2.2.2.1 z12.2.2.2.2.2.2.2.2.2.2.2.1 z12.2.2.2.2.2.2.2.2.2.2.2.2.1 z12.2.2.2.2.2.2.2.2.2.2.2.2.2.1)) [0, 1, 2, 3, 4, 5, 6, 7, 8, 9, 10, 11, 12, 13, 14] (by decide) rfl ?_
    refine v_goto 23 X dX0_fill_19 (by decide) ?_
    obtain rfl := Option.some.inj hF
    refine v_ws (ws' := ([(a0, .inr (0, [.ref q12_1, .ref hq, .ref tx]))] ++ LW D q12_1 q12_2 q12_3 q12_4 q12_5 q12_6 z12.2.2.2.2.2.2.2.1 z12.2.2.2.2.2.2.2.2.2.1 z12.1 z12.2.1 z12.2.2.1 z12.2.2.2.1 z12.2.2.2.2.1 z12.2.2.2.2.2.1 z12.2.2.2.2.2.2.1 z16.2 z12.2.2.2.2.2.2.2.2.2.2.1 z12.2.2.2.2.2.2.2.2.2.2.2.1 z12.2.2.2.2.2.2.2.2.2.2.2.2.1 z12.2.2.2.2.2.2.2.2.2.2.2.2.2.1 ++ [(hq, .inr (8, [.ref he, .int z12.2.2.2.2.2.2.2.2.2.2.2.2.2.2.1, .int z12.2.2.2.2.2.2.2.2.2.2.2.2.2.2.2.1])), (he, .inl (D.1 103, ne, .inr (.inr (.inr (.inr z12.2.2.2.2.2.2.2.2.2.2.2.2.2.2.2.2)))))] ++ LW D b0 b1 b2 b3 b4 b5 n n4 cols rows kd thr bt tm rea gr vl so dy cg)) [0, 9, 10, 11, 12, 13, 14, 1, 2, 3, 4, 5, 6, 7, 8] (by decide) rfl ?_
    exact v_iret X hr ⟨q12_1, q12_2, q12_3, q12_4, q12_5, q12_6, rfl, rfl⟩ (Nat.le_of_ble_eq_true rfl) (Nat.le_of_ble_eq_true rfl) dX0_fill_23
theorem w_X0_setValve (v1 : Int32) (v2 : Int32) (v3 : Int32) (r : ((Int32 × Int32 × Int32 × (Nat → Option Nat)) ⊕ (Int32 × Int32 × Int32 × Nat × Int32 × Int32 × Int32 × Int32 × Nat × (Nat → Int32) × Nat × (Nat → Nat) × (Nat → Int32) × (Nat → Int32) × (Nat → Int32) × Int32 × Int32 × (Nat → Option Nat)))) (hF : C_setValve cols rows thr bt tm rea kd n n4 vl gr so dy cg b0 ne el hd tl hs v1 v2 v3 = some r) : CTi l yX0_setValve cX0_setValve 5 (Option.some Jvm.ClassFile.FieldType.int) rmX0_setValve D ([(a0, .inr (0, [.ref b0, .ref hq, .ref tx]))] ++ LW D b0 b1 b2 b3 b4 b5 n n4 cols rows kd thr bt tm rea gr vl so dy cg ++ [(hq, .inr (8, [.ref he, .int hd, .int tl])), (he, .inl (D.1 103, ne, .inr (.inr (.inr (.inr el)))))]) [.ref a0, .int v1, .int v2, .int v3] (HX D hs) (fun r1 u => match r with | (.inl x) => r1 = x.1 ∧ u = ([(a0, .inr (0, [.ref b0, .ref hq, .ref tx]))] ++ LW D b0 b1 b2 b3 b4 b5 n n4 cols rows kd thr bt tm rea gr vl so dy cg ++ [(hq, .inr (8, [.ref he, .int x.2.1, .int x.2.2.1])), (he, .inl (D.1 103, ne, .inr (.inr (.inr (.inr x.2.2.2)))))]) | (.inr x) => ∃ qa1 qa2 qa3 qa4 qa5 qa6 : Nat, r1 = x.1 ∧ u = ([(a0, .inr (0, [.ref qa1, .ref hq, .ref tx]))] ++ LW D qa1 qa2 qa3 qa4 qa5 qa6 x.2.2.2.2.2.2.2.2.1 x.2.2.2.2.2.2.2.2.2.2.1 x.2.1 x.2.2.1 x.2.2.2.1 x.2.2.2.2.1 x.2.2.2.2.2.1 x.2.2.2.2.2.2.1 x.2.2.2.2.2.2.2.1 x.2.2.2.2.2.2.2.2.2.1 x.2.2.2.2.2.2.2.2.2.2.2.1 x.2.2.2.2.2.2.2.2.2.2.2.2.1 x.2.2.2.2.2.2.2.2.2.2.2.2.2.1 x.2.2.2.2.2.2.2.2.2.2.2.2.2.2.1 ++ [(hq, .inr (8, [.ref he, .int x.2.2.2.2.2.2.2.2.2.2.2.2.2.2.2.1, .int x.2.2.2.2.2.2.2.2.2.2.2.2.2.2.2.2.1])), (he, .inl (D.1 103, ne, .inr (.inr (.inr (.inr x.2.2.2.2.2.2.2.2.2.2.2.2.2.2.2.2.2)))))] ++ LW D b0 b1 b2 b3 b4 b5 n n4 cols rows kd thr bt tm rea gr vl so dy cg)) := by
  refine m_i (by decide) (Nat.le_of_ble_eq_true rfl) ?_
  intro p e s m args below meth c A B
  obtain ⟨X, hr, hAm, -, hnm, hnmd⟩ := B
  obtain ⟨hAm, hH⟩ := hAm
  replace X : CX p s m args meth c D A cX0_setValve 5 "DyeLattice" := X
  refine v_lv (lv' := [(0, .ref a0), (1, .int v1), (2, .int v2), (3, .int v3)]) [0, 1, 2, 3] rfl ?_
  unfold C_setValve at hF
  refine v_aload_n 1 X 0 dX0_setValve_0 rfl rfl rfl ?_
  refine v_get 4 X in_X0 0 0 rfl rfl (by decide) q245 rfl rfl dX0_setValve_1 rfl ?_
  refine v_iload_n 5 X 1 dX0_setValve_4 rfl rfl rfl ?_
  refine v_iload_n 6 X 2 dX0_setValve_5 rfl rfl rfl ?_
  obtain ⟨z6, hz6, hF⟩ := ob hF
  refine vc_Vi (wr := ([(a0, .inr (0, [.ref b0, .ref hq, .ref tx])), (hq, .inr (8, [.ref he, .int hd, .int tl])), (he, .inl (D.1 103, ne, .inr (.inr (.inr (.inr el)))))])) 9 0 0 X 2 [.int v1, .int v2] [1, 2, 3, 4, 5, 6] [0, 7, 8] (LW D b0 b1 b2 b3 b4 b5 n n4 cols rows kd thr bt tm rea gr vl so dy cg) rfl rfl (by decide) (by decide) (by decide) (w_X1_isBond v1 v2 _ hz6) q436 q387 q388 q85 q389 hdX1_isBond 1 rfl rfl (pass_amb hAm) ⟨Nat.le_of_ble_eq_true rfl, Nat.le_of_ble_eq_true rfl⟩ ⟨(Nat.le_of_ble_eq_true rfl), (Nat.le_of_ble_eq_true rfl)⟩ rfl rfl (Nat.le_of_ble_eq_true rfl) dX0_setValve_6 rfl rfl rfl (fun r6 u6 e6 => ?_)
  obtain ⟨e61, rfl⟩ := e6
  have e62 := e61.symm
  subst e62
  refine v_ws (ws' := ([(a0, .inr (0, [.ref b0, .ref hq, .ref tx])), (hq, .inr (8, [.ref he, .int hd, .int tl])), (he, .inl (D.1 103, ne, .inr (.inr (.inr (.inr el)))))] ++ LW D b0 b1 b2 b3 b4 b5 n n4 cols rows kd thr bt tm rea gr vl so dy cg)) [0, 1, 2, 3, 4, 5, 6, 7, 8] (by decide) rfl ?_
  refine v_if_eq 12 21 X dX0_setValve_9 rfl (by decide) (fun h9 => ?_) (fun h9 => ?_)
  · replace hF := ifp h9 hF
    refine v_iconst (v := (-1)) 22 X dX0_setValve_21 rfl ki_m1 ?_
    obtain rfl := Option.some.inj hF
    refine v_ws (ws' := ([(a0, .inr (0, [.ref b0, .ref hq, .ref tx]))] ++ LW D b0 b1 b2 b3 b4 b5 n n4 cols rows kd thr bt tm rea gr vl so dy cg ++ [(hq, .inr (8, [.ref he, .int hd, .int tl])), (he, .inl (D.1 103, ne, .inr (.inr (.inr (.inr el)))))])) [0, 3, 4, 5, 6, 7, 8, 1, 2] (by decide) rfl ?_
    exact v_iret X hr ⟨rfl, rfl⟩ (Nat.le_of_ble_eq_true rfl) (Nat.le_of_ble_eq_true rfl) dX0_setValve_22
  · replace hF := ifn h9 hF
    refine v_iload_n 13 X 3 dX0_setValve_12 rfl rfl rfl ?_
    refine v_iconst (v := 0) 14 X dX0_setValve_13 rfl ki_0 ?_
    refine v_iconst (v := 4) 15 X dX0_setValve_14 rfl ki_4 ?_
    obtain ⟨z15, hz15, hF⟩ := ob hF
    refine v_mSi 18 X 3 [.int v3, .int 0, .int 4] (w_X0_isBetween ([(a0, .inr (0, [.ref b0, .ref hq, .ref tx])), (hq, .inr (8, [.ref he, .int hd, .int tl])), (he, .inl (D.1 103, ne, .inr (.inr (.inr (.inr el)))))] ++ LW D b0 b1 b2 b3 b4 b5 n n4 cols rows kd thr bt tm rea gr vl so dy cg) v3 0 4 _ hz15) q260 q261 q84 q262 hdX0_isBetween pass_no ⟨rfl, rfl⟩ ⟨Nat.le_of_ble_eq_true rfl, Nat.le_of_ble_eq_true rfl⟩ ⟨(Nat.le_of_ble_eq_true rfl), (Nat.le_of_ble_eq_true rfl)⟩ rfl rfl (Nat.le_of_ble_eq_true rfl) dX0_setValve_15 rfl ?_
    refine v_if_ne 21 23 X dX0_setValve_18 rfl (by decide) (fun h18 => ?_) (fun h18 => ?_)
    · replace hF := ifn h18 hF
      refine v_aload_n 24 X 0 dX0_setValve_23 rfl rfl rfl ?_
      refine v_get 27 X in_X0 0 0 rfl rfl (by decide) q245 rfl rfl dX0_setValve_24 rfl ?_
      refine v_getN 30 X hAm in_X1 3 8 rfl rfl (by decide) q157 rfl rfl dX0_setValve_27 rfl ?_
      refine v_iconst (v := 4) 31 X dX0_setValve_30 rfl ki_4 ?_
      refine v_iload_n 32 X 1 dX0_setValve_31 rfl rfl rfl ?_
      refine v_imul 33 X dX0_setValve_32 rfl ?_
      refine v_iload_n 34 X 2 dX0_setValve_33 rfl rfl rfl ?_
      refine v_iadd 35 X dX0_setValve_34 rfl ?_
      obtain ⟨z35, hz35, hF⟩ := ob hF
      refine v_aldV 36 X 5 hz35 rfl dX0_setValve_35 rfl ?_
      obtain ⟨z36, hz36, hF⟩ := ob hF
      refine v_ordV 39 X hAm hz36 [0, 1, 2, 3, 4, 5, 6, 7, 8] rfl (by decide) q437 ⟨Nat.le_of_ble_eq_true rfl, Nat.le_of_ble_eq_true rfl⟩ ⟨(Nat.le_of_ble_eq_true rfl), (Nat.le_of_ble_eq_true rfl)⟩ (Nat.le_of_ble_eq_true rfl) dX0_setValve_36 rfl ?_
      refine v_istore 41 [(4, .int z36), (0, .ref a0), (1, .int v1), (2, .int v2), (3, .int v3)] X dX0_setValve_39 rfl (by decide) rfl ?_
      refine v_aload_n 42 X 1 dX0_setValve_41 rfl rfl rfl ?_
      obtain ⟨z42, hz42, hF⟩ := ob hF
      refine vc_Vr (wr := ([] : va_W)) 45 6 652 X 0 [] [0, 3, 4, 5, 6, 7, 8, 1, 2] [] ([(a0, .inr (0, [.ref b0, .ref hq, .ref tx]))] ++ LW D b0 b1 b2 b3 b4 b5 n n4 cols rows kd thr bt tm rea gr vl so dy cg ++ [(hq, .inr (8, [.ref he, .int hd, .int tl])), (he, .inl (D.1 103, ne, .inr (.inr (.inr (.inr el)))))]) rfl rfl (by decide) (by decide) (by decide) (w_X0_act _ hz42) q352 q354 qs3 q84 q355 hdX0_act 0 rfl rfl (hx_pass hAm hH) ⟨Nat.le_of_ble_eq_true rfl, Nat.le_of_ble_eq_true rfl⟩ ⟨(Nat.le_of_ble_eq_true rfl), (Nat.le_of_ble_eq_true rfl)⟩ rfl rfl (Nat.le_of_ble_eq_true rfl) dX0_setValve_42 rfl rfl rfl (fun a42 u42 e42 => ?_)
      obtain ⟨q42_1, q42_2, q42_3, q42_4, q42_5, q42_6, e421, rfl⟩ := e42
      have e422 := e421.symm
      subst e422
      refine v_ws (ws' := ([(a0, .inr (0, [.ref q42_1, .ref hq, .ref tx]))] ++ LW D q42_1 q42_2 q42_3 q42_4 q42_5 q42_6 z42.2.2.2.2.2.2.2.1 z42.2.2.2.2.2.2.2.2.2.1 z42.1 z42.2.1 z42.2.2.1 z42.2.2.2.1 z42.2.2.2.2.1 z42.2.2.2.2.2.1 z42.2.2.2.2.2.2.1 z42.2.2.2.2.2.2.2.2.1 z42.2.2.2.2.2.2.2.2.2.2.1 z42.2.2.2.2.2.2.2.2.2.2.2.1 z42.2.2.2.2.2.2.2.2.2.2.2.2.1 z42.2.2.2.2.2.2.2.2.2.2.2.2.2.1 ++ [(hq, .inr (8, [.ref he, .int z42.2.2.2.2.2.2.2.2.2.2.2.2.2.2.1, .int z42.2.2.2.2.2.2.2.2.2.2.2.2.2.2.2.1])), (he, .inl (D.1 103, ne, .inr (.inr (.inr (.inr z42.2.2.2.2.2.2.2.2.2.2.2.2.2.2.2.2)))))] ++ LW D b0 b1 b2 b3 b4 b5 n n4 cols rows kd thr bt tm rea gr vl so dy cg)) [0, 1, 2, 3, 4, 5, 6, 7, 8, 9, 10, 11, 12, 13, 14] (by decide) rfl ?_
      refine v_getN 48 X hAm in_X1 1 8 rfl rfl (by decide) q157 rfl rfl dX0_setValve_45 rfl ?_
      refine v_iconst (v := 4) 49 X dX0_setValve_48 rfl ki_4 ?_
      refine v_iload_n 50 X 2 dX0_setValve_49 rfl rfl rfl ?_
      refine v_imul 51 X dX0_setValve_50 rfl ?_
      refine v_iload_n 52 X 3 dX0_setValve_51 rfl rfl rfl ?_
      refine v_iadd 53 X dX0_setValve_52 rfl ?_
      refine v_iload_n 54 X 4 dX0_setValve_53 rfl rfl rfl ?_
      obtain ⟨z54, hz54, hF⟩ := ob hF
      refine vc_Sr (wr := ([(a0, .inr (0, [.ref q42_1, .ref hq, .ref tx]))] ++ LW D q42_1 q42_2 q42_3 q42_4 q42_5 q42_6 z42.2.2.2.2.2.2.2.1 z42.2.2.2.2.2.2.2.2.2.1 z42.1 z42.2.1 z42.2.2.1 z42.2.2.2.1 z42.2.2.2.2.1 z42.2.2.2.2.2.1 z42.2.2.2.2.2.2.1 z42.2.2.2.2.2.2.2.2.1 z42.2.2.2.2.2.2.2.2.2.2.1 z42.2.2.2.2.2.2.2.2.2.2.2.1 z42.2.2.2.2.2.2.2.2.2.2.2.2.1 z42.2.2.2.2.2.2.2.2.2.2.2.2.2.1 ++ [(hq, .inr (8, [.ref he, .int z42.2.2.2.2.2.2.2.2.2.2.2.2.2.2.1, .int z42.2.2.2.2.2.2.2.2.2.2.2.2.2.2.2.1])), (he, .inl (D.1 103, ne, .inr (.inr (.inr (.inr z42.2.2.2.2.2.2.2.2.2.2.2.2.2.2.2.2)))))] ++ LW D b0 b1 b2 b3 b4 b5 n n4 cols rows kd thr bt tm rea gr vl so dy cg)) 57 7 657 X 1 [.int v3] [] [0, 1, 2, 3, 4, 5, 6, 7, 8, 9, 10, 11, 12, 13, 14] ([] : va_W) rfl rfl (by decide) (by decide) (by decide) (w_X3_of hz54) q447 q448 q88 q449 hdX3_of (pass_amb hAm) ⟨Nat.le_of_ble_eq_true rfl, Nat.le_of_ble_eq_true rfl⟩ ⟨(Nat.le_of_ble_eq_true rfl), (Nat.le_of_ble_eq_true rfl)⟩ rfl rfl (Nat.le_of_ble_eq_true rfl) dX0_setValve_54 rfl rfl rfl (fun a54 u54 e54 => ?_)
      obtain ⟨rfl, rfl⟩ := e54
      refine v_ws (ws' := ([(a0, .inr (0, [.ref q42_1, .ref hq, .ref tx]))] ++ LW D q42_1 q42_2 q42_3 q42_4 q42_5 q42_6 z42.2.2.2.2.2.2.2.1 z42.2.2.2.2.2.2.2.2.2.1 z42.1 z42.2.1 z42.2.2.1 z42.2.2.2.1 z42.2.2.2.2.1 z42.2.2.2.2.2.1 z42.2.2.2.2.2.2.1 z42.2.2.2.2.2.2.2.2.1 z42.2.2.2.2.2.2.2.2.2.2.1 z42.2.2.2.2.2.2.2.2.2.2.2.1 z42.2.2.2.2.2.2.2.2.2.2.2.2.1 z42.2.2.2.2.2.2.2.2.2.2.2.2.2.1 ++ [(hq, .inr (8, [.ref he, .int z42.2.2.2.2.2.2.2.2.2.2.2.2.2.2.1, .int z42.2.2.2.2.2.2.2.2.2.2.2.2.2.2.2.1])), (he, .inl (D.1 103, ne, .inr (.inr (.inr (.inr z42.2.2.2.2.2.2.2.2.2.2.2.2.2.2.2.2)))))] ++ LW D b0 b1 b2 b3 b4 b5 n n4 cols rows kd thr bt tm rea gr vl so dy cg)) [0, 1, 2, 3, 4, 5, 6, 7, 8, 9, 10, 11, 12, 13, 14] (by decide) rfl ?_
      obtain ⟨z57, hz57, hF⟩ := ob hF
      refine v_astV 58 ([(a0, .inr (0, [.ref q42_1, .ref hq, .ref tx]))] ++ LW D q42_1 q42_2 q42_3 q42_4 q42_5 q42_6 z42.2.2.2.2.2.2.2.1 z42.2.2.2.2.2.2.2.2.2.1 z42.1 z42.2.1 z42.2.2.1 z42.2.2.2.1 z42.2.2.2.2.1 z42.2.2.2.2.2.1 z42.2.2.2.2.2.2.1 z42.2.2.2.2.2.2.2.2.1 z57 z42.2.2.2.2.2.2.2.2.2.2.2.1 z42.2.2.2.2.2.2.2.2.2.2.2.2.1 z42.2.2.2.2.2.2.2.2.2.2.2.2.2.1 ++ [(hq, .inr (8, [.ref he, .int z42.2.2.2.2.2.2.2.2.2.2.2.2.2.2.1, .int z42.2.2.2.2.2.2.2.2.2.2.2.2.2.2.2.1])), (he, .inl (D.1 103, ne, .inr (.inr (.inr (.inr z42.2.2.2.2.2.2.2.2.2.2.2.2.2.2.2.2)))))] ++ LW D b0 b1 b2 b3 b4 b5 n n4 cols rows kd thr bt tm rea gr vl so dy cg) X hAm 3 hz57 rfl dX0_setValve_57 rfl rfl ?_
      refine v_iload 60 X 0 dX0_setValve_58 rfl rfl ?_
      obtain rfl := Option.some.inj hF
      exact v_iret X hr ⟨q42_1, q42_2, q42_3, q42_4, q42_5, q42_6, rfl, rfl⟩ (Nat.le_of_ble_eq_true rfl) (Nat.le_of_ble_eq_true rfl) dX0_setValve_60
    · replace hF := ifp h18 hF
      refine v_iconst (v := (-1)) 22 X dX0_setValve_21 rfl ki_m1 ?_
      obtain rfl := Option.some.inj hF
      refine v_ws (ws' := ([(a0, .inr (0, [.ref b0, .ref hq, .ref tx]))] ++ LW D b0 b1 b2 b3 b4 b5 n n4 cols rows kd thr bt tm rea gr vl so dy cg ++ [(hq, .inr (8, [.ref he, .int hd, .int tl])), (he, .inl (D.1 103, ne, .inr (.inr (.inr (.inr el)))))])) [0, 3, 4, 5, 6, 7, 8, 1, 2] (by decide) rfl ?_
      exact v_iret X hr ⟨rfl, rfl⟩ (Nat.le_of_ble_eq_true rfl) (Nat.le_of_ble_eq_true rfl) dX0_setValve_22
theorem w_X0_setThreshold (v1 : Int32) (r : ((Int32 × Int32 × Int32 × (Nat → Option Nat)) ⊕ (Int32 × Int32 × Int32 × Nat × Int32 × Int32 × Int32 × Int32 × Nat × (Nat → Int32) × Nat × (Nat → Nat) × (Nat → Int32) × (Nat → Int32) × (Nat → Int32) × Int32 × Int32 × (Nat → Option Nat)))) (hF : C_setThreshold cols rows thr bt tm rea kd n n4 vl gr so dy cg b0 ne el hd tl hs v1 = some r) : CTi l yX0_setThreshold cX0_setThreshold 2 (Option.some Jvm.ClassFile.FieldType.int) rmX0_setThreshold D ([(a0, .inr (0, [.ref b0, .ref hq, .ref tx]))] ++ LW D b0 b1 b2 b3 b4 b5 n n4 cols rows kd thr bt tm rea gr vl so dy cg ++ [(hq, .inr (8, [.ref he, .int hd, .int tl])), (he, .inl (D.1 103, ne, .inr (.inr (.inr (.inr el)))))]) [.ref a0, .int v1] (HX D hs) (fun r1 u => match r with | (.inl x) => r1 = x.1 ∧ u = ([(a0, .inr (0, [.ref b0, .ref hq, .ref tx]))] ++ LW D b0 b1 b2 b3 b4 b5 n n4 cols rows kd thr bt tm rea gr vl so dy cg ++ [(hq, .inr (8, [.ref he, .int x.2.1, .int x.2.2.1])), (he, .inl (D.1 103, ne, .inr (.inr (.inr (.inr x.2.2.2)))))]) | (.inr x) => ∃ qa1 qa2 qa3 qa4 qa5 qa6 : Nat, r1 = x.1 ∧ u = ([(a0, .inr (0, [.ref qa1, .ref hq, .ref tx]))] ++ LW D qa1 qa2 qa3 qa4 qa5 qa6 x.2.2.2.2.2.2.2.2.1 x.2.2.2.2.2.2.2.2.2.2.1 x.2.1 x.2.2.1 x.2.2.2.1 x.2.2.2.2.1 x.2.2.2.2.2.1 x.2.2.2.2.2.2.1 x.2.2.2.2.2.2.2.1 x.2.2.2.2.2.2.2.2.2.1 x.2.2.2.2.2.2.2.2.2.2.2.1 x.2.2.2.2.2.2.2.2.2.2.2.2.1 x.2.2.2.2.2.2.2.2.2.2.2.2.2.1 x.2.2.2.2.2.2.2.2.2.2.2.2.2.2.1 ++ [(hq, .inr (8, [.ref he, .int x.2.2.2.2.2.2.2.2.2.2.2.2.2.2.2.1, .int x.2.2.2.2.2.2.2.2.2.2.2.2.2.2.2.2.1])), (he, .inl (D.1 103, ne, .inr (.inr (.inr (.inr x.2.2.2.2.2.2.2.2.2.2.2.2.2.2.2.2.2)))))] ++ LW D b0 b1 b2 b3 b4 b5 n n4 cols rows kd thr bt tm rea gr vl so dy cg)) := by
  refine m_i (by decide) (Nat.le_of_ble_eq_true rfl) ?_
  intro p e s m args below meth c A B
  obtain ⟨X, hr, hAm, -, hnm, hnmd⟩ := B
  obtain ⟨hAm, hH⟩ := hAm
  replace X : CX p s m args meth c D A cX0_setThreshold 2 "DyeLattice" := X
  refine v_lv (lv' := [(0, .ref a0), (1, .int v1)]) [0, 1] rfl ?_
  unfold C_setThreshold at hF
  refine v_iload_n 1 X 1 dX0_setThreshold_0 rfl rfl rfl ?_
  refine v_iconst (v := 0) 2 X dX0_setThreshold_1 rfl ki_0 ?_
  refine v_bipush (v := 100) 4 X dX0_setThreshold_2 rfl kb_100 ?_
  obtain ⟨z4, hz4, hF⟩ := ob hF
  refine v_mSi 7 X 3 [.int v1, .int 0, .int 100] (w_X0_isBetween ([(a0, .inr (0, [.ref b0, .ref hq, .ref tx]))] ++ LW D b0 b1 b2 b3 b4 b5 n n4 cols rows kd thr bt tm rea gr vl so dy cg ++ [(hq, .inr (8, [.ref he, .int hd, .int tl])), (he, .inl (D.1 103, ne, .inr (.inr (.inr (.inr el)))))]) v1 0 100 _ hz4) q260 q261 q84 q262 hdX0_isBetween pass_no ⟨rfl, rfl⟩ ⟨Nat.le_of_ble_eq_true rfl, Nat.le_of_ble_eq_true rfl⟩ ⟨(Nat.le_of_ble_eq_true rfl), (Nat.le_of_ble_eq_true rfl)⟩ rfl rfl (Nat.le_of_ble_eq_true rfl) dX0_setThreshold_4 rfl ?_
  refine v_if_ne 10 12 X dX0_setThreshold_7 rfl (by decide) (fun h7 => ?_) (fun h7 => ?_)
  · replace hF := ifn h7 hF
    refine v_aload_n 13 X 0 dX0_setThreshold_12 rfl rfl rfl ?_
    obtain ⟨z13, hz13, hF⟩ := ob hF
    refine vc_Vr (wr := ([] : va_W)) 16 6 652 X 0 [] [0, 1, 2, 3, 4, 5, 6, 7, 8] [] ([(a0, .inr (0, [.ref b0, .ref hq, .ref tx]))] ++ LW D b0 b1 b2 b3 b4 b5 n n4 cols rows kd thr bt tm rea gr vl so dy cg ++ [(hq, .inr (8, [.ref he, .int hd, .int tl])), (he, .inl (D.1 103, ne, .inr (.inr (.inr (.inr el)))))]) rfl rfl (by decide) (by decide) (by decide) (w_X0_act _ hz13) q352 q354 qs3 q84 q355 hdX0_act 0 rfl rfl (hx_pass hAm hH) ⟨Nat.le_of_ble_eq_true rfl, Nat.le_of_ble_eq_true rfl⟩ ⟨(Nat.le_of_ble_eq_true rfl), (Nat.le_of_ble_eq_true rfl)⟩ rfl rfl (Nat.le_of_ble_eq_true rfl) dX0_setThreshold_13 rfl rfl rfl (fun a13 u13 e13 => ?_)
    obtain ⟨q13_1, q13_2, q13_3, q13_4, q13_5, q13_6, e131, rfl⟩ := e13
    have e132 := e131.symm
    subst e132
    refine v_ws (ws' := ([(a0, .inr (0, [.ref q13_1, .ref hq, .ref tx]))] ++ LW D q13_1 q13_2 q13_3 q13_4 q13_5 q13_6 z13.2.2.2.2.2.2.2.1 z13.2.2.2.2.2.2.2.2.2.1 z13.1 z13.2.1 z13.2.2.1 z13.2.2.2.1 z13.2.2.2.2.1 z13.2.2.2.2.2.1 z13.2.2.2.2.2.2.1 z13.2.2.2.2.2.2.2.2.1 z13.2.2.2.2.2.2.2.2.2.2.1 z13.2.2.2.2.2.2.2.2.2.2.2.1 z13.2.2.2.2.2.2.2.2.2.2.2.2.1 z13.2.2.2.2.2.2.2.2.2.2.2.2.2.1 ++ [(hq, .inr (8, [.ref he, .int z13.2.2.2.2.2.2.2.2.2.2.2.2.2.2.1, .int z13.2.2.2.2.2.2.2.2.2.2.2.2.2.2.2.1])), (he, .inl (D.1 103, ne, .inr (.inr (.inr (.inr z13.2.2.2.2.2.2.2.2.2.2.2.2.2.2.2.2)))))] ++ LW D b0 b1 b2 b3 b4 b5 n n4 cols rows kd thr bt tm rea gr vl so dy cg)) [0, 1, 2, 3, 4, 5, 6, 7, 8, 9, 10, 11, 12, 13, 14] (by decide) rfl ?_
    refine v_iload_n 17 X 1 dX0_setThreshold_16 rfl rfl rfl ?_
    refine v_putN 20 ([(a0, .inr (0, [.ref q13_1, .ref hq, .ref tx]))] ++ LW D q13_1 q13_2 q13_3 q13_4 q13_5 q13_6 z13.2.2.2.2.2.2.2.1 z13.2.2.2.2.2.2.2.2.2.1 z13.1 z13.2.1 z13.2.2.1 v1 z13.2.2.2.2.1 z13.2.2.2.2.2.1 z13.2.2.2.2.2.2.1 z13.2.2.2.2.2.2.2.2.1 z13.2.2.2.2.2.2.2.2.2.2.1 z13.2.2.2.2.2.2.2.2.2.2.2.1 z13.2.2.2.2.2.2.2.2.2.2.2.2.1 z13.2.2.2.2.2.2.2.2.2.2.2.2.2.1 ++ [(hq, .inr (8, [.ref he, .int z13.2.2.2.2.2.2.2.2.2.2.2.2.2.2.1, .int z13.2.2.2.2.2.2.2.2.2.2.2.2.2.2.2.1])), (he, .inl (D.1 103, ne, .inr (.inr (.inr (.inr z13.2.2.2.2.2.2.2.2.2.2.2.2.2.2.2.2)))))] ++ LW D b0 b1 b2 b3 b4 b5 n n4 cols rows kd thr bt tm rea gr vl so dy cg) X hAm in_X1 tyX1_ok nmX1 1 3 rfl rfl (by decide) q145 rfl rfl rfl rfl rfl (Nat.le_of_ble_eq_true rfl) dX0_setThreshold_17 rfl rfl ?_
    refine v_aload_n 21 X 0 dX0_setThreshold_20 rfl rfl rfl ?_
    refine v_get 24 X in_X0 0 0 rfl rfl (by decide) q245 rfl rfl dX0_setThreshold_21 rfl ?_
    obtain ⟨z24, hz24, hF⟩ := ob hF
    refine vc_Vi (wr := ([(a0, .inr (0, [.ref q13_1, .ref hq, .ref tx])), (hq, .inr (8, [.ref he, .int z13.2.2.2.2.2.2.2.2.2.2.2.2.2.2.1, .int z13.2.2.2.2.2.2.2.2.2.2.2.2.2.2.2.1])), (he, .inl (D.1 103, ne, .inr (.inr (.inr (.inr z13.2.2.2.2.2.2.2.2.2.2.2.2.2.2.2.2)))))] ++ LW D b0 b1 b2 b3 b4 b5 n n4 cols rows kd thr bt tm rea gr vl so dy cg)) 27 6 652 X 0 [] [1, 2, 3, 4, 5, 6] [0, 7, 8, 9, 10, 11, 12, 13, 14] (LW D q13_1 q13_2 q13_3 q13_4 q13_5 q13_6 z13.2.2.2.2.2.2.2.1 z13.2.2.2.2.2.2.2.2.2.1 z13.1 z13.2.1 z13.2.2.1 v1 z13.2.2.2.2.1 z13.2.2.2.2.2.1 z13.2.2.2.2.2.2.1 z13.2.2.2.2.2.2.2.2.1 z13.2.2.2.2.2.2.2.2.2.2.1 z13.2.2.2.2.2.2.2.2.2.2.2.1 z13.2.2.2.2.2.2.2.2.2.2.2.2.1 z13.2.2.2.2.2.2.2.2.2.2.2.2.2.1) rfl rfl (by decide) (by decide) (by decide) (w_X1_openCells _ hz24) q464 q425 q426 q85 q427 hdX1_openCells 1 rfl rfl (pass_amb hAm) ⟨Nat.le_of_ble_eq_true rfl, Nat.le_of_ble_eq_true rfl⟩ ⟨(Nat.le_of_ble_eq_true rfl), (Nat.le_of_ble_eq_true rfl)⟩ rfl rfl (Nat.le_of_ble_eq_true rfl) dX0_setThreshold_24 rfl rfl rfl (fun r24 u24 e24 => ?_)
    obtain ⟨e241, rfl⟩ := e24
    have e242 := e241.symm
    subst e242
    refine v_ws (ws' := ([(a0, .inr (0, [.ref q13_1, .ref hq, .ref tx])), (hq, .inr (8, [.ref he, .int z13.2.2.2.2.2.2.2.2.2.2.2.2.2.2.1, .int z13.2.2.2.2.2.2.2.2.2.2.2.2.2.2.2.1])), (he, .inl (D.1 103, ne, .inr (.inr (.inr (.inr z13.2.2.2.2.2.2.2.2.2.2.2.2.2.2.2.2)))))] ++ LW D b0 b1 b2 b3 b4 b5 n n4 cols rows kd thr bt tm rea gr vl so dy cg ++ LW D q13_1 q13_2 q13_3 q13_4 q13_5 q13_6 z13.2.2.2.2.2.2.2.1 z13.2.2.2.2.2.2.2.2.2.1 z13.1 z13.2.1 z13.2.2.1 v1 z13.2.2.2.2.1 z13.2.2.2.2.2.1 z13.2.2.2.2.2.2.1 z13.2.2.2.2.2.2.2.2.1 z13.2.2.2.2.2.2.2.2.2.2.1 z13.2.2.2.2.2.2.2.2.2.2.2.1 z13.2.2.2.2.2.2.2.2.2.2.2.2.1 z13.2.2.2.2.2.2.2.2.2.2.2.2.2.1)) [0, 1, 2, 3, 4, 5, 6, 7, 8, 9, 10, 11, 12, 13, 14] (by decide) rfl ?_
    obtain rfl := Option.some.inj hF
    refine v_ws (ws' := ([(a0, .inr (0, [.ref q13_1, .ref hq, .ref tx]))] ++ LW D q13_1 q13_2 q13_3 q13_4 q13_5 q13_6 z13.2.2.2.2.2.2.2.1 z13.2.2.2.2.2.2.2.2.2.1 z13.1 z13.2.1 z13.2.2.1 v1 z13.2.2.2.2.1 z13.2.2.2.2.2.1 z13.2.2.2.2.2.2.1 z13.2.2.2.2.2.2.2.2.1 z13.2.2.2.2.2.2.2.2.2.2.1 z13.2.2.2.2.2.2.2.2.2.2.2.1 z13.2.2.2.2.2.2.2.2.2.2.2.2.1 z13.2.2.2.2.2.2.2.2.2.2.2.2.2.1 ++ [(hq, .inr (8, [.ref he, .int z13.2.2.2.2.2.2.2.2.2.2.2.2.2.2.1, .int z13.2.2.2.2.2.2.2.2.2.2.2.2.2.2.2.1])), (he, .inl (D.1 103, ne, .inr (.inr (.inr (.inr z13.2.2.2.2.2.2.2.2.2.2.2.2.2.2.2.2)))))] ++ LW D b0 b1 b2 b3 b4 b5 n n4 cols rows kd thr bt tm rea gr vl so dy cg)) [0, 9, 10, 11, 12, 13, 14, 1, 2, 3, 4, 5, 6, 7, 8] (by decide) rfl ?_
    exact v_iret X hr ⟨q13_1, q13_2, q13_3, q13_4, q13_5, q13_6, rfl, rfl⟩ (Nat.le_of_ble_eq_true rfl) (Nat.le_of_ble_eq_true rfl) dX0_setThreshold_27
  · replace hF := ifp h7 hF
    refine v_iconst (v := (-1)) 11 X dX0_setThreshold_10 rfl ki_m1 ?_
    obtain rfl := Option.some.inj hF
    exact v_iret X hr ⟨rfl, rfl⟩ (Nat.le_of_ble_eq_true rfl) (Nat.le_of_ble_eq_true rfl) dX0_setThreshold_11
theorem w_X0_setSource (v1 : Int32) (v2 : Int32) (v3 : Int32) (r : ((Int32 × Int32 × Int32 × (Nat → Option Nat)) ⊕ (Int32 × Int32 × Int32 × Nat × Int32 × Int32 × Int32 × Int32 × Nat × (Nat → Int32) × Nat × (Nat → Nat) × (Nat → Int32) × (Nat → Int32) × (Nat → Int32) × Int32 × Int32 × (Nat → Option Nat)))) (hF : C_setSource cols rows thr bt tm rea kd n n4 vl gr so dy cg b0 ne el hd tl hs v1 v2 v3 = some r) : CTi l yX0_setSource cX0_setSource 4 (Option.some Jvm.ClassFile.FieldType.int) rmX0_setSource D ([(a0, .inr (0, [.ref b0, .ref hq, .ref tx]))] ++ LW D b0 b1 b2 b3 b4 b5 n n4 cols rows kd thr bt tm rea gr vl so dy cg ++ [(hq, .inr (8, [.ref he, .int hd, .int tl])), (he, .inl (D.1 103, ne, .inr (.inr (.inr (.inr el)))))]) [.ref a0, .int v1, .int v2, .int v3] (HX D hs) (fun r1 u => match r with | (.inl x) => r1 = x.1 ∧ u = ([(a0, .inr (0, [.ref b0, .ref hq, .ref tx]))] ++ LW D b0 b1 b2 b3 b4 b5 n n4 cols rows kd thr bt tm rea gr vl so dy cg ++ [(hq, .inr (8, [.ref he, .int x.2.1, .int x.2.2.1])), (he, .inl (D.1 103, ne, .inr (.inr (.inr (.inr x.2.2.2)))))]) | (.inr x) => ∃ qa1 qa2 qa3 qa4 qa5 qa6 : Nat, r1 = x.1 ∧ u = ([(a0, .inr (0, [.ref qa1, .ref hq, .ref tx]))] ++ LW D qa1 qa2 qa3 qa4 qa5 qa6 x.2.2.2.2.2.2.2.2.1 x.2.2.2.2.2.2.2.2.2.2.1 x.2.1 x.2.2.1 x.2.2.2.1 x.2.2.2.2.1 x.2.2.2.2.2.1 x.2.2.2.2.2.2.1 x.2.2.2.2.2.2.2.1 x.2.2.2.2.2.2.2.2.2.1 x.2.2.2.2.2.2.2.2.2.2.2.1 x.2.2.2.2.2.2.2.2.2.2.2.2.1 x.2.2.2.2.2.2.2.2.2.2.2.2.2.1 x.2.2.2.2.2.2.2.2.2.2.2.2.2.2.1 ++ [(hq, .inr (8, [.ref he, .int x.2.2.2.2.2.2.2.2.2.2.2.2.2.2.2.1, .int x.2.2.2.2.2.2.2.2.2.2.2.2.2.2.2.2.1])), (he, .inl (D.1 103, ne, .inr (.inr (.inr (.inr x.2.2.2.2.2.2.2.2.2.2.2.2.2.2.2.2.2)))))] ++ LW D b0 b1 b2 b3 b4 b5 n n4 cols rows kd thr bt tm rea gr vl so dy cg)) := by
  refine m_i (by decide) (Nat.le_of_ble_eq_true rfl) ?_
  intro p e s m args below meth c A B
  obtain ⟨X, hr, hAm, -, hnm, hnmd⟩ := B
  obtain ⟨hAm, hH⟩ := hAm
  replace X : CX p s m args meth c D A cX0_setSource 4 "DyeLattice" := X
  refine v_lv (lv' := [(0, .ref a0), (1, .int v1), (2, .int v2), (3, .int v3)]) [0, 1, 2, 3] rfl ?_
  unfold C_setSource at hF
  refine v_aload_n 1 X 0 dX0_setSource_0 rfl rfl rfl ?_
  refine v_get 4 X in_X0 0 0 rfl rfl (by decide) q245 rfl rfl dX0_setSource_1 rfl ?_
  refine v_iload_n 5 X 1 dX0_setSource_4 rfl rfl rfl ?_
  obtain ⟨z5, hz5, hF⟩ := ob hF
  refine vc_Vi (wr := ([(a0, .inr (0, [.ref b0, .ref hq, .ref tx])), (hq, .inr (8, [.ref he, .int hd, .int tl])), (he, .inl (D.1 103, ne, .inr (.inr (.inr (.inr el)))))])) 8 0 0 X 1 [.int v1] [1, 2, 3, 4, 5, 6] [0, 7, 8] (LW D b0 b1 b2 b3 b4 b5 n n4 cols rows kd thr bt tm rea gr vl so dy cg) rfl rfl (by decide) (by decide) (by decide) (w_X1_isCell v1 _ hz5) q414 q391 q392 q85 q393 hdX1_isCell 1 rfl rfl (pass_amb hAm) ⟨Nat.le_of_ble_eq_true rfl, Nat.le_of_ble_eq_true rfl⟩ ⟨(Nat.le_of_ble_eq_true rfl), (Nat.le_of_ble_eq_true rfl)⟩ rfl rfl (Nat.le_of_ble_eq_true rfl) dX0_setSource_5 rfl rfl rfl (fun r5 u5 e5 => ?_)
  obtain ⟨e51, rfl⟩ := e5
  have e52 := e51.symm
  subst e52
  refine v_ws (ws' := ([(a0, .inr (0, [.ref b0, .ref hq, .ref tx])), (hq, .inr (8, [.ref he, .int hd, .int tl])), (he, .inl (D.1 103, ne, .inr (.inr (.inr (.inr el)))))] ++ LW D b0 b1 b2 b3 b4 b5 n n4 cols rows kd thr bt tm rea gr vl so dy cg)) [0, 1, 2, 3, 4, 5, 6, 7, 8] (by decide) rfl ?_
  refine v_if_eq 11 27 X dX0_setSource_8 rfl (by decide) (fun h8 => ?_) (fun h8 => ?_)
  · replace hF := ifp h8 hF
    refine v_iconst (v := (-1)) 28 X dX0_setSource_27 rfl ki_m1 ?_
    obtain rfl := Option.some.inj hF
    refine v_ws (ws' := ([(a0, .inr (0, [.ref b0, .ref hq, .ref tx]))] ++ LW D b0 b1 b2 b3 b4 b5 n n4 cols rows kd thr bt tm rea gr vl so dy cg ++ [(hq, .inr (8, [.ref he, .int hd, .int tl])), (he, .inl (D.1 103, ne, .inr (.inr (.inr (.inr el)))))])) [0, 3, 4, 5, 6, 7, 8, 1, 2] (by decide) rfl ?_
    exact v_iret X hr ⟨rfl, rfl⟩ (Nat.le_of_ble_eq_true rfl) (Nat.le_of_ble_eq_true rfl) dX0_setSource_28
  · replace hF := ifn h8 hF
    refine v_iload_n 12 X 2 dX0_setSource_11 rfl rfl rfl ?_
    obtain ⟨z12, hz12, hF⟩ := ob hF
    refine v_mSi 15 X 1 [.int v2] (w_X0_isDye ([(a0, .inr (0, [.ref b0, .ref hq, .ref tx])), (hq, .inr (8, [.ref he, .int hd, .int tl])), (he, .inl (D.1 103, ne, .inr (.inr (.inr (.inr el)))))] ++ LW D b0 b1 b2 b3 b4 b5 n n4 cols rows kd thr bt tm rea gr vl so dy cg) v2 _ hz12) q469 q470 q84 q471 hdX0_isDye pass_no ⟨rfl, rfl⟩ ⟨Nat.le_of_ble_eq_true rfl, Nat.le_of_ble_eq_true rfl⟩ ⟨(Nat.le_of_ble_eq_true rfl), (Nat.le_of_ble_eq_true rfl)⟩ rfl rfl (Nat.le_of_ble_eq_true rfl) dX0_setSource_12 rfl ?_
    refine v_if_eq 18 27 X dX0_setSource_15 rfl (by decide) (fun h15 => ?_) (fun h15 => ?_)
    · replace hF := ifp h15 hF
      refine v_iconst (v := (-1)) 28 X dX0_setSource_27 rfl ki_m1 ?_
      obtain rfl := Option.some.inj hF
      refine v_ws (ws' := ([(a0, .inr (0, [.ref b0, .ref hq, .ref tx]))] ++ LW D b0 b1 b2 b3 b4 b5 n n4 cols rows kd thr bt tm rea gr vl so dy cg ++ [(hq, .inr (8, [.ref he, .int hd, .int tl])), (he, .inl (D.1 103, ne, .inr (.inr (.inr (.inr el)))))])) [0, 3, 4, 5, 6, 7, 8, 1, 2] (by decide) rfl ?_
      exact v_iret X hr ⟨rfl, rfl⟩ (Nat.le_of_ble_eq_true rfl) (Nat.le_of_ble_eq_true rfl) dX0_setSource_28
    · replace hF := ifn h15 hF
      refine v_iload_n 19 X 3 dX0_setSource_18 rfl rfl rfl ?_
      refine v_iconst (v := 0) 20 X dX0_setSource_19 rfl ki_0 ?_
      refine v_iconst (v := 1) 21 X dX0_setSource_20 rfl ki_1 ?_
      obtain ⟨z21, hz21, hF⟩ := ob hF
      refine v_mSi 24 X 3 [.int v3, .int 0, .int 1] (w_X0_isBetween ([(a0, .inr (0, [.ref b0, .ref hq, .ref tx])), (hq, .inr (8, [.ref he, .int hd, .int tl])), (he, .inl (D.1 103, ne, .inr (.inr (.inr (.inr el)))))] ++ LW D b0 b1 b2 b3 b4 b5 n n4 cols rows kd thr bt tm rea gr vl so dy cg) v3 0 1 _ hz21) q260 q261 q84 q262 hdX0_isBetween pass_no ⟨rfl, rfl⟩ ⟨Nat.le_of_ble_eq_true rfl, Nat.le_of_ble_eq_true rfl⟩ ⟨(Nat.le_of_ble_eq_true rfl), (Nat.le_of_ble_eq_true rfl)⟩ rfl rfl (Nat.le_of_ble_eq_true rfl) dX0_setSource_21 rfl ?_
      refine v_if_ne 27 29 X dX0_setSource_24 rfl (by decide) (fun h24 => ?_) (fun h24 => ?_)
      · replace hF := ifn h24 hF
        refine v_aload_n 30 X 0 dX0_setSource_29 rfl rfl rfl ?_
        refine v_get 33 X in_X0 0 0 rfl rfl (by decide) q245 rfl rfl dX0_setSource_30 rfl ?_
        refine v_getN 36 X hAm in_X1 3 9 rfl rfl (by decide) q160 rfl rfl dX0_setSource_33 rfl ?_
        refine v_iload_n 37 X 1 dX0_setSource_36 rfl rfl rfl ?_
        obtain ⟨z37, hz37, hF⟩ := ob hF
        refine v_iald 38 X 6 hz37 rfl dX0_setSource_37 rfl ?_
        refine v_iload_n 39 X 2 dX0_setSource_38 rfl rfl rfl ?_
        refine v_ishr 40 X dX0_setSource_39 rfl ?_
        refine v_iconst (v := 1) 41 X dX0_setSource_40 rfl ki_1 ?_
        refine v_iand 42 X dX0_setSource_41 rfl ?_
        refine v_iload_n 43 X 3 dX0_setSource_42 rfl rfl rfl ?_
        refine v_icmp_ne 46 49 X dX0_setSource_43 rfl (by decide) (fun h43 => ?_) (fun h43 => ?_)
        · replace hF := ifn h43 hF
          refine v_aload_n 50 X 0 dX0_setSource_49 rfl rfl rfl ?_
          obtain ⟨z50, hz50, hF⟩ := ob hF
          refine vc_Vr (wr := ([] : va_W)) 53 6 652 X 0 [] [0, 3, 4, 5, 6, 7, 8, 1, 2] [] ([(a0, .inr (0, [.ref b0, .ref hq, .ref tx]))] ++ LW D b0 b1 b2 b3 b4 b5 n n4 cols rows kd thr bt tm rea gr vl so dy cg ++ [(hq, .inr (8, [.ref he, .int hd, .int tl])), (he, .inl (D.1 103, ne, .inr (.inr (.inr (.inr el)))))]) rfl rfl (by decide) (by decide) (by decide) (w_X0_act _ hz50) q352 q354 qs3 q84 q355 hdX0_act 0 rfl rfl (hx_pass hAm hH) ⟨Nat.le_of_ble_eq_true rfl, Nat.le_of_ble_eq_true rfl⟩ ⟨(Nat.le_of_ble_eq_true rfl), (Nat.le_of_ble_eq_true rfl)⟩ rfl rfl (Nat.le_of_ble_eq_true rfl) dX0_setSource_50 rfl rfl rfl (fun a50 u50 e50 => ?_)
          obtain ⟨q50_1, q50_2, q50_3, q50_4, q50_5, q50_6, e501, rfl⟩ := e50
          have e502 := e501.symm
          subst e502
          refine v_ws (ws' := ([(a0, .inr (0, [.ref q50_1, .ref hq, .ref tx]))] ++ LW D q50_1 q50_2 q50_3 q50_4 q50_5 q50_6 z50.2.2.2.2.2.2.2.1 z50.2.2.2.2.2.2.2.2.2.1 z50.1 z50.2.1 z50.2.2.1 z50.2.2.2.1 z50.2.2.2.2.1 z50.2.2.2.2.2.1 z50.2.2.2.2.2.2.1 z50.2.2.2.2.2.2.2.2.1 z50.2.2.2.2.2.2.2.2.2.2.1 z50.2.2.2.2.2.2.2.2.2.2.2.1 z50.2.2.2.2.2.2.2.2.2.2.2.2.1 z50.2.2.2.2.2.2.2.2.2.2.2.2.2.1 ++ [(hq, .inr (8, [.ref he, .int z50.2.2.2.2.2.2.2.2.2.2.2.2.2.2.1, .int z50.2.2.2.2.2.2.2.2.2.2.2.2.2.2.2.1])), (he, .inl (D.1 103, ne, .inr (.inr (.inr (.inr z50.2.2.2.2.2.2.2.2.2.2.2.2.2.2.2.2)))))] ++ LW D b0 b1 b2 b3 b4 b5 n n4 cols rows kd thr bt tm rea gr vl so dy cg)) [0, 1, 2, 3, 4, 5, 6, 7, 8, 9, 10, 11, 12, 13, 14] (by decide) rfl ?_
          refine v_getN 56 X hAm in_X1 1 9 rfl rfl (by decide) q160 rfl rfl dX0_setSource_53 rfl ?_
          refine v_iload_n 57 X 1 dX0_setSource_56 rfl rfl rfl ?_
          refine v_dup2 58 X dX0_setSource_57 rfl rfl rfl ?_
          obtain ⟨z58, hz58, hF⟩ := ob hF
          refine v_iald 59 X 4 hz58 rfl dX0_setSource_58 rfl ?_
          refine v_iconst (v := 1) 60 X dX0_setSource_59 rfl ki_1 ?_
          refine v_iload_n 61 X 2 dX0_setSource_60 rfl rfl rfl ?_
          refine v_ishl 62 X dX0_setSource_61 rfl ?_
          refine v_ixor 63 X dX0_setSource_62 rfl ?_
          obtain ⟨z63, hz63, hF⟩ := ob hF
          refine v_iast 64 ([(a0, .inr (0, [.ref q50_1, .ref hq, .ref tx]))] ++ LW D q50_1 q50_2 q50_3 q50_4 q50_5 q50_6 z50.2.2.2.2.2.2.2.1 z50.2.2.2.2.2.2.2.2.2.1 z50.1 z50.2.1 z50.2.2.1 z50.2.2.2.1 z50.2.2.2.2.1 z50.2.2.2.2.2.1 z50.2.2.2.2.2.2.1 z50.2.2.2.2.2.2.2.2.1 z50.2.2.2.2.2.2.2.2.2.2.1 z63 z50.2.2.2.2.2.2.2.2.2.2.2.2.1 z50.2.2.2.2.2.2.2.2.2.2.2.2.2.1 ++ [(hq, .inr (8, [.ref he, .int z50.2.2.2.2.2.2.2.2.2.2.2.2.2.2.1, .int z50.2.2.2.2.2.2.2.2.2.2.2.2.2.2.2.1])), (he, .inl (D.1 103, ne, .inr (.inr (.inr (.inr z50.2.2.2.2.2.2.2.2.2.2.2.2.2.2.2.2)))))] ++ LW D b0 b1 b2 b3 b4 b5 n n4 cols rows kd thr bt tm rea gr vl so dy cg) X 4 hz63 rfl dX0_setSource_63 rfl rfl ?_
          refine v_aload_n 65 X 0 dX0_setSource_64 rfl rfl rfl ?_
          refine v_get 68 X in_X0 0 0 rfl rfl (by decide) q245 rfl rfl dX0_setSource_65 rfl ?_
          refine v_iload_n 69 X 2 dX0_setSource_68 rfl rfl rfl ?_
          obtain ⟨z69, hz69, hF⟩ := ob hF
          refine vc_Vi (wr := ([(a0, .inr (0, [.ref q50_1, .ref hq, .ref tx])), (hq, .inr (8, [.ref he, .int z50.2.2.2.2.2.2.2.2.2.2.2.2.2.2.1, .int z50.2.2.2.2.2.2.2.2.2.2.2.2.2.2.2.1])), (he, .inl (D.1 103, ne, .inr (.inr (.inr (.inr z50.2.2.2.2.2.2.2.2.2.2.2.2.2.2.2.2)))))] ++ LW D b0 b1 b2 b3 b4 b5 n n4 cols rows kd thr bt tm rea gr vl so dy cg)) 72 6 652 X 1 [.int v2] [1, 2, 3, 4, 5, 6] [0, 7, 8, 9, 10, 11, 12, 13, 14] (LW D q50_1 q50_2 q50_3 q50_4 q50_5 q50_6 z50.2.2.2.2.2.2.2.1 z50.2.2.2.2.2.2.2.2.2.1 z50.1 z50.2.1 z50.2.2.1 z50.2.2.2.1 z50.2.2.2.2.1 z50.2.2.2.2.2.1 z50.2.2.2.2.2.2.1 z50.2.2.2.2.2.2.2.2.1 z50.2.2.2.2.2.2.2.2.2.2.1 z63 z50.2.2.2.2.2.2.2.2.2.2.2.2.1 z50.2.2.2.2.2.2.2.2.2.2.2.2.2.1) rfl rfl (by decide) (by decide) (by decide) (w_X1_sourcesOf v2 _ hz69) q472 q473 q474 q85 q475 hdX1_sourcesOf 1 rfl rfl (pass_amb hAm) ⟨Nat.le_of_ble_eq_true rfl, Nat.le_of_ble_eq_true rfl⟩ ⟨(Nat.le_of_ble_eq_true rfl), (Nat.le_of_ble_eq_true rfl)⟩ rfl rfl (Nat.le_of_ble_eq_true rfl) dX0_setSource_69 rfl rfl rfl (fun r69 u69 e69 => ?_)
          obtain ⟨e691, rfl⟩ := e69
          have e692 := e691.symm
          subst e692
          refine v_ws (ws' := ([(a0, .inr (0, [.ref q50_1, .ref hq, .ref tx])), (hq, .inr (8, [.ref he, .int z50.2.2.2.2.2.2.2.2.2.2.2.2.2.2.1, .int z50.2.2.2.2.2.2.2.2.2.2.2.2.2.2.2.1])), (he, .inl (D.1 103, ne, .inr (.inr (.inr (.inr z50.2.2.2.2.2.2.2.2.2.2.2.2.2.2.2.2)))))] ++ LW D b0 b1 b2 b3 b4 b5 n n4 cols rows kd thr bt tm rea gr vl so dy cg ++ LW D q50_1 q50_2 q50_3 q50_4 q50_5 q50_6 z50.2.2.2.2.2.2.2.1 z50.2.2.2.2.2.2.2.2.2.1 z50.1 z50.2.1 z50.2.2.1 z50.2.2.2.1 z50.2.2.2.2.1 z50.2.2.2.2.2.1 z50.2.2.2.2.2.2.1 z50.2.2.2.2.2.2.2.2.1 z50.2.2.2.2.2.2.2.2.2.2.1 z63 z50.2.2.2.2.2.2.2.2.2.2.2.2.1 z50.2.2.2.2.2.2.2.2.2.2.2.2.2.1)) [0, 1, 2, 3, 4, 5, 6, 7, 8, 9, 10, 11, 12, 13, 14] (by decide) rfl ?_
          obtain rfl := Option.some.inj hF
          refine v_ws (ws' := ([(a0, .inr (0, [.ref q50_1, .ref hq, .ref tx]))] ++ LW D q50_1 q50_2 q50_3 q50_4 q50_5 q50_6 z50.2.2.2.2.2.2.2.1 z50.2.2.2.2.2.2.2.2.2.1 z50.1 z50.2.1 z50.2.2.1 z50.2.2.2.1 z50.2.2.2.2.1 z50.2.2.2.2.2.1 z50.2.2.2.2.2.2.1 z50.2.2.2.2.2.2.2.2.1 z50.2.2.2.2.2.2.2.2.2.2.1 z63 z50.2.2.2.2.2.2.2.2.2.2.2.2.1 z50.2.2.2.2.2.2.2.2.2.2.2.2.2.1 ++ [(hq, .inr (8, [.ref he, .int z50.2.2.2.2.2.2.2.2.2.2.2.2.2.2.1, .int z50.2.2.2.2.2.2.2.2.2.2.2.2.2.2.2.1])), (he, .inl (D.1 103, ne, .inr (.inr (.inr (.inr z50.2.2.2.2.2.2.2.2.2.2.2.2.2.2.2.2)))))] ++ LW D b0 b1 b2 b3 b4 b5 n n4 cols rows kd thr bt tm rea gr vl so dy cg)) [0, 9, 10, 11, 12, 13, 14, 1, 2, 3, 4, 5, 6, 7, 8] (by decide) rfl ?_
          exact v_iret X hr ⟨q50_1, q50_2, q50_3, q50_4, q50_5, q50_6, rfl, rfl⟩ (Nat.le_of_ble_eq_true rfl) (Nat.le_of_ble_eq_true rfl) dX0_setSource_72
        · replace hF := ifp h43 hF
          refine v_bipush (v := (-2)) 48 X dX0_setSource_46 rfl kb_m2 ?_
          obtain rfl := Option.some.inj hF
          refine v_ws (ws' := ([(a0, .inr (0, [.ref b0, .ref hq, .ref tx]))] ++ LW D b0 b1 b2 b3 b4 b5 n n4 cols rows kd thr bt tm rea gr vl so dy cg ++ [(hq, .inr (8, [.ref he, .int hd, .int tl])), (he, .inl (D.1 103, ne, .inr (.inr (.inr (.inr el)))))])) [0, 3, 4, 5, 6, 7, 8, 1, 2] (by decide) rfl ?_
          exact v_iret X hr ⟨rfl, rfl⟩ (Nat.le_of_ble_eq_true rfl) (Nat.le_of_ble_eq_true rfl) dX0_setSource_48
      · replace hF := ifp h24 hF
        refine v_iconst (v := (-1)) 28 X dX0_setSource_27 rfl ki_m1 ?_
        obtain rfl := Option.some.inj hF
        refine v_ws (ws' := ([(a0, .inr (0, [.ref b0, .ref hq, .ref tx]))] ++ LW D b0 b1 b2 b3 b4 b5 n n4 cols rows kd thr bt tm rea gr vl so dy cg ++ [(hq, .inr (8, [.ref he, .int hd, .int tl])), (he, .inl (D.1 103, ne, .inr (.inr (.inr (.inr el)))))])) [0, 3, 4, 5, 6, 7, 8, 1, 2] (by decide) rfl ?_
        exact v_iret X hr ⟨rfl, rfl⟩ (Nat.le_of_ble_eq_true rfl) (Nat.le_of_ble_eq_true rfl) dX0_setSource_28
theorem w_X0_setReaction (v1 : Int32) (v2 : Int32) (v3 : Int32) (r : ((Int32 × Int32 × Int32 × (Nat → Option Nat)) ⊕ (Int32 × Int32 × Int32 × Nat × Int32 × Int32 × Int32 × Int32 × Nat × (Nat → Int32) × Nat × (Nat → Nat) × (Nat → Int32) × (Nat → Int32) × (Nat → Int32) × Int32 × Int32 × (Nat → Option Nat)))) (hF : C_setReaction cols rows thr bt tm rea kd n n4 vl gr so dy cg b0 ne el hd tl hs v1 v2 v3 = some r) : CTi l yX0_setReaction cX0_setReaction 4 (Option.some Jvm.ClassFile.FieldType.int) rmX0_setReaction D ([(a0, .inr (0, [.ref b0, .ref hq, .ref tx]))] ++ LW D b0 b1 b2 b3 b4 b5 n n4 cols rows kd thr bt tm rea gr vl so dy cg ++ [(hq, .inr (8, [.ref he, .int hd, .int tl])), (he, .inl (D.1 103, ne, .inr (.inr (.inr (.inr el)))))]) [.ref a0, .int v1, .int v2, .int v3] (HX D hs) (fun r1 u => match r with | (.inl x) => r1 = x.1 ∧ u = ([(a0, .inr (0, [.ref b0, .ref hq, .ref tx]))] ++ LW D b0 b1 b2 b3 b4 b5 n n4 cols rows kd thr bt tm rea gr vl so dy cg ++ [(hq, .inr (8, [.ref he, .int x.2.1, .int x.2.2.1])), (he, .inl (D.1 103, ne, .inr (.inr (.inr (.inr x.2.2.2)))))]) | (.inr x) => ∃ qa1 qa2 qa3 qa4 qa5 qa6 : Nat, r1 = x.1 ∧ u = ([(a0, .inr (0, [.ref qa1, .ref hq, .ref tx]))] ++ LW D qa1 qa2 qa3 qa4 qa5 qa6 x.2.2.2.2.2.2.2.2.1 x.2.2.2.2.2.2.2.2.2.2.1 x.2.1 x.2.2.1 x.2.2.2.1 x.2.2.2.2.1 x.2.2.2.2.2.1 x.2.2.2.2.2.2.1 x.2.2.2.2.2.2.2.1 x.2.2.2.2.2.2.2.2.2.1 x.2.2.2.2.2.2.2.2.2.2.2.1 x.2.2.2.2.2.2.2.2.2.2.2.2.1 x.2.2.2.2.2.2.2.2.2.2.2.2.2.1 x.2.2.2.2.2.2.2.2.2.2.2.2.2.2.1 ++ [(hq, .inr (8, [.ref he, .int x.2.2.2.2.2.2.2.2.2.2.2.2.2.2.2.1, .int x.2.2.2.2.2.2.2.2.2.2.2.2.2.2.2.2.1])), (he, .inl (D.1 103, ne, .inr (.inr (.inr (.inr x.2.2.2.2.2.2.2.2.2.2.2.2.2.2.2.2.2)))))] ++ LW D b0 b1 b2 b3 b4 b5 n n4 cols rows kd thr bt tm rea gr vl so dy cg)) := by
  refine m_i (by decide) (Nat.le_of_ble_eq_true rfl) ?_
  intro p e s m args below meth c A B
  obtain ⟨X, hr, hAm, -, hnm, hnmd⟩ := B
  obtain ⟨hAm, hH⟩ := hAm
  replace X : CX p s m args meth c D A cX0_setReaction 4 "DyeLattice" := X
  refine v_lv (lv' := [(0, .ref a0), (1, .int v1), (2, .int v2), (3, .int v3)]) [0, 1, 2, 3] rfl ?_
  unfold C_setReaction at hF
  refine v_iload_n 1 X 1 dX0_setReaction_0 rfl rfl rfl ?_
  obtain ⟨z1, hz1, hF⟩ := ob hF
  refine v_mSi 4 X 1 [.int v1] (w_X0_isDye ([(a0, .inr (0, [.ref b0, .ref hq, .ref tx]))] ++ LW D b0 b1 b2 b3 b4 b5 n n4 cols rows kd thr bt tm rea gr vl so dy cg ++ [(hq, .inr (8, [.ref he, .int hd, .int tl])), (he, .inl (D.1 103, ne, .inr (.inr (.inr (.inr el)))))]) v1 _ hz1) q469 q470 q84 q471 hdX0_isDye pass_no ⟨rfl, rfl⟩ ⟨Nat.le_of_ble_eq_true rfl, Nat.le_of_ble_eq_true rfl⟩ ⟨(Nat.le_of_ble_eq_true rfl), (Nat.le_of_ble_eq_true rfl)⟩ rfl rfl (Nat.le_of_ble_eq_true rfl) dX0_setReaction_1 rfl ?_
  refine v_if_eq 7 28 X dX0_setReaction_4 rfl (by decide) (fun h4 => ?_) (fun h4 => ?_)
  · replace hF := ifp h4 hF
    refine v_iconst (v := (-1)) 29 X dX0_setReaction_28 rfl ki_m1 ?_
    obtain rfl := Option.some.inj hF
    exact v_iret X hr ⟨rfl, rfl⟩ (Nat.le_of_ble_eq_true rfl) (Nat.le_of_ble_eq_true rfl) dX0_setReaction_29
  · replace hF := ifn h4 hF
    refine v_iload_n 8 X 2 dX0_setReaction_7 rfl rfl rfl ?_
    obtain ⟨z8, hz8, hF⟩ := ob hF
    refine v_mSi 11 X 1 [.int v2] (w_X0_isDye ([(a0, .inr (0, [.ref b0, .ref hq, .ref tx]))] ++ LW D b0 b1 b2 b3 b4 b5 n n4 cols rows kd thr bt tm rea gr vl so dy cg ++ [(hq, .inr (8, [.ref he, .int hd, .int tl])), (he, .inl (D.1 103, ne, .inr (.inr (.inr (.inr el)))))]) v2 _ hz8) q469 q470 q84 q471 hdX0_isDye pass_no ⟨rfl, rfl⟩ ⟨Nat.le_of_ble_eq_true rfl, Nat.le_of_ble_eq_true rfl⟩ ⟨(Nat.le_of_ble_eq_true rfl), (Nat.le_of_ble_eq_true rfl)⟩ rfl rfl (Nat.le_of_ble_eq_true rfl) dX0_setReaction_8 rfl ?_
    refine v_if_eq 14 28 X dX0_setReaction_11 rfl (by decide) (fun h11 => ?_) (fun h11 => ?_)
    · replace hF := ifp h11 hF
      refine v_iconst (v := (-1)) 29 X dX0_setReaction_28 rfl ki_m1 ?_
      obtain rfl := Option.some.inj hF
      exact v_iret X hr ⟨rfl, rfl⟩ (Nat.le_of_ble_eq_true rfl) (Nat.le_of_ble_eq_true rfl) dX0_setReaction_29
    · replace hF := ifn h11 hF
      refine v_iload_n 15 X 1 dX0_setReaction_14 rfl rfl rfl ?_
      refine v_iload_n 16 X 2 dX0_setReaction_15 rfl rfl rfl ?_
      refine v_icmp_eq 19 28 X dX0_setReaction_16 rfl (by decide) (fun h16 => ?_) (fun h16 => ?_)
      · replace hF := ifp h16 hF
        refine v_iconst (v := (-1)) 29 X dX0_setReaction_28 rfl ki_m1 ?_
        obtain rfl := Option.some.inj hF
        exact v_iret X hr ⟨rfl, rfl⟩ (Nat.le_of_ble_eq_true rfl) (Nat.le_of_ble_eq_true rfl) dX0_setReaction_29
      · replace hF := ifn h16 hF
        refine v_iload_n 20 X 3 dX0_setReaction_19 rfl rfl rfl ?_
        refine v_iconst (v := 0) 21 X dX0_setReaction_20 rfl ki_0 ?_
        refine v_iconst (v := 1) 22 X dX0_setReaction_21 rfl ki_1 ?_
        obtain ⟨z22, hz22, hF⟩ := ob hF
        refine v_mSi 25 X 3 [.int v3, .int 0, .int 1] (w_X0_isBetween ([(a0, .inr (0, [.ref b0, .ref hq, .ref tx]))] ++ LW D b0 b1 b2 b3 b4 b5 n n4 cols rows kd thr bt tm rea gr vl so dy cg ++ [(hq, .inr (8, [.ref he, .int hd, .int tl])), (he, .inl (D.1 103, ne, .inr (.inr (.inr (.inr el)))))]) v3 0 1 _ hz22) q260 q261 q84 q262 hdX0_isBetween pass_no ⟨rfl, rfl⟩ ⟨Nat.le_of_ble_eq_true rfl, Nat.le_of_ble_eq_true rfl⟩ ⟨(Nat.le_of_ble_eq_true rfl), (Nat.le_of_ble_eq_true rfl)⟩ rfl rfl (Nat.le_of_ble_eq_true rfl) dX0_setReaction_22 rfl ?_
        refine v_if_ne 28 30 X dX0_setReaction_25 rfl (by decide) (fun h25 => ?_) (fun h25 => ?_)
        · replace hF := ifn h25 hF
          refine v_aload_n 31 X 0 dX0_setReaction_30 rfl rfl rfl ?_
          refine v_get 34 X in_X0 0 0 rfl rfl (by decide) q245 rfl rfl dX0_setReaction_31 rfl ?_
          refine v_getN 37 X hAm in_X1 1 6 rfl rfl (by decide) q151 rfl rfl dX0_setReaction_34 rfl ?_
          refine v_iload_n 38 X 1 dX0_setReaction_37 rfl rfl rfl ?_
          refine v_iload_n 39 X 2 dX0_setReaction_38 rfl rfl rfl ?_
          obtain ⟨z39, hz39, hF⟩ := ob hF
          refine v_mSi 42 X 2 [.int v1, .int v2] (w_X0_pair ([(a0, .inr (0, [.ref b0, .ref hq, .ref tx]))] ++ LW D b0 b1 b2 b3 b4 b5 n n4 cols rows kd thr bt tm rea gr vl so dy cg ++ [(hq, .inr (8, [.ref he, .int hd, .int tl])), (he, .inl (D.1 103, ne, .inr (.inr (.inr (.inr el)))))]) v1 v2 _ hz39) q480 q481 q84 q482 hdX0_pair pass_no ⟨rfl, rfl⟩ ⟨Nat.le_of_ble_eq_true rfl, Nat.le_of_ble_eq_true rfl⟩ ⟨(Nat.le_of_ble_eq_true rfl), (Nat.le_of_ble_eq_true rfl)⟩ rfl rfl (Nat.le_of_ble_eq_true rfl) dX0_setReaction_39 rfl ?_
          refine v_ishr 43 X dX0_setReaction_42 rfl ?_
          refine v_iconst (v := 1) 44 X dX0_setReaction_43 rfl ki_1 ?_
          refine v_iand 45 X dX0_setReaction_44 rfl ?_
          refine v_iload_n 46 X 3 dX0_setReaction_45 rfl rfl rfl ?_
          refine v_icmp_ne 49 52 X dX0_setReaction_46 rfl (by decide) (fun h46 => ?_) (fun h46 => ?_)
          · replace hF := ifn h46 hF
            refine v_aload_n 53 X 0 dX0_setReaction_52 rfl rfl rfl ?_
            obtain ⟨z53, hz53, hF⟩ := ob hF
            refine vc_Vr (wr := ([] : va_W)) 56 6 652 X 0 [] [0, 1, 2, 3, 4, 5, 6, 7, 8] [] ([(a0, .inr (0, [.ref b0, .ref hq, .ref tx]))] ++ LW D b0 b1 b2 b3 b4 b5 n n4 cols rows kd thr bt tm rea gr vl so dy cg ++ [(hq, .inr (8, [.ref he, .int hd, .int tl])), (he, .inl (D.1 103, ne, .inr (.inr (.inr (.inr el)))))]) rfl rfl (by decide) (by decide) (by decide) (w_X0_act _ hz53) q352 q354 qs3 q84 q355 hdX0_act 0 rfl rfl (hx_pass hAm hH) ⟨Nat.le_of_ble_eq_true rfl, Nat.le_of_ble_eq_true rfl⟩ ⟨(Nat.le_of_ble_eq_true rfl), (Nat.le_of_ble_eq_true rfl)⟩ rfl rfl (Nat.le_of_ble_eq_true rfl) dX0_setReaction_53 rfl rfl rfl (fun a53 u53 e53 => ?_)
            obtain ⟨q53_1, q53_2, q53_3, q53_4, q53_5, q53_6, e531, rfl⟩ := e53
            have e532 := e531.symm
            subst e532
            refine v_ws (ws' := ([(a0, .inr (0, [.ref q53_1, .ref hq, .ref tx]))] ++ LW D q53_1 q53_2 q53_3 q53_4 q53_5 q53_6 z53.2.2.2.2.2.2.2.1 z53.2.2.2.2.2.2.2.2.2.1 z53.1 z53.2.1 z53.2.2.1 z53.2.2.2.1 z53.2.2.2.2.1 z53.2.2.2.2.2.1 z53.2.2.2.2.2.2.1 z53.2.2.2.2.2.2.2.2.1 z53.2.2.2.2.2.2.2.2.2.2.1 z53.2.2.2.2.2.2.2.2.2.2.2.1 z53.2.2.2.2.2.2.2.2.2.2.2.2.1 z53.2.2.2.2.2.2.2.2.2.2.2.2.2.1 ++ [(hq, .inr (8, [.ref he, .int z53.2.2.2.2.2.2.2.2.2.2.2.2.2.2.1, .int z53.2.2.2.2.2.2.2.2.2.2.2.2.2.2.2.1])), (he, .inl (D.1 103, ne, .inr (.inr (.inr (.inr z53.2.2.2.2.2.2.2.2.2.2.2.2.2.2.2.2)))))] ++ LW D b0 b1 b2 b3 b4 b5 n n4 cols rows kd thr bt tm rea gr vl so dy cg)) [0, 1, 2, 3, 4, 5, 6, 7, 8, 9, 10, 11, 12, 13, 14] (by decide) rfl ?_
            refine v_dup 57 X dX0_setReaction_56 rfl rfl ?_
            refine v_getN 60 X hAm in_X1 1 6 rfl rfl (by decide) q151 rfl rfl dX0_setReaction_57 rfl ?_
            refine v_iconst (v := 1) 61 X dX0_setReaction_60 rfl ki_1 ?_
            refine v_iload_n 62 X 1 dX0_setReaction_61 rfl rfl rfl ?_
            refine v_iload_n 63 X 2 dX0_setReaction_62 rfl rfl rfl ?_
            obtain ⟨z63, hz63, hF⟩ := ob hF
            refine v_mSi 66 X 2 [.int v1, .int v2] (w_X0_pair ([(a0, .inr (0, [.ref q53_1, .ref hq, .ref tx]))] ++ LW D q53_1 q53_2 q53_3 q53_4 q53_5 q53_6 z53.2.2.2.2.2.2.2.1 z53.2.2.2.2.2.2.2.2.2.1 z53.1 z53.2.1 z53.2.2.1 z53.2.2.2.1 z53.2.2.2.2.1 z53.2.2.2.2.2.1 z53.2.2.2.2.2.2.1 z53.2.2.2.2.2.2.2.2.1 z53.2.2.2.2.2.2.2.2.2.2.1 z53.2.2.2.2.2.2.2.2.2.2.2.1 z53.2.2.2.2.2.2.2.2.2.2.2.2.1 z53.2.2.2.2.2.2.2.2.2.2.2.2.2.1 ++ [(hq, .inr (8, [.ref he, .int z53.2.2.2.2.2.2.2.2.2.2.2.2.2.2.1, .int z53.2.2.2.2.2.2.2.2.2.2.2.2.2.2.2.1])), (he, .inl (D.1 103, ne, .inr (.inr (.inr (.inr z53.2.2.2.2.2.2.2.2.2.2.2.2.2.2.2.2)))))] ++ LW D b0 b1 b2 b3 b4 b5 n n4 cols rows kd thr bt tm rea gr vl so dy cg) v1 v2 _ hz63) q480 q481 q84 q482 hdX0_pair pass_no ⟨rfl, rfl⟩ ⟨Nat.le_of_ble_eq_true rfl, Nat.le_of_ble_eq_true rfl⟩ ⟨(Nat.le_of_ble_eq_true rfl), (Nat.le_of_ble_eq_true rfl)⟩ rfl rfl (Nat.le_of_ble_eq_true rfl) dX0_setReaction_63 rfl ?_
            refine v_ishl 67 X dX0_setReaction_66 rfl ?_
            refine v_ixor 68 X dX0_setReaction_67 rfl ?_
            refine v_putN 71 ([(a0, .inr (0, [.ref q53_1, .ref hq, .ref tx]))] ++ LW D q53_1 q53_2 q53_3 q53_4 q53_5 q53_6 z53.2.2.2.2.2.2.2.1 z53.2.2.2.2.2.2.2.2.2.1 z53.1 z53.2.1 z53.2.2.1 z53.2.2.2.1 z53.2.2.2.2.1 z53.2.2.2.2.2.1 (z53.2.2.2.2.2.2.1 ^^^ ((1 : Int32) <<< (z63 &&& 31))) z53.2.2.2.2.2.2.2.2.1 z53.2.2.2.2.2.2.2.2.2.2.1 z53.2.2.2.2.2.2.2.2.2.2.2.1 z53.2.2.2.2.2.2.2.2.2.2.2.2.1 z53.2.2.2.2.2.2.2.2.2.2.2.2.2.1 ++ [(hq, .inr (8, [.ref he, .int z53.2.2.2.2.2.2.2.2.2.2.2.2.2.2.1, .int z53.2.2.2.2.2.2.2.2.2.2.2.2.2.2.2.1])), (he, .inl (D.1 103, ne, .inr (.inr (.inr (.inr z53.2.2.2.2.2.2.2.2.2.2.2.2.2.2.2.2)))))] ++ LW D b0 b1 b2 b3 b4 b5 n n4 cols rows kd thr bt tm rea gr vl so dy cg) X hAm in_X1 tyX1_ok nmX1 1 6 rfl rfl (by decide) q151 rfl rfl rfl rfl rfl (Nat.le_of_ble_eq_true rfl) dX0_setReaction_68 rfl rfl ?_
            refine v_aload_n 72 X 0 dX0_setReaction_71 rfl rfl rfl ?_
            refine v_get 75 X in_X0 0 0 rfl rfl (by decide) q245 rfl rfl dX0_setReaction_72 rfl ?_
            refine v_getN 78 X hAm in_X1 1 6 rfl rfl (by decide) q151 rfl rfl dX0_setReaction_75 rfl ?_
            obtain ⟨z78, hz78, hF⟩ := ob hF
            refine v_mSi 81 X 1 [.int (z53.2.2.2.2.2.2.1 ^^^ ((1 : Int32) <<< (z63 &&& 31)))] (w_J9_bitCount ([(a0, .inr (0, [.ref q53_1, .ref hq, .ref tx]))] ++ LW D q53_1 q53_2 q53_3 q53_4 q53_5 q53_6 z53.2.2.2.2.2.2.2.1 z53.2.2.2.2.2.2.2.2.2.1 z53.1 z53.2.1 z53.2.2.1 z53.2.2.2.1 z53.2.2.2.2.1 z53.2.2.2.2.2.1 (z53.2.2.2.2.2.2.1 ^^^ ((1 : Int32) <<< (z63 &&& 31))) z53.2.2.2.2.2.2.2.2.1 z53.2.2.2.2.2.2.2.2.2.2.1 z53.2.2.2.2.2.2.2.2.2.2.2.1 z53.2.2.2.2.2.2.2.2.2.2.2.2.1 z53.2.2.2.2.2.2.2.2.2.2.2.2.2.1 ++ [(hq, .inr (8, [.ref he, .int z53.2.2.2.2.2.2.2.2.2.2.2.2.2.2.1, .int z53.2.2.2.2.2.2.2.2.2.2.2.2.2.2.2.1])), (he, .inl (D.1 103, ne, .inr (.inr (.inr (.inr z53.2.2.2.2.2.2.2.2.2.2.2.2.2.2.2.2)))))] ++ LW D b0 b1 b2 b3 b4 b5 n n4 cols rows kd thr bt tm rea gr vl so dy cg) (z53.2.2.2.2.2.2.1 ^^^ ((1 : Int32) <<< (z63 &&& 31))) _ hz78) q483 q484 q99 q485 hdJ9_bitCount pass_no ⟨rfl, rfl⟩ ⟨Nat.le_of_ble_eq_true rfl, Nat.le_of_ble_eq_true rfl⟩ ⟨(Nat.le_of_ble_eq_true rfl), (Nat.le_of_ble_eq_true rfl)⟩ rfl rfl (Nat.le_of_ble_eq_true rfl) dX0_setReaction_78 rfl ?_
            obtain rfl := Option.some.inj hF
            exact v_iret X hr ⟨q53_1, q53_2, q53_3, q53_4, q53_5, q53_6, rfl, rfl⟩ (Nat.le_of_ble_eq_true rfl) (Nat.le_of_ble_eq_true rfl) dX0_setReaction_81
          · replace hF := ifp h46 hF
            refine v_bipush (v := (-2)) 51 X dX0_setReaction_49 rfl kb_m2 ?_
            obtain rfl := Option.some.inj hF
            exact v_iret X hr ⟨rfl, rfl⟩ (Nat.le_of_ble_eq_true rfl) (Nat.le_of_ble_eq_true rfl) dX0_setReaction_51
        · replace hF := ifp h25 hF
          refine v_iconst (v := (-1)) 29 X dX0_setReaction_28 rfl ki_m1 ?_
          obtain rfl := Option.some.inj hF
          exact v_iret X hr ⟨rfl, rfl⟩ (Nat.le_of_ble_eq_true rfl) (Nat.le_of_ble_eq_true rfl) dX0_setReaction_29
end
