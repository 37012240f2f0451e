set_option maxRecDepth 100000
set_option maxHeartbeats 4000000
section
variable {p : Program} {l : Launch} {e : Env} {s : State} {m : MethodId} {args : Array Value} {below : List Frame} {meth : Method} {c : Code} {D : va_G} {A : Nat → Prop} {Q : State → Prop} {ws : va_W} {t1 t2 bm bc a0 hq tx he ne b0u : Nat} {el : Nat → Option Nat} {hd tl : Int32} {hs : List Nat} {fst fsu : List Value} {k0 k1 k2 : Int32} {mk clu : Nat → Int32} {b0 b1 b2 b3 b4 b5 n n4 kd : Nat} {cols rows thr bt tm rea : Int32} {gr so dy cg : Nat → Int32} {vl : Nat → Nat}
theorem w_X0_setBeat (v1 : Int32) (r : ((Int32 × Int32 × Int32 × (Nat → Option Nat)) ⊕ (Int32 × Int32 × Int32 × Nat × Int32 × Int32 × Int32 × Int32 × Nat × (Nat → Int32) × Nat × (Nat → Nat) × (Nat → Int32) × (Nat → Int32) × (Nat → Int32) × Int32 × Int32 × (Nat → Option Nat)))) (hF : C_setBeat cols rows thr bt tm rea kd n n4 vl gr so dy cg b0 ne el hd tl hs v1 = some r) : CTi l yX0_setBeat cX0_setBeat 3 (Option.some Jvm.ClassFile.FieldType.int) rmX0_setBeat D ([(a0, .inr (0, [.ref b0, .ref hq, .ref tx]))] ++ LW D b0 b1 b2 b3 b4 b5 n n4 cols rows kd thr bt tm rea gr vl so dy cg ++ [(hq, .inr (8, [.ref he, .int hd, .int tl])), (he, .inl (D.1 103, ne, .inr (.inr (.inr (.inr el)))))]) [.ref a0, .int v1] (HX D hs) (fun r1 u => match r with | (.inl x) => r1 = x.1 ∧ u = ([(a0, .inr (0, [.ref b0, .ref hq, .ref tx]))] ++ LW D b0 b1 b2 b3 b4 b5 n n4 cols rows kd thr bt tm rea gr vl so dy cg ++ [(hq, .inr (8, [.ref he, .int x.2.1, .int x.2.2.1])), (he, .inl (D.1 103, ne, .inr (.inr (.inr (.inr x.2.2.2)))))]) | (.inr x) => ∃ qa1 qa2 qa3 qa4 qa5 qa6 : Nat, r1 = x.1 ∧ u = ([(a0, .inr (0, [.ref qa1, .ref hq, .ref tx]))] ++ LW D qa1 qa2 qa3 qa4 qa5 qa6 x.2.2.2.2.2.2.2.2.1 x.2.2.2.2.2.2.2.2.2.2.1 x.2.1 x.2.2.1 x.2.2.2.1 x.2.2.2.2.1 x.2.2.2.2.2.1 x.2.2.2.2.2.2.1 x.2.2.2.2.2.2.2.1 x.2.2.2.2.2.2.2.2.2.1 x.2.2.2.2.2.2.2.2.2.2.2.1 x.2.2.2.2.2.2.2.2.2.2.2.2.1 x.2.2.2.2.2.2.2.2.2.2.2.2.2.1 x.2.2.2.2.2.2.2.2.2.2.2.2.2.2.1 ++ [(hq, .inr (8, [.ref he, .int x.2.2.2.2.2.2.2.2.2.2.2.2.2.2.2.1, .int x.2.2.2.2.2.2.2.2.2.2.2.2.2.2.2.2.1])), (he, .inl (D.1 103, ne, .inr (.inr (.inr (.inr x.2.2.2.2.2.2.2.2.2.2.2.2.2.2.2.2.2)))))] ++ LW D b0 b1 b2 b3 b4 b5 n n4 cols rows kd thr bt tm rea gr vl so dy cg)) := by
  refine m_i (by decide) (Nat.le_of_ble_eq_true rfl) ?_
  intro p e s m args below meth c A B
  obtain ⟨X, hr, hAm, -, hnm, hnmd⟩ := B
  obtain ⟨hAm, hH⟩ := hAm
  replace X : CX p s m args meth c D A cX0_setBeat 3 "DyeLattice" := X
  refine v_lv (lv' := [(0, .ref a0), (1, .int v1)]) [0, 1] rfl ?_
  unfold C_setBeat at hF
  refine v_iload_n 1 X 1 dX0_setBeat_0 rfl rfl rfl ?_
  refine v_iconst (v := 1) 2 X dX0_setBeat_1 rfl ki_1 ?_
  refine v_bipush (v := 9) 4 X dX0_setBeat_2 rfl kb_9 ?_
  obtain ⟨z4, hz4, hF⟩ := ob hF
  refine v_mSi 7 X 3 [.int v1, .int 1, .int 9] (w_X0_isBetween ([(a0, .inr (0, [.ref b0, .ref hq, .ref tx]))] ++ LW D b0 b1 b2 b3 b4 b5 n n4 cols rows kd thr bt tm rea gr vl so dy cg ++ [(hq, .inr (8, [.ref he, .int hd, .int tl])), (he, .inl (D.1 103, ne, .inr (.inr (.inr (.inr el)))))]) v1 1 9 _ hz4) q260 q261 q84 q262 hdX0_isBetween pass_no ⟨rfl, rfl⟩ ⟨Nat.le_of_ble_eq_true rfl, Nat.le_of_ble_eq_true rfl⟩ ⟨(Nat.le_of_ble_eq_true rfl), (Nat.le_of_ble_eq_true rfl)⟩ rfl rfl (Nat.le_of_ble_eq_true rfl) dX0_setBeat_4 rfl ?_
  refine v_if_ne 10 12 X dX0_setBeat_7 rfl (by decide) (fun h7 => ?_) (fun h7 => ?_)
  · replace hF := ifn h7 hF
    refine v_aload_n 13 X 0 dX0_setBeat_12 rfl rfl rfl ?_
    refine v_get 16 X in_X0 0 0 rfl rfl (by decide) q245 rfl rfl dX0_setBeat_13 rfl ?_
    refine v_getN 19 X hAm in_X1 1 4 rfl rfl (by decide) q147 rfl rfl dX0_setBeat_16 rfl ?_
    refine v_istore_n 20 [(2, .int bt), (0, .ref a0), (1, .int v1)] X dX0_setBeat_19 rfl rfl (by decide) rfl ?_
    refine v_aload_n 21 X 1 dX0_setBeat_20 rfl rfl rfl ?_
    obtain ⟨z21, hz21, hF⟩ := ob hF
    refine vc_Vr (wr := ([] : va_W)) 24 6 652 X 0 [] [0, 1, 2, 3, 4, 5, 6, 7, 8] [] ([(a0, .inr (0, [.ref b0, .ref hq, .ref tx]))] ++ LW D b0 b1 b2 b3 b4 b5 n n4 cols rows kd thr bt tm rea gr vl so dy cg ++ [(hq, .inr (8, [.ref he, .int hd, .int tl])), (he, .inl (D.1 103, ne, .inr (.inr (.inr (.inr el)))))]) rfl rfl (by decide) (by decide) (by decide) (w_X0_act _ hz21) q352 q354 qs3 q84 q355 hdX0_act 0 rfl rfl (hx_pass hAm hH) ⟨Nat.le_of_ble_eq_true rfl, Nat.le_of_ble_eq_true rfl⟩ ⟨(Nat.le_of_ble_eq_true rfl), (Nat.le_of_ble_eq_true rfl)⟩ rfl rfl (Nat.le_of_ble_eq_true rfl) dX0_setBeat_21 rfl rfl rfl (fun a21 u21 e21 => ?_)
    obtain ⟨q21_1, q21_2, q21_3, q21_4, q21_5, q21_6, e211, rfl⟩ := e21
    have e212 := e211.symm
    subst e212
    refine v_ws (ws' := ([(a0, .inr (0, [.ref q21_1, .ref hq, .ref tx]))] ++ LW D q21_1 q21_2 q21_3 q21_4 q21_5 q21_6 z21.2.2.2.2.2.2.2.1 z21.2.2.2.2.2.2.2.2.2.1 z21.1 z21.2.1 z21.2.2.1 z21.2.2.2.1 z21.2.2.2.2.1 z21.2.2.2.2.2.1 z21.2.2.2.2.2.2.1 z21.2.2.2.2.2.2.2.2.1 z21.2.2.2.2.2.2.2.2.2.2.1 z21.2.2.2.2.2.2.2.2.2.2.2.1 z21.2.2.2.2.2.2.2.2.2.2.2.2.1 z21.2.2.2.2.2.2.2.2.2.2.2.2.2.1 ++ [(hq, .inr (8, [.ref he, .int z21.2.2.2.2.2.2.2.2.2.2.2.2.2.2.1, .int z21.2.2.2.2.2.2.2.2.2.2.2.2.2.2.2.1])), (he, .inl (D.1 103, ne, .inr (.inr (.inr (.inr z21.2.2.2.2.2.2.2.2.2.2.2.2.2.2.2.2)))))] ++ LW D b0 b1 b2 b3 b4 b5 n n4 cols rows kd thr bt tm rea gr vl so dy cg)) [0, 1, 2, 3, 4, 5, 6, 7, 8, 9, 10, 11, 12, 13, 14] (by decide) rfl ?_
    refine v_iload_n 25 X 2 dX0_setBeat_24 rfl rfl rfl ?_
    refine v_putN 28 ([(a0, .inr (0, [.ref q21_1, .ref hq, .ref tx]))] ++ LW D q21_1 q21_2 q21_3 q21_4 q21_5 q21_6 z21.2.2.2.2.2.2.2.1 z21.2.2.2.2.2.2.2.2.2.1 z21.1 z21.2.1 z21.2.2.1 z21.2.2.2.1 v1 z21.2.2.2.2.2.1 z21.2.2.2.2.2.2.1 z21.2.2.2.2.2.2.2.2.1 z21.2.2.2.2.2.2.2.2.2.2.1 z21.2.2.2.2.2.2.2.2.2.2.2.1 z21.2.2.2.2.2.2.2.2.2.2.2.2.1 z21.2.2.2.2.2.2.2.2.2.2.2.2.2.1 ++ [(hq, .inr (8, [.ref he, .int z21.2.2.2.2.2.2.2.2.2.2.2.2.2.2.1, .int z21.2.2.2.2.2.2.2.2.2.2.2.2.2.2.2.1])), (he, .inl (D.1 103, ne, .inr (.inr (.inr (.inr z21.2.2.2.2.2.2.2.2.2.2.2.2.2.2.2.2)))))] ++ LW D b0 b1 b2 b3 b4 b5 n n4 cols rows kd thr bt tm rea gr vl so dy cg) X hAm in_X1 tyX1_ok nmX1 1 4 rfl rfl (by decide) q147 rfl rfl rfl rfl rfl (Nat.le_of_ble_eq_true rfl) dX0_setBeat_25 rfl rfl ?_
    refine v_iload_n 29 X 0 dX0_setBeat_28 rfl rfl rfl ?_
    obtain rfl := Option.some.inj hF
    exact v_iret X hr ⟨q21_1, q21_2, q21_3, q21_4, q21_5, q21_6, rfl, rfl⟩ (Nat.le_of_ble_eq_true rfl) (Nat.le_of_ble_eq_true rfl) dX0_setBeat_29
  · replace hF := ifp h7 hF
    refine v_iconst (v := (-1)) 11 X dX0_setBeat_10 rfl ki_m1 ?_
    obtain rfl := Option.some.inj hF
    exact v_iret X hr ⟨rfl, rfl⟩ (Nat.le_of_ble_eq_true rfl) (Nat.le_of_ble_eq_true rfl) dX0_setBeat_11
theorem w_X0_run_40 (X : CX p s m args meth c D A cX0_run 5 "DyeLattice") (hAm : AMB D A s) (hH : ∀ z ∈ hs, va_O "DyeLattice$Lattice" z A s s.heap) {q31_1 : Nat} {q31_2 : Nat} {q31_3 : Nat} {q31_4 : Nat} {q31_6 : Nat} (v1 : Int32) (z31 : Int32 × Int32 × Nat × Int32 × Int32 × Int32 × Int32 × Nat × (Nat → Int32) × Nat × (Nat → Nat) × (Nat → Int32) × (Nat → Int32) × (Nat → Int32) × Int32 × Int32 × (Nat → Option Nat)) : ∀ (fu cb sb : Nat) (x : Int32 × Int32 × Int32 × (Nat → Int32) × (Nat → Int32)) (o : (Int32 × Int32 × (Nat → Int32) × (Nat → Int32))), cb + fu * 1 ≤ rmX0_run.cells → sb + fu * 80 ≤ rmX0_run.slots → loopN (fun x => C_run_40 v1 z31 x.1 x.2.1 x.2.2.1 x.2.2.2.1 x.2.2.2.2) fu x = some o → (∀ qc31_5 : Nat, V p l e rmX0_run s m args below meth c D A 5 Q ([(a0, .inr (0, [.ref q31_1, .ref hq, .ref tx]))] ++ LW D q31_1 q31_2 q31_3 q31_4 qc31_5 q31_6 z31.2.2.2.2.2.2.2.1 z31.2.2.2.2.2.2.2.2.2.1 z31.1 z31.2.1 z31.2.2.1 z31.2.2.2.1 z31.2.2.2.2.1 o.2.1 z31.2.2.2.2.2.2.1 z31.2.2.2.2.2.2.2.2.1 z31.2.2.2.2.2.2.2.2.2.2.1 z31.2.2.2.2.2.2.2.2.2.2.2.1 o.2.2.1 o.2.2.2 ++ [(hq, .inr (8, [.ref he, .int hd, .int tl])), (he, .inl (D.1 103, ne, .inr (.inr (.inr (.inr el)))))] ++ LW D b0 b1 b2 b3 b4 b5 n n4 cols rows kd thr bt tm rea gr vl so dy cg) (cb + fu * 1) (sb + fu * 80) 59 [(3, .int o.1)] []) → ∀ qc31_5 : Nat, V p l e rmX0_run s m args below meth c D A 5 Q ([(a0, .inr (0, [.ref q31_1, .ref hq, .ref tx]))] ++ LW D q31_1 q31_2 q31_3 q31_4 qc31_5 q31_6 z31.2.2.2.2.2.2.2.1 z31.2.2.2.2.2.2.2.2.2.1 z31.1 z31.2.1 z31.2.2.1 z31.2.2.2.1 z31.2.2.2.2.1 x.2.2.1 z31.2.2.2.2.2.2.1 z31.2.2.2.2.2.2.2.2.1 z31.2.2.2.2.2.2.2.2.2.2.1 z31.2.2.2.2.2.2.2.2.2.2.2.1 x.2.2.2.1 x.2.2.2.2 ++ [(hq, .inr (8, [.ref he, .int hd, .int tl])), (he, .inl (D.1 103, ne, .inr (.inr (.inr (.inr el)))))] ++ LW D b0 b1 b2 b3 b4 b5 n n4 cols rows kd thr bt tm rea gr vl so dy cg) cb sb 40 [(1, .int v1), (2, .ref q31_1), (3, .int x.1), (4, .int x.2.1)] [] := by
  refine v_loopA 1 80 rmX0_run.cells rmX0_run.slots (fun cb sb (x : Int32 × Int32 × Int32 × (Nat → Int32) × (Nat → Int32)) => ∀ qc31_5 : Nat, V p l e rmX0_run s m args below meth c D A 5 Q ([(a0, .inr (0, [.ref q31_1, .ref hq, .ref tx]))] ++ LW D q31_1 q31_2 q31_3 q31_4 qc31_5 q31_6 z31.2.2.2.2.2.2.2.1 z31.2.2.2.2.2.2.2.2.2.1 z31.1 z31.2.1 z31.2.2.1 z31.2.2.2.1 z31.2.2.2.2.1 x.2.2.1 z31.2.2.2.2.2.2.1 z31.2.2.2.2.2.2.2.2.1 z31.2.2.2.2.2.2.2.2.2.2.1 z31.2.2.2.2.2.2.2.2.2.2.2.1 x.2.2.2.1 x.2.2.2.2 ++ [(hq, .inr (8, [.ref he, .int hd, .int tl])), (he, .inl (D.1 103, ne, .inr (.inr (.inr (.inr el)))))] ++ LW D b0 b1 b2 b3 b4 b5 n n4 cols rows kd thr bt tm rea gr vl so dy cg) cb sb 40 [(1, .int v1), (2, .ref q31_1), (3, .int x.1), (4, .int x.2.1)] []) (fun cb sb (o : (Int32 × Int32 × (Nat → Int32) × (Nat → Int32))) => ∀ qc31_5 : Nat, V p l e rmX0_run s m args below meth c D A 5 Q ([(a0, .inr (0, [.ref q31_1, .ref hq, .ref tx]))] ++ LW D q31_1 q31_2 q31_3 q31_4 qc31_5 q31_6 z31.2.2.2.2.2.2.2.1 z31.2.2.2.2.2.2.2.2.2.1 z31.1 z31.2.1 z31.2.2.1 z31.2.2.2.1 z31.2.2.2.2.1 o.2.1 z31.2.2.2.2.2.2.1 z31.2.2.2.2.2.2.2.2.1 z31.2.2.2.2.2.2.2.2.2.2.1 z31.2.2.2.2.2.2.2.2.2.2.2.1 o.2.2.1 o.2.2.2 ++ [(hq, .inr (8, [.ref he, .int hd, .int tl])), (he, .inl (D.1 103, ne, .inr (.inr (.inr (.inr el)))))] ++ LW D b0 b1 b2 b3 b4 b5 n n4 cols rows kd thr bt tm rea gr vl so dy cg) cb sb 59 [(3, .int o.1)] []) (fun c0 s0 c1 s1 o hc hs h qc31_5 => v_cs c1 s1 hc hs (h qc31_5)) ?_
  rintro cb sb ⟨v3, v4, f5_c31_1, kc31_5, kc31_6⟩ r hcb hsb hF hI hO
  replace hF : C_run_40 v1 z31 v3 v4 f5_c31_1 kc31_5 kc31_6 = some r := hF
  show ∀ qc31_5 : Nat, V p l e rmX0_run s m args below meth c D A 5 Q ([(a0, .inr (0, [.ref q31_1, .ref hq, .ref tx]))] ++ LW D q31_1 q31_2 q31_3 q31_4 qc31_5 q31_6 z31.2.2.2.2.2.2.2.1 z31.2.2.2.2.2.2.2.2.2.1 z31.1 z31.2.1 z31.2.2.1 z31.2.2.2.1 z31.2.2.2.2.1 f5_c31_1 z31.2.2.2.2.2.2.1 z31.2.2.2.2.2.2.2.2.1 z31.2.2.2.2.2.2.2.2.2.2.1 z31.2.2.2.2.2.2.2.2.2.2.2.1 kc31_5 kc31_6 ++ [(hq, .inr (8, [.ref he, .int hd, .int tl])), (he, .inl (D.1 103, ne, .inr (.inr (.inr (.inr el)))))] ++ LW D b0 b1 b2 b3 b4 b5 n n4 cols rows kd thr bt tm rea gr vl so dy cg) cb sb 40 [(1, .int v1), (2, .ref q31_1), (3, .int v3), (4, .int v4)] []
  intro qc31_5
  unfold C_run_40 at hF
  refine v_iload 42 X 3 dX0_run_40 rfl rfl ?_
  refine v_iload_n 43 X 0 dX0_run_42 rfl rfl rfl ?_
  refine v_icmp_ge 46 59 X dX0_run_43 rfl (by decide) (fun h43 => ?_) (fun h43 => ?_)
  · replace hF := ifp h43 hF
    refine v_cs (cb + 1) (sb + 80) (by omega) (by omega) ?_
    obtain rfl := Option.some.inj hF
    exact v_lv [2] rfl ((hO _ rfl) qc31_5)
  · replace hF := ifn h43 hF
    refine v_iload_n 47 X 2 dX0_run_46 rfl rfl rfl ?_
    refine v_aload_n 48 X 1 dX0_run_47 rfl rfl rfl ?_
    obtain ⟨z48, hz48, hF⟩ := ob hF
    refine vc_Vi (wr := ([(a0, .inr (0, [.ref q31_1, .ref hq, .ref tx])), (hq, .inr (8, [.ref he, .int hd, .int tl])), (he, .inl (D.1 103, ne, .inr (.inr (.inr (.inr el)))))] ++ LW D b0 b1 b2 b3 b4 b5 n n4 cols rows kd thr bt tm rea gr vl so dy cg)) 51 (cb + 1) (sb + 80) X 0 [] [1, 2, 3, 4, 5, 6] [0, 7, 8, 9, 10, 11, 12, 13, 14] (LW D q31_1 q31_2 q31_3 q31_4 qc31_5 q31_6 z31.2.2.2.2.2.2.2.1 z31.2.2.2.2.2.2.2.2.2.1 z31.1 z31.2.1 z31.2.2.1 z31.2.2.2.1 z31.2.2.2.2.1 f5_c31_1 z31.2.2.2.2.2.2.1 z31.2.2.2.2.2.2.2.2.1 z31.2.2.2.2.2.2.2.2.2.2.1 z31.2.2.2.2.2.2.2.2.2.2.2.1 kc31_5 kc31_6) rfl rfl (by decide) (by decide) (by decide) (w_X1_step _ hz48) q931 q932 q933 q85 q934 hdX1_step 1 rfl rfl (pass_amb hAm) ⟨Nat.le_of_ble_eq_true rfl, Nat.le_of_ble_eq_true rfl⟩ ⟨(Nat.le_trans (show cb + 1 ≤ cb + 1 from by omega) hcb), (Nat.le_trans (show sb + 80 ≤ sb + 80 from by omega) hsb)⟩ rfl rfl (Nat.le_of_ble_eq_true rfl) dX0_run_48 rfl (by show cb + 1 = cb + 1; omega) (by show sb + 80 = sb + 80; omega) (fun r48 u48 e48 => ?_)
    obtain ⟨q48_4, e481, rfl⟩ := e48
    have e482 := e481.symm
    subst e482
    refine v_ws (ws' := ([(a0, .inr (0, [.ref q31_1, .ref hq, .ref tx])), (hq, .inr (8, [.ref he, .int hd, .int tl])), (he, .inl (D.1 103, ne, .inr (.inr (.inr (.inr el)))))] ++ LW D b0 b1 b2 b3 b4 b5 n n4 cols rows kd thr bt tm rea gr vl so dy cg ++ LW D q31_1 q31_2 q31_3 q31_4 q48_4 q31_6 z31.2.2.2.2.2.2.2.1 z31.2.2.2.2.2.2.2.2.2.1 z31.1 z31.2.1 z31.2.2.1 z31.2.2.2.1 z31.2.2.2.2.1 z48.2.1 z31.2.2.2.2.2.2.1 z31.2.2.2.2.2.2.2.2.1 z31.2.2.2.2.2.2.2.2.2.2.1 z31.2.2.2.2.2.2.2.2.2.2.2.1 z48.2.2.1 z48.2.2.2)) [0, 1, 2, 3, 4, 5, 6, 7, 8, 9, 10, 11, 12, 13, 14] (by decide) rfl ?_
    refine v_iadd 52 X dX0_run_51 rfl ?_
    refine v_istore_n 53 [(3, .int (v3 + z48.1)), (1, .int v1), (2, .ref q31_1), (4, .int v4)] X dX0_run_52 rfl rfl (by decide) rfl ?_
    refine v_iinc (v := (v4 + 1)) 56 [(4, .int (v4 + 1)), (3, .int (v3 + z48.1)), (1, .int v1), (2, .ref q31_1)] X 3 dX0_run_53 rfl rfl (by rfl) (by decide) rfl ?_
    refine v_goto 40 X dX0_run_56 (by decide) ?_
    obtain rfl := Option.some.inj hF
    refine v_ws (ws' := ([(a0, .inr (0, [.ref q31_1, .ref hq, .ref tx]))] ++ LW D q31_1 q31_2 q31_3 q31_4 q48_4 q31_6 z31.2.2.2.2.2.2.2.1 z31.2.2.2.2.2.2.2.2.2.1 z31.1 z31.2.1 z31.2.2.1 z31.2.2.2.1 z31.2.2.2.2.1 z48.2.1 z31.2.2.2.2.2.2.1 z31.2.2.2.2.2.2.2.2.1 z31.2.2.2.2.2.2.2.2.2.2.1 z31.2.2.2.2.2.2.2.2.2.2.2.1 z48.2.2.1 z48.2.2.2 ++ [(hq, .inr (8, [.ref he, .int hd, .int tl])), (he, .inl (D.1 103, ne, .inr (.inr (.inr (.inr el)))))] ++ LW D b0 b1 b2 b3 b4 b5 n n4 cols rows kd thr bt tm rea gr vl so dy cg)) [0, 9, 10, 11, 12, 13, 14, 1, 2, 3, 4, 5, 6, 7, 8] (by decide) rfl ?_
    exact v_lv [2, 3, 1, 0] rfl (hI _ rfl q48_4)
theorem w_X0_run (v1 : Int32) (r : ((Int32 × Int32 × Int32 × (Nat → Option Nat)) ⊕ (Int32 × Int32 × Int32 × Nat × Int32 × Int32 × Int32 × Int32 × Nat × (Nat → Int32) × Nat × (Nat → Nat) × (Nat → Int32) × (Nat → Int32) × (Nat → Int32) × Int32 × Int32 × (Nat → Option Nat)))) (hF : C_run cols rows thr bt tm rea kd n n4 vl gr so dy cg b0 ne el hd tl hs v1 = some r) : CTi l yX0_run cX0_run 5 (Option.some Jvm.ClassFile.FieldType.int) rmX0_run D ([(a0, .inr (0, [.ref b0, .ref hq, .ref tx]))] ++ LW D b0 b1 b2 b3 b4 b5 n n4 cols rows kd thr bt tm rea gr vl so dy cg ++ [(hq, .inr (8, [.ref he, .int hd, .int tl])), (he, .inl (D.1 103, ne, .inr (.inr (.inr (.inr el)))))]) [.ref a0, .int v1] (HX D hs) (fun r1 u => match r with | (.inl x) => r1 = x.1 ∧ u = ([(a0, .inr (0, [.ref b0, .ref hq, .ref tx]))] ++ LW D b0 b1 b2 b3 b4 b5 n n4 cols rows kd thr bt tm rea gr vl so dy cg ++ [(hq, .inr (8, [.ref he, .int x.2.1, .int x.2.2.1])), (he, .inl (D.1 103, ne, .inr (.inr (.inr (.inr x.2.2.2)))))]) | (.inr x) => ∃ qa1 qa2 qa3 qa4 qa5 qa6 : Nat, r1 = x.1 ∧ u = ([(a0, .inr (0, [.ref qa1, .ref hq, .ref tx]))] ++ LW D qa1 qa2 qa3 qa4 qa5 qa6 x.2.2.2.2.2.2.2.2.1 x.2.2.2.2.2.2.2.2.2.2.1 x.2.1 x.2.2.1 x.2.2.2.1 x.2.2.2.2.1 x.2.2.2.2.2.1 x.2.2.2.2.2.2.1 x.2.2.2.2.2.2.2.1 x.2.2.2.2.2.2.2.2.2.1 x.2.2.2.2.2.2.2.2.2.2.2.1 x.2.2.2.2.2.2.2.2.2.2.2.2.1 x.2.2.2.2.2.2.2.2.2.2.2.2.2.1 x.2.2.2.2.2.2.2.2.2.2.2.2.2.2.1 ++ [(hq, .inr (8, [.ref he, .int x.2.2.2.2.2.2.2.2.2.2.2.2.2.2.2.1, .int x.2.2.2.2.2.2.2.2.2.2.2.2.2.2.2.2.1])), (he, .inl (D.1 103, ne, .inr (.inr (.inr (.inr x.2.2.2.2.2.2.2.2.2.2.2.2.2.2.2.2.2)))))] ++ LW D b0 b1 b2 b3 b4 b5 n n4 cols rows kd thr bt tm rea gr vl so dy cg)) := by
  refine m_i (by decide) (Nat.le_of_ble_eq_true rfl) ?_
  intro p e s m args below meth c A B
  obtain ⟨X, hr, hAm, -, hnm, hnmd⟩ := B
  obtain ⟨hAm, hH⟩ := hAm
  replace X : CX p s m args meth c D A cX0_run 5 "DyeLattice" := X
  refine v_lv (lv' := [(0, .ref a0), (1, .int v1)]) [0, 1] rfl ?_
  unfold C_run at hF
  refine v_iload_n 1 X 1 dX0_run_0 rfl rfl rfl ?_
  refine v_iconst (v := 1) 2 X dX0_run_1 rfl ki_1 ?_
  refine v_bipush (v := 60) 4 X dX0_run_2 rfl kb_60 ?_
  obtain ⟨z4, hz4, hF⟩ := ob hF
  refine v_mSi 7 X 3 [.int v1, .int 1, .int 60] (w_X0_isBetween ([(a0, .inr (0, [.ref b0, .ref hq, .ref tx]))] ++ LW D b0 b1 b2 b3 b4 b5 n n4 cols rows kd thr bt tm rea gr vl so dy cg ++ [(hq, .inr (8, [.ref he, .int hd, .int tl])), (he, .inl (D.1 103, ne, .inr (.inr (.inr (.inr el)))))]) v1 1 60 _ hz4) q260 q261 q84 q262 hdX0_isBetween pass_no ⟨rfl, rfl⟩ ⟨Nat.le_of_ble_eq_true rfl, Nat.le_of_ble_eq_true rfl⟩ ⟨(Nat.le_of_ble_eq_true rfl), (Nat.le_of_ble_eq_true rfl)⟩ rfl rfl (Nat.le_of_ble_eq_true rfl) dX0_run_4 rfl ?_
  refine v_if_ne 10 12 X dX0_run_7 rfl (by decide) (fun h7 => ?_) (fun h7 => ?_)
  · replace hF := ifn h7 hF
    refine v_aload_n 13 X 0 dX0_run_12 rfl rfl rfl ?_
    refine v_get 16 X in_X0 0 0 rfl rfl (by decide) q245 rfl rfl dX0_run_13 rfl ?_
    refine v_getN 19 X hAm in_X1 1 5 rfl rfl (by decide) q149 rfl rfl dX0_run_16 rfl ?_
    refine v_iload_n 20 X 1 dX0_run_19 rfl rfl rfl ?_
    refine v_iadd 21 X dX0_run_20 rfl ?_
    refine v_sipush (v := 1000) 24 X dX0_run_21 rfl ks_1000 ?_
    refine v_icmp_le 27 30 X dX0_run_24 rfl (by decide) (fun h24 => ?_) (fun h24 => ?_)
    · replace hF := ifp h24 hF
      refine v_aload_n 31 X 0 dX0_run_30 rfl rfl rfl ?_
      obtain ⟨z31, hz31, hF⟩ := ob hF
      refine vc_Vr (wr := ([] : va_W)) 34 6 652 X 0 [] [0, 1, 2, 3, 4, 5, 6, 7, 8] [] ([(a0, .inr (0, [.ref b0, .ref hq, .ref tx]))] ++ LW D b0 b1 b2 b3 b4 b5 n n4 cols rows kd thr bt tm rea gr vl so dy cg ++ [(hq, .inr (8, [.ref he, .int hd, .int tl])), (he, .inl (D.1 103, ne, .inr (.inr (.inr (.inr el)))))]) rfl rfl (by decide) (by decide) (by decide) (w_X0_act _ hz31) q352 q354 qs3 q84 q355 hdX0_act 0 rfl rfl (hx_pass hAm hH) ⟨Nat.le_of_ble_eq_true rfl, Nat.le_of_ble_eq_true rfl⟩ ⟨(Nat.le_of_ble_eq_true rfl), (Nat.le_of_ble_eq_true rfl)⟩ rfl rfl (Nat.le_of_ble_eq_true rfl) dX0_run_31 rfl rfl rfl (fun a31 u31 e31 => ?_)
      obtain ⟨q31_1, q31_2, q31_3, q31_4, q31_5, q31_6, e311, rfl⟩ := e31
      have e312 := e311.symm
      subst e312
      refine v_ws (ws' := ([(a0, .inr (0, [.ref q31_1, .ref hq, .ref tx]))] ++ LW D q31_1 q31_2 q31_3 q31_4 q31_5 q31_6 z31.2.2.2.2.2.2.2.1 z31.2.2.2.2.2.2.2.2.2.1 z31.1 z31.2.1 z31.2.2.1 z31.2.2.2.1 z31.2.2.2.2.1 z31.2.2.2.2.2.1 z31.2.2.2.2.2.2.1 z31.2.2.2.2.2.2.2.2.1 z31.2.2.2.2.2.2.2.2.2.2.1 z31.2.2.2.2.2.2.2.2.2.2.2.1 z31.2.2.2.2.2.2.2.2.2.2.2.2.1 z31.2.2.2.2.2.2.2.2.2.2.2.2.2.1 ++ [(hq, .inr (8, [.ref he, .int z31.2.2.2.2.2.2.2.2.2.2.2.2.2.2.1, .int z31.2.2.2.2.2.2.2.2.2.2.2.2.2.2.2.1])), (he, .inl (D.1 103, ne, .inr (.inr (.inr (.inr z31.2.2.2.2.2.2.2.2.2.2.2.2.2.2.2.2)))))] ++ LW D b0 b1 b2 b3 b4 b5 n n4 cols rows kd thr bt tm rea gr vl so dy cg)) [0, 1, 2, 3, 4, 5, 6, 7, 8, 9, 10, 11, 12, 13, 14] (by decide) rfl ?_
      refine v_astore_n 35 [(2, .ref q31_1), (0, .ref a0), (1, .int v1)] X dX0_run_34 rfl rfl (by decide) rfl ?_
      refine v_iconst (v := 0) 36 X dX0_run_35 rfl ki_0 ?_
      refine v_istore_n 37 [(3, .int 0), (2, .ref q31_1), (0, .ref a0), (1, .int v1)] X dX0_run_36 rfl rfl (by decide) rfl ?_
      refine v_iconst (v := 0) 38 X dX0_run_37 rfl ki_0 ?_
      refine v_istore 40 [(4, .int 0), (3, .int 0), (2, .ref q31_1), (0, .ref a0), (1, .int v1)] X dX0_run_38 rfl (by decide) rfl ?_
      obtain ⟨z40, hz40, hF⟩ := ob hF
      refine v_lv [4, 2, 1, 0] rfl (w_X0_run_40 X hAm hH v1 z31 61 6 652 (0, 0, z31.2.2.2.2.2.1, z31.2.2.2.2.2.2.2.2.2.2.2.2.1, z31.2.2.2.2.2.2.2.2.2.2.2.2.2.1) _ (Nat.le_of_ble_eq_true rfl) (Nat.le_of_ble_eq_true rfl) hz40 (fun qc31_540 => ?_) q31_5)
      refine v_c0 67 5532 rfl rfl ?_
      refine v_iload_n 60 X 0 dX0_run_59 rfl rfl rfl ?_
      obtain rfl := Option.some.inj hF
      exact v_iret X hr ⟨q31_1, q31_2, q31_3, q31_4, qc31_540, q31_6, rfl, rfl⟩ (Nat.le_of_ble_eq_true rfl) (Nat.le_of_ble_eq_true rfl) dX0_run_60
    · replace hF := ifn h24 hF
      refine v_bipush (v := (-3)) 29 X dX0_run_27 rfl kb_m3 ?_
      obtain rfl := Option.some.inj hF
      exact v_iret X hr ⟨rfl, rfl⟩ (Nat.le_of_ble_eq_true rfl) (Nat.le_of_ble_eq_true rfl) dX0_run_29
  · replace hF := ifp h7 hF
    refine v_iconst (v := (-1)) 11 X dX0_run_10 rfl ki_m1 ?_
    obtain rfl := Option.some.inj hF
    exact v_iret X hr ⟨rfl, rfl⟩ (Nat.le_of_ble_eq_true rfl) (Nat.le_of_ble_eq_true rfl) dX0_run_11
theorem w_X0_rinse_9_j32 (X : CX p s m args meth c D A cX0_rinse 4 "DyeLattice") (hAm : AMB D A s) (hH : ∀ z ∈ hs, va_O "DyeLattice$Lattice" z A s s.heap) {cb sb : Nat} {q1_1 : Nat} {q1_2 : Nat} {q1_3 : Nat} {q1_4 : Nat} {q1_5 : Nat} {q1_6 : Nat} (z1 : Int32 × Int32 × Nat × Int32 × Int32 × Int32 × Int32 × Nat × (Nat → Int32) × Nat × (Nat → Nat) × (Nat → Int32) × (Nat → Int32) × (Nat → Int32) × Int32 × Int32 × (Nat → Option Nat)) (v3 : Int32) (s0 : Int32) (s1 : Int32) (kc1_5 : (Nat → Int32)) (kc1_6 : (Nat → Int32)) (f5_c1_1 : Int32) (hcb : cb ≤ rmX0_rinse.cells) (hsb : sb ≤ rmX0_rinse.slots) {r : (Int32 × Int32 × (Nat → Int32) × (Nat → Int32)) ⊕ (Int32 × (Nat → Int32) × (Nat → Int32))} (hI : ∀ y, r = .inl y → V p l e rmX0_rinse s m args below meth c D A 4 Q ([(a0, .inr (0, [.ref q1_1, .ref hq, .ref tx]))] ++ LW D q1_1 q1_2 q1_3 q1_4 q1_5 q1_6 z1.2.2.2.2.2.2.2.1 z1.2.2.2.2.2.2.2.2.2.1 z1.1 z1.2.1 z1.2.2.1 z1.2.2.2.1 z1.2.2.2.2.1 f5_c1_1 z1.2.2.2.2.2.2.1 z1.2.2.2.2.2.2.2.2.1 z1.2.2.2.2.2.2.2.2.2.2.1 z1.2.2.2.2.2.2.2.2.2.2.2.1 y.2.2.1 y.2.2.2 ++ [(hq, .inr (8, [.ref he, .int hd, .int tl])), (he, .inl (D.1 103, ne, .inr (.inr (.inr (.inr el)))))] ++ LW D b0 b1 b2 b3 b4 b5 n n4 cols rows kd thr bt tm rea gr vl so dy cg) cb sb 9 [(1, .ref q1_1), (2, .int y.1), (3, .int y.2.1)] []) (hO : ∀ y, r = .inr y → (V p l e rmX0_rinse s m args below meth c D A 4 Q ([(a0, .inr (0, [.ref q1_1, .ref hq, .ref tx]))] ++ LW D q1_1 q1_2 q1_3 q1_4 q1_5 q1_6 z1.2.2.2.2.2.2.2.1 z1.2.2.2.2.2.2.2.2.2.1 z1.1 z1.2.1 z1.2.2.1 z1.2.2.2.1 z1.2.2.2.2.1 f5_c1_1 z1.2.2.2.2.2.2.1 z1.2.2.2.2.2.2.2.2.1 z1.2.2.2.2.2.2.2.2.2.2.1 z1.2.2.2.2.2.2.2.2.2.2.2.1 y.2.1 y.2.2 ++ [(hq, .inr (8, [.ref he, .int hd, .int tl])), (he, .inl (D.1 103, ne, .inr (.inr (.inr (.inr el)))))] ++ LW D b0 b1 b2 b3 b4 b5 n n4 cols rows kd thr bt tm rea gr vl so dy cg) cb sb 54 [(1, .ref q1_1), (2, .int y.1)] [])) (hF : C_rinse_9_j32 z1 v3 s0 s1 hd tl el kc1_5 kc1_6 f5_c1_1 = some r) : V p l e rmX0_rinse s m args below meth c D A 4 Q ([(a0, .inr (0, [.ref q1_1, .ref hq, .ref tx])), (hq, .inr (8, [.ref he, .int hd, .int tl])), (he, .inl (D.1 103, ne, .inr (.inr (.inr (.inr el)))))] ++ LW D b0 b1 b2 b3 b4 b5 n n4 cols rows kd thr bt tm rea gr vl so dy cg ++ LW D q1_1 q1_2 q1_3 q1_4 q1_5 q1_6 z1.2.2.2.2.2.2.2.1 z1.2.2.2.2.2.2.2.2.2.1 z1.1 z1.2.1 z1.2.2.1 z1.2.2.2.1 z1.2.2.2.2.1 f5_c1_1 z1.2.2.2.2.2.2.1 z1.2.2.2.2.2.2.2.2.1 z1.2.2.2.2.2.2.2.2.2.2.1 z1.2.2.2.2.2.2.2.2.2.2.2.1 kc1_5 kc1_6) cb sb 32 [(1, .ref q1_1), (3, .int v3)] [.int s1, .int s0] := by
  unfold C_rinse_9_j32 at hF
  refine v_iadd 33 X dX0_rinse_32 rfl ?_
  refine v_istore_n 34 [(2, .int (s0 + s1)), (1, .ref q1_1), (3, .int v3)] X dX0_rinse_33 rfl rfl (by decide) rfl ?_
  refine v_aload_n 35 X 1 dX0_rinse_34 rfl rfl rfl ?_
  refine v_getN 38 X hAm in_X1 9 10 rfl rfl (by decide) q162 rfl rfl dX0_rinse_35 rfl ?_
  refine v_iload_n 39 X 2 dX0_rinse_38 rfl rfl rfl ?_
  refine v_iconst (v := 0) 40 X dX0_rinse_39 rfl ki_0 ?_
  obtain ⟨z40, hz40, hF⟩ := ob hF
  refine v_iast 41 ([(a0, .inr (0, [.ref q1_1, .ref hq, .ref tx])), (hq, .inr (8, [.ref he, .int hd, .int tl])), (he, .inl (D.1 103, ne, .inr (.inr (.inr (.inr el)))))] ++ LW D b0 b1 b2 b3 b4 b5 n n4 cols rows kd thr bt tm rea gr vl so dy cg ++ LW D q1_1 q1_2 q1_3 q1_4 q1_5 q1_6 z1.2.2.2.2.2.2.2.1 z1.2.2.2.2.2.2.2.2.2.1 z1.1 z1.2.1 z1.2.2.1 z1.2.2.2.1 z1.2.2.2.2.1 f5_c1_1 z1.2.2.2.2.2.2.1 z1.2.2.2.2.2.2.2.2.1 z1.2.2.2.2.2.2.2.2.2.2.1 z1.2.2.2.2.2.2.2.2.2.2.2.1 z40 kc1_6) X 13 hz40 rfl dX0_rinse_40 rfl rfl ?_
  refine v_aload_n 42 X 1 dX0_rinse_41 rfl rfl rfl ?_
  refine v_getN 45 X hAm in_X1 9 11 rfl rfl (by decide) q164 rfl rfl dX0_rinse_42 rfl ?_
  refine v_iload_n 46 X 2 dX0_rinse_45 rfl rfl rfl ?_
  refine v_iconst (v := 0) 47 X dX0_rinse_46 rfl ki_0 ?_
  obtain ⟨z47, hz47, hF⟩ := ob hF
  refine v_zast 48 ([(a0, .inr (0, [.ref q1_1, .ref hq, .ref tx])), (hq, .inr (8, [.ref he, .int hd, .int tl])), (he, .inl (D.1 103, ne, .inr (.inr (.inr (.inr el)))))] ++ LW D b0 b1 b2 b3 b4 b5 n n4 cols rows kd thr bt tm rea gr vl so dy cg ++ LW D q1_1 q1_2 q1_3 q1_4 q1_5 q1_6 z1.2.2.2.2.2.2.2.1 z1.2.2.2.2.2.2.2.2.2.1 z1.1 z1.2.1 z1.2.2.1 z1.2.2.2.1 z1.2.2.2.2.1 f5_c1_1 z1.2.2.2.2.2.2.1 z1.2.2.2.2.2.2.2.2.1 z1.2.2.2.2.2.2.2.2.2.2.1 z1.2.2.2.2.2.2.2.2.2.2.2.1 z40 z47) X 14 hz47 rfl dX0_rinse_47 rfl rfl ?_
  refine v_iinc (v := (v3 + 1)) 51 [(3, .int (v3 + 1)), (2, .int (s0 + s1)), (1, .ref q1_1)] X 2 dX0_rinse_48 rfl rfl (by rfl) (by decide) rfl ?_
  refine v_goto 9 X dX0_rinse_51 (by decide) ?_
  obtain rfl := Option.some.inj hF
  refine v_ws (ws' := ([(a0, .inr (0, [.ref q1_1, .ref hq, .ref tx]))] ++ LW D q1_1 q1_2 q1_3 q1_4 q1_5 q1_6 z1.2.2.2.2.2.2.2.1 z1.2.2.2.2.2.2.2.2.2.1 z1.1 z1.2.1 z1.2.2.1 z1.2.2.2.1 z1.2.2.2.2.1 f5_c1_1 z1.2.2.2.2.2.2.1 z1.2.2.2.2.2.2.2.2.1 z1.2.2.2.2.2.2.2.2.2.2.1 z1.2.2.2.2.2.2.2.2.2.2.2.1 z40 z47 ++ [(hq, .inr (8, [.ref he, .int hd, .int tl])), (he, .inl (D.1 103, ne, .inr (.inr (.inr (.inr el)))))] ++ LW D b0 b1 b2 b3 b4 b5 n n4 cols rows kd thr bt tm rea gr vl so dy cg)) [0, 9, 10, 11, 12, 13, 14, 1, 2, 3, 4, 5, 6, 7, 8] (by decide) rfl ?_
  exact v_lv [2, 1, 0] rfl (hI _ rfl)
theorem w_X0_rinse_9 (X : CX p s m args meth c D A cX0_rinse 4 "DyeLattice") (hAm : AMB D A s) (hH : ∀ z ∈ hs, va_O "DyeLattice$Lattice" z A s s.heap) {q1_1 : Nat} {q1_2 : Nat} {q1_3 : Nat} {q1_4 : Nat} {q1_5 : Nat} {q1_6 : Nat} {cb sb : Nat} (hcb : cb ≤ rmX0_rinse.cells) (hsb : sb ≤ rmX0_rinse.slots) (z1 : Int32 × Int32 × Nat × Int32 × Int32 × Int32 × Int32 × Nat × (Nat → Int32) × Nat × (Nat → Nat) × (Nat → Int32) × (Nat → Int32) × (Nat → Int32) × Int32 × Int32 × (Nat → Option Nat)) (f5_c1_1 : Int32) : ∀ (fu : Nat) (x : Int32 × Int32 × (Nat → Int32) × (Nat → Int32)) (o : (Int32 × (Nat → Int32) × (Nat → Int32))), loopN (fun x => C_rinse_9 el hd tl z1 f5_c1_1 x.1 x.2.1 x.2.2.1 x.2.2.2) fu x = some o → (V p l e rmX0_rinse s m args below meth c D A 4 Q ([(a0, .inr (0, [.ref q1_1, .ref hq, .ref tx]))] ++ LW D q1_1 q1_2 q1_3 q1_4 q1_5 q1_6 z1.2.2.2.2.2.2.2.1 z1.2.2.2.2.2.2.2.2.2.1 z1.1 z1.2.1 z1.2.2.1 z1.2.2.2.1 z1.2.2.2.2.1 f5_c1_1 z1.2.2.2.2.2.2.1 z1.2.2.2.2.2.2.2.2.1 z1.2.2.2.2.2.2.2.2.2.2.1 z1.2.2.2.2.2.2.2.2.2.2.2.1 o.2.1 o.2.2 ++ [(hq, .inr (8, [.ref he, .int hd, .int tl])), (he, .inl (D.1 103, ne, .inr (.inr (.inr (.inr el)))))] ++ LW D b0 b1 b2 b3 b4 b5 n n4 cols rows kd thr bt tm rea gr vl so dy cg) cb sb 54 [(1, .ref q1_1), (2, .int o.1)] []) → V p l e rmX0_rinse s m args below meth c D A 4 Q ([(a0, .inr (0, [.ref q1_1, .ref hq, .ref tx]))] ++ LW D q1_1 q1_2 q1_3 q1_4 q1_5 q1_6 z1.2.2.2.2.2.2.2.1 z1.2.2.2.2.2.2.2.2.2.1 z1.1 z1.2.1 z1.2.2.1 z1.2.2.2.1 z1.2.2.2.2.1 f5_c1_1 z1.2.2.2.2.2.2.1 z1.2.2.2.2.2.2.2.2.1 z1.2.2.2.2.2.2.2.2.2.2.1 z1.2.2.2.2.2.2.2.2.2.2.2.1 x.2.2.1 x.2.2.2 ++ [(hq, .inr (8, [.ref he, .int hd, .int tl])), (he, .inl (D.1 103, ne, .inr (.inr (.inr (.inr el)))))] ++ LW D b0 b1 b2 b3 b4 b5 n n4 cols rows kd thr bt tm rea gr vl so dy cg) cb sb 9 [(1, .ref q1_1), (2, .int x.1), (3, .int x.2.1)] [] := by
  refine v_loop (fun (x : Int32 × Int32 × (Nat → Int32) × (Nat → Int32)) => V p l e rmX0_rinse s m args below meth c D A 4 Q ([(a0, .inr (0, [.ref q1_1, .ref hq, .ref tx]))] ++ LW D q1_1 q1_2 q1_3 q1_4 q1_5 q1_6 z1.2.2.2.2.2.2.2.1 z1.2.2.2.2.2.2.2.2.2.1 z1.1 z1.2.1 z1.2.2.1 z1.2.2.2.1 z1.2.2.2.2.1 f5_c1_1 z1.2.2.2.2.2.2.1 z1.2.2.2.2.2.2.2.2.1 z1.2.2.2.2.2.2.2.2.2.2.1 z1.2.2.2.2.2.2.2.2.2.2.2.1 x.2.2.1 x.2.2.2 ++ [(hq, .inr (8, [.ref he, .int hd, .int tl])), (he, .inl (D.1 103, ne, .inr (.inr (.inr (.inr el)))))] ++ LW D b0 b1 b2 b3 b4 b5 n n4 cols rows kd thr bt tm rea gr vl so dy cg) cb sb 9 [(1, .ref q1_1), (2, .int x.1), (3, .int x.2.1)] []) (fun (o : (Int32 × (Nat → Int32) × (Nat → Int32))) => V p l e rmX0_rinse s m args below meth c D A 4 Q ([(a0, .inr (0, [.ref q1_1, .ref hq, .ref tx]))] ++ LW D q1_1 q1_2 q1_3 q1_4 q1_5 q1_6 z1.2.2.2.2.2.2.2.1 z1.2.2.2.2.2.2.2.2.2.1 z1.1 z1.2.1 z1.2.2.1 z1.2.2.2.1 z1.2.2.2.2.1 f5_c1_1 z1.2.2.2.2.2.2.1 z1.2.2.2.2.2.2.2.2.1 z1.2.2.2.2.2.2.2.2.2.2.1 z1.2.2.2.2.2.2.2.2.2.2.2.1 o.2.1 o.2.2 ++ [(hq, .inr (8, [.ref he, .int hd, .int tl])), (he, .inl (D.1 103, ne, .inr (.inr (.inr (.inr el)))))] ++ LW D b0 b1 b2 b3 b4 b5 n n4 cols rows kd thr bt tm rea gr vl so dy cg) cb sb 54 [(1, .ref q1_1), (2, .int o.1)] []) ?_
  rintro ⟨v2, v3, kc1_5, kc1_6⟩ r hF hI hO
  replace hF : C_rinse_9 el hd tl z1 f5_c1_1 v2 v3 kc1_5 kc1_6 = some r := hF
  show V p l e rmX0_rinse s m args below meth c D A 4 Q ([(a0, .inr (0, [.ref q1_1, .ref hq, .ref tx]))] ++ LW D q1_1 q1_2 q1_3 q1_4 q1_5 q1_6 z1.2.2.2.2.2.2.2.1 z1.2.2.2.2.2.2.2.2.2.1 z1.1 z1.2.1 z1.2.2.1 z1.2.2.2.1 z1.2.2.2.2.1 f5_c1_1 z1.2.2.2.2.2.2.1 z1.2.2.2.2.2.2.2.2.1 z1.2.2.2.2.2.2.2.2.2.2.1 z1.2.2.2.2.2.2.2.2.2.2.2.1 kc1_5 kc1_6 ++ [(hq, .inr (8, [.ref he, .int hd, .int tl])), (he, .inl (D.1 103, ne, .inr (.inr (.inr (.inr el)))))] ++ LW D b0 b1 b2 b3 b4 b5 n n4 cols rows kd thr bt tm rea gr vl so dy cg) cb sb 9 [(1, .ref q1_1), (2, .int v2), (3, .int v3)] []
  unfold C_rinse_9 at hF
  refine v_iload_n 10 X 2 dX0_rinse_9 rfl rfl rfl ?_
  refine v_aload_n 11 X 0 dX0_rinse_10 rfl rfl rfl ?_
  have hz11 : L_cells z1.2.2.2.2.2.2.2.1 = some (nI z1.2.2.2.2.2.2.2.1) := rfl
  refine vc_Vi (wr := ([(a0, .inr (0, [.ref q1_1, .ref hq, .ref tx])), (hq, .inr (8, [.ref he, .int hd, .int tl])), (he, .inl (D.1 103, ne, .inr (.inr (.inr (.inr el)))))] ++ LW D b0 b1 b2 b3 b4 b5 n n4 cols rows kd thr bt tm rea gr vl so dy cg)) 14 cb sb X 0 [] [1, 2, 3, 4, 5, 6] [0, 7, 8, 9, 10, 11, 12, 13, 14] (LW D q1_1 q1_2 q1_3 q1_4 q1_5 q1_6 z1.2.2.2.2.2.2.2.1 z1.2.2.2.2.2.2.2.2.2.1 z1.1 z1.2.1 z1.2.2.1 z1.2.2.2.1 z1.2.2.2.2.1 f5_c1_1 z1.2.2.2.2.2.2.1 z1.2.2.2.2.2.2.2.2.1 z1.2.2.2.2.2.2.2.2.2.2.1 z1.2.2.2.2.2.2.2.2.2.2.2.1 kc1_5 kc1_6) rfl rfl (by decide) (by decide) (by decide) (w_X1_cells _ hz11) q344 q345 q346 q85 q347 hdX1_cells 1 rfl rfl (pass_amb hAm) ⟨Nat.le_of_ble_eq_true rfl, Nat.le_of_ble_eq_true rfl⟩ ⟨(by exact hcb), (by exact hsb)⟩ rfl rfl (Nat.le_of_ble_eq_true rfl) dX0_rinse_11 rfl (by show cb + 0 = cb + 0; omega) (by show sb + 0 = sb + 0; omega) (fun r11 u11 e11 => ?_)
  obtain ⟨e111, rfl⟩ := e11
  have e112 := e111.symm
  subst e112
  refine v_ws (ws' := ([(a0, .inr (0, [.ref q1_1, .ref hq, .ref tx])), (hq, .inr (8, [.ref he, .int hd, .int tl])), (he, .inl (D.1 103, ne, .inr (.inr (.inr (.inr el)))))] ++ LW D b0 b1 b2 b3 b4 b5 n n4 cols rows kd thr bt tm rea gr vl so dy cg ++ LW D q1_1 q1_2 q1_3 q1_4 q1_5 q1_6 z1.2.2.2.2.2.2.2.1 z1.2.2.2.2.2.2.2.2.2.1 z1.1 z1.2.1 z1.2.2.1 z1.2.2.2.1 z1.2.2.2.2.1 f5_c1_1 z1.2.2.2.2.2.2.1 z1.2.2.2.2.2.2.2.2.1 z1.2.2.2.2.2.2.2.2.2.2.1 z1.2.2.2.2.2.2.2.2.2.2.2.1 kc1_5 kc1_6)) [0, 1, 2, 3, 4, 5, 6, 7, 8, 9, 10, 11, 12, 13, 14] (by decide) rfl ?_
  refine v_icmp_ge 17 54 X dX0_rinse_14 rfl (by decide) (fun h14 => ?_) (fun h14 => ?_)
  · replace hF := ifp h14 hF
    obtain rfl := Option.some.inj hF
    refine v_ws (ws' := ([(a0, .inr (0, [.ref q1_1, .ref hq, .ref tx]))] ++ LW D q1_1 q1_2 q1_3 q1_4 q1_5 q1_6 z1.2.2.2.2.2.2.2.1 z1.2.2.2.2.2.2.2.2.2.1 z1.1 z1.2.1 z1.2.2.1 z1.2.2.2.1 z1.2.2.2.2.1 f5_c1_1 z1.2.2.2.2.2.2.1 z1.2.2.2.2.2.2.2.2.1 z1.2.2.2.2.2.2.2.2.2.2.1 z1.2.2.2.2.2.2.2.2.2.2.2.1 kc1_5 kc1_6 ++ [(hq, .inr (8, [.ref he, .int hd, .int tl])), (he, .inl (D.1 103, ne, .inr (.inr (.inr (.inr el)))))] ++ LW D b0 b1 b2 b3 b4 b5 n n4 cols rows kd thr bt tm rea gr vl so dy cg)) [0, 9, 10, 11, 12, 13, 14, 1, 2, 3, 4, 5, 6, 7, 8] (by decide) rfl ?_
    exact v_lv [0, 1] rfl ((hO _ rfl))
  · replace hF := ifn h14 hF
    refine v_iload_n 18 X 1 dX0_rinse_17 rfl rfl rfl ?_
    refine v_aload_n 19 X 0 dX0_rinse_18 rfl rfl rfl ?_
    refine v_getN 22 X hAm in_X1 9 10 rfl rfl (by decide) q162 rfl rfl dX0_rinse_19 rfl ?_
    refine v_iload_n 23 X 2 dX0_rinse_22 rfl rfl rfl ?_
    obtain ⟨z23, hz23, hF⟩ := ob hF
    refine v_iald 24 X 13 hz23 rfl dX0_rinse_23 rfl ?_
    refine v_if_ne 27 31 X dX0_rinse_24 rfl (by decide) (fun h24 => ?_) (fun h24 => ?_)
    · replace hF := ifn h24 hF
      refine v_iconst (v := 1) 32 X dX0_rinse_31 rfl ki_1 ?_
      exact v_lv [0, 2] rfl (w_X0_rinse_9_j32 X hAm hH z1 v3 v2 1 kc1_5 kc1_6 f5_c1_1 hcb hsb hI hO hF)
    · replace hF := ifp h24 hF
      refine v_iconst (v := 0) 28 X dX0_rinse_27 rfl ki_0 ?_
      refine v_goto 32 X dX0_rinse_28 (by decide) ?_
      exact v_lv [0, 2] rfl (w_X0_rinse_9_j32 X hAm hH z1 v3 v2 0 kc1_5 kc1_6 f5_c1_1 hcb hsb hI hO hF)
theorem w_X0_rinse (r : Int32 × Int32 × Int32 × Nat × Int32 × Int32 × Int32 × Int32 × Nat × (Nat → Int32) × Nat × (Nat → Nat) × (Nat → Int32) × (Nat → Int32) × (Nat → Int32) × Int32 × Int32 × (Nat → Option Nat)) (hF : C_rinse cols rows thr bt tm rea kd n n4 vl gr so dy cg b0 ne el hd tl hs = some r) : CTi l yX0_rinse cX0_rinse 4 (Option.some Jvm.ClassFile.FieldType.int) rmX0_rinse D ([(a0, .inr (0, [.ref b0, .ref hq, .ref tx]))] ++ LW D b0 b1 b2 b3 b4 b5 n n4 cols rows kd thr bt tm rea gr vl so dy cg ++ [(hq, .inr (8, [.ref he, .int hd, .int tl])), (he, .inl (D.1 103, ne, .inr (.inr (.inr (.inr el)))))]) [.ref a0] (HX D hs) (fun r1 u => ∃ qa1 qa2 qa3 qa4 qa5 qa6 : Nat, r1 = r.1 ∧ u = ([(a0, .inr (0, [.ref qa1, .ref hq, .ref tx]))] ++ LW D qa1 qa2 qa3 qa4 qa5 qa6 r.2.2.2.2.2.2.2.2.1 r.2.2.2.2.2.2.2.2.2.2.1 r.2.1 r.2.2.1 r.2.2.2.1 r.2.2.2.2.1 r.2.2.2.2.2.1 r.2.2.2.2.2.2.1 r.2.2.2.2.2.2.2.1 r.2.2.2.2.2.2.2.2.2.1 r.2.2.2.2.2.2.2.2.2.2.2.1 r.2.2.2.2.2.2.2.2.2.2.2.2.1 r.2.2.2.2.2.2.2.2.2.2.2.2.2.1 r.2.2.2.2.2.2.2.2.2.2.2.2.2.2.1 ++ [(hq, .inr (8, [.ref he, .int r.2.2.2.2.2.2.2.2.2.2.2.2.2.2.2.1, .int r.2.2.2.2.2.2.2.2.2.2.2.2.2.2.2.2.1])), (he, .inl (D.1 103, ne, .inr (.inr (.inr (.inr r.2.2.2.2.2.2.2.2.2.2.2.2.2.2.2.2.2)))))] ++ LW D b0 b1 b2 b3 b4 b5 n n4 cols rows kd thr bt tm rea gr vl so dy cg)) := by
  refine m_i (by decide) (Nat.le_of_ble_eq_true rfl) ?_
  intro p e s m args below meth c A B
  obtain ⟨X, hr, hAm, -, hnm, hnmd⟩ := B
  obtain ⟨hAm, hH⟩ := hAm
  replace X : CX p s m args meth c D A cX0_rinse 4 "DyeLattice" := X
  refine v_lv (lv' := [(0, .ref a0)]) [0] rfl ?_
  unfold C_rinse at hF
  refine v_aload_n 1 X 0 dX0_rinse_0 rfl rfl rfl ?_
  obtain ⟨z1, hz1, hF⟩ := ob hF
  refine vc_Vr (wr := ([] : va_W)) 4 6 652 X 0 [] [0, 1, 2, 3, 4, 5, 6, 7, 8] [] ([(a0, .inr (0, [.ref b0, .ref hq, .ref tx]))] ++ LW D b0 b1 b2 b3 b4 b5 n n4 cols rows kd thr bt tm rea gr vl so dy cg ++ [(hq, .inr (8, [.ref he, .int hd, .int tl])), (he, .inl (D.1 103, ne, .inr (.inr (.inr (.inr el)))))]) rfl rfl (by decide) (by decide) (by decide) (w_X0_act _ hz1) q352 q354 qs3 q84 q355 hdX0_act 0 rfl rfl (hx_pass hAm hH) ⟨Nat.le_of_ble_eq_true rfl, Nat.le_of_ble_eq_true rfl⟩ ⟨(Nat.le_of_ble_eq_true rfl), (Nat.le_of_ble_eq_true rfl)⟩ rfl rfl (Nat.le_of_ble_eq_true rfl) dX0_rinse_1 rfl rfl rfl (fun a1 u1 e1 => ?_)
  obtain ⟨q1_1, q1_2, q1_3, q1_4, q1_5, q1_6, e11, rfl⟩ := e1
  have e12 := e11.symm
  subst e12
  refine v_ws (ws' := ([(a0, .inr (0, [.ref q1_1, .ref hq, .ref tx]))] ++ LW D q1_1 q1_2 q1_3 q1_4 q1_5 q1_6 z1.2.2.2.2.2.2.2.1 z1.2.2.2.2.2.2.2.2.2.1 z1.1 z1.2.1 z1.2.2.1 z1.2.2.2.1 z1.2.2.2.2.1 z1.2.2.2.2.2.1 z1.2.2.2.2.2.2.1 z1.2.2.2.2.2.2.2.2.1 z1.2.2.2.2.2.2.2.2.2.2.1 z1.2.2.2.2.2.2.2.2.2.2.2.1 z1.2.2.2.2.2.2.2.2.2.2.2.2.1 z1.2.2.2.2.2.2.2.2.2.2.2.2.2.1 ++ [(hq, .inr (8, [.ref he, .int z1.2.2.2.2.2.2.2.2.2.2.2.2.2.2.1, .int z1.2.2.2.2.2.2.2.2.2.2.2.2.2.2.2.1])), (he, .inl (D.1 103, ne, .inr (.inr (.inr (.inr z1.2.2.2.2.2.2.2.2.2.2.2.2.2.2.2.2)))))] ++ LW D b0 b1 b2 b3 b4 b5 n n4 cols rows kd thr bt tm rea gr vl so dy cg)) [0, 1, 2, 3, 4, 5, 6, 7, 8, 9, 10, 11, 12, 13, 14] (by decide) rfl ?_
  refine v_astore_n 5 [(1, .ref q1_1), (0, .ref a0)] X dX0_rinse_4 rfl rfl (by decide) rfl ?_
  refine v_iconst (v := 0) 6 X dX0_rinse_5 rfl ki_0 ?_
  refine v_istore_n 7 [(2, .int 0), (1, .ref q1_1), (0, .ref a0)] X dX0_rinse_6 rfl rfl (by decide) rfl ?_
  refine v_iconst (v := 0) 8 X dX0_rinse_7 rfl ki_0 ?_
  refine v_istore_n 9 [(3, .int 0), (2, .int 0), (1, .ref q1_1), (0, .ref a0)] X dX0_rinse_8 rfl rfl (by decide) rfl ?_
  obtain ⟨z9, hz9, hF⟩ := ob hF
  refine v_lv [2, 1, 0] rfl (w_X0_rinse_9 X hAm hH (Nat.le_of_ble_eq_true rfl) (Nat.le_of_ble_eq_true rfl) z1 z1.2.2.2.2.2.1 _ (0, 0, z1.2.2.2.2.2.2.2.2.2.2.2.2.1, z1.2.2.2.2.2.2.2.2.2.2.2.2.2.1) _ hz9 ?_)
  refine v_aload_n 55 X 0 dX0_rinse_54 rfl rfl rfl ?_
  refine v_iconst (v := 0) 56 X dX0_rinse_55 rfl ki_0 ?_
  refine v_putN 59 ([(a0, .inr (0, [.ref q1_1, .ref hq, .ref tx]))] ++ LW D q1_1 q1_2 q1_3 q1_4 q1_5 q1_6 z1.2.2.2.2.2.2.2.1 z1.2.2.2.2.2.2.2.2.2.1 z1.1 z1.2.1 z1.2.2.1 z1.2.2.2.1 z1.2.2.2.2.1 0 z1.2.2.2.2.2.2.1 z1.2.2.2.2.2.2.2.2.1 z1.2.2.2.2.2.2.2.2.2.2.1 z1.2.2.2.2.2.2.2.2.2.2.2.1 z9.2.1 z9.2.2 ++ [(hq, .inr (8, [.ref he, .int z1.2.2.2.2.2.2.2.2.2.2.2.2.2.2.1, .int z1.2.2.2.2.2.2.2.2.2.2.2.2.2.2.2.1])), (he, .inl (D.1 103, ne, .inr (.inr (.inr (.inr z1.2.2.2.2.2.2.2.2.2.2.2.2.2.2.2.2)))))] ++ LW D b0 b1 b2 b3 b4 b5 n n4 cols rows kd thr bt tm rea gr vl so dy cg) X hAm in_X1 tyX1_ok nmX1 1 5 rfl rfl (by decide) q149 rfl rfl rfl rfl rfl (Nat.le_of_ble_eq_true rfl) dX0_rinse_56 rfl rfl ?_
  refine v_iload_n 60 X 1 dX0_rinse_59 rfl rfl rfl ?_
  obtain rfl := Option.some.inj hF
  exact v_iret X hr ⟨q1_1, q1_2, q1_3, q1_4, q1_5, q1_6, rfl, rfl⟩ (Nat.le_of_ble_eq_true rfl) (Nat.le_of_ble_eq_true rfl) dX0_rinse_60
end
