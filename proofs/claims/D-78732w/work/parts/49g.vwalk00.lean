set_option maxRecDepth 100000
set_option maxHeartbeats 4000000
section
variable {p : Program} {l : Launch} {e : Env} {s : State} {m : MethodId} {args : Array Value} {below : List Frame} {meth : Method} {c : Code} {D : va_G} {A : Nat → Prop} {Q : State → Prop} {ws : va_W} {tkq : TQ3} {tkt : Tok} {b0i b1i b2i b3i b4i b5i ni n4i kdi : Nat} {colsi rowsi thri bti tmi reai : Int32} {vli : Nat → Nat} {gri soi dyi cgi : Nat → Int32} {pq io tk0 : Nat} {pp : Int32} {tq an na : Nat} {ts tv : Int32} {sa : Nat → Nat} {av nb wq wb nw : Nat} {wby : Nat → Int32} {wh wz : Int32} {byt : Nat → Int32} {ml cnt : Int32} {t1 t2 bm bc a0 hq tx he ne b0u : Nat} {el : Nat → Option Nat} {hd tl : Int32} {hs : List Nat} {fst fsu : List Value} {k0 k1 k2 : Int32} {mk clu : Nat → Int32} {b0 b1 b2 b3 b4 b5 n n4 kd : Nat} {cols rows thr bt tm rea : Int32} {gr so dy cg : Nat → Int32} {vl : Nat → Nat}
theorem w_X0_bestValve_36_b (X : CX p s m args meth c D A cX0_bestValve 6 "DyeLattice") (hAm : AMB D A s) {q28_10 : Nat} {q28_11 : Nat} {q28_6 : Nat} {q28_7 : Nat} {q28_8 : Nat} {q28_9 : Nat} (z28 : Int32 × Int32 × Nat × Int32 × Int32 × Int32 × Int32 × Nat × (Nat → Int32) × Nat × (Nat → Nat) × (Nat → Int32) × (Nat → Int32) × (Nat → Int32)) : ∀ (cb sb : Nat) (x : Int32 × Int32 × Int32 × (Nat → Nat)) (r : (Int32 × Int32 × Int32 × (Nat → Nat)) ⊕ (Int32 × (Nat → Nat))), cb + 41 ≤ rmX0_bestValve.cells → sb + 1641 ≤ rmX0_bestValve.slots → (fun x => C_bestValve_36 z28 x.1 x.2.1 x.2.2.1 x.2.2.2) x = some r → (∀ y, r = .inl y → V p l e rmX0_bestValve s m args below meth c D A 6 Q ([(a0, .inr (0, [.ref b0, .ref hq, .ref tx]))] ++ LW D b0 b1 b2 b3 b4 b5 n n4 cols rows kd thr bt tm rea gr vl so dy cg ++ LW D q28_6 q28_7 q28_8 q28_9 q28_10 q28_11 z28.2.2.2.2.2.2.2.1 z28.2.2.2.2.2.2.2.2.2.1 z28.1 z28.2.1 z28.2.2.1 z28.2.2.2.1 z28.2.2.2.2.1 z28.2.2.2.2.2.1 z28.2.2.2.2.2.2.1 z28.2.2.2.2.2.2.2.2.1 y.2.2.2 z28.2.2.2.2.2.2.2.2.2.2.2.1 z28.2.2.2.2.2.2.2.2.2.2.2.2.1 z28.2.2.2.2.2.2.2.2.2.2.2.2.2) (cb + 41) (sb + 1641) 36 [(2, .int y.1), (3, .int y.2.1), (4, .ref q28_6), (5, .int y.2.2.1)] []) → (∀ y, r = .inr y → (V p l e rmX0_bestValve s m args below meth c D A 6 Q ([(a0, .inr (0, [.ref b0, .ref hq, .ref tx]))] ++ LW D b0 b1 b2 b3 b4 b5 n n4 cols rows kd thr bt tm rea gr vl so dy cg ++ LW D q28_6 q28_7 q28_8 q28_9 q28_10 q28_11 z28.2.2.2.2.2.2.2.1 z28.2.2.2.2.2.2.2.2.2.1 z28.1 z28.2.1 z28.2.2.1 z28.2.2.2.1 z28.2.2.2.2.1 z28.2.2.2.2.2.1 z28.2.2.2.2.2.2.1 z28.2.2.2.2.2.2.2.2.1 y.2 z28.2.2.2.2.2.2.2.2.2.2.2.1 z28.2.2.2.2.2.2.2.2.2.2.2.2.1 z28.2.2.2.2.2.2.2.2.2.2.2.2.2) (cb + 41) (sb + 1641) 111 [(3, .int y.1)] [])) → V p l e rmX0_bestValve s m args below meth c D A 6 Q ([(a0, .inr (0, [.ref b0, .ref hq, .ref tx]))] ++ LW D b0 b1 b2 b3 b4 b5 n n4 cols rows kd thr bt tm rea gr vl so dy cg ++ LW D q28_6 q28_7 q28_8 q28_9 q28_10 q28_11 z28.2.2.2.2.2.2.2.1 z28.2.2.2.2.2.2.2.2.2.1 z28.1 z28.2.1 z28.2.2.1 z28.2.2.2.1 z28.2.2.2.2.1 z28.2.2.2.2.2.1 z28.2.2.2.2.2.2.1 z28.2.2.2.2.2.2.2.2.1 x.2.2.2 z28.2.2.2.2.2.2.2.2.2.2.2.1 z28.2.2.2.2.2.2.2.2.2.2.2.2.1 z28.2.2.2.2.2.2.2.2.2.2.2.2.2) cb sb 36 [(2, .int x.1), (3, .int x.2.1), (4, .ref q28_6), (5, .int x.2.2.1)] [] := by
  rintro cb sb ⟨v2, v3, v5, kc28_8⟩ r hcb hsb hF hI hO
  replace hF : C_bestValve_36 z28 v2 v3 v5 kc28_8 = some r := hF
  show V p l e rmX0_bestValve s m args below meth c D A 6 Q ([(a0, .inr (0, [.ref b0, .ref hq, .ref tx]))] ++ LW D b0 b1 b2 b3 b4 b5 n n4 cols rows kd thr bt tm rea gr vl so dy cg ++ LW D q28_6 q28_7 q28_8 q28_9 q28_10 q28_11 z28.2.2.2.2.2.2.2.1 z28.2.2.2.2.2.2.2.2.2.1 z28.1 z28.2.1 z28.2.2.1 z28.2.2.2.1 z28.2.2.2.2.1 z28.2.2.2.2.2.1 z28.2.2.2.2.2.2.1 z28.2.2.2.2.2.2.2.2.1 kc28_8 z28.2.2.2.2.2.2.2.2.2.2.2.1 z28.2.2.2.2.2.2.2.2.2.2.2.2.1 z28.2.2.2.2.2.2.2.2.2.2.2.2.2) cb sb 36 [(2, .int v2), (3, .int v3), (4, .ref q28_6), (5, .int v5)] []
  unfold C_bestValve_36 at hF
  refine v_iload 38 X 3 dX0_bestValve_36 rfl rfl ?_
  refine v_aload 40 X 2 dX0_bestValve_38 rfl rfl ?_
  refine v_getN 43 X hAm in_X1 7 8 rfl rfl (by decide) q157 rfl rfl dX0_bestValve_40 rfl ?_
  refine v_alen 44 X 9 4 rfl rfl rfl dX0_bestValve_43 rfl ?_
  refine v_icmp_ge 47 111 X dX0_bestValve_44 rfl (by decide) (fun h44 => ?_) (fun h44 => ?_)
  · replace hF := ifp h44 hF
    refine v_cs (cb + 41) (sb + 1641) (by omega) (by omega) ?_
    obtain rfl := Option.some.inj hF
    exact v_lv [1] rfl ((hO _ rfl))
  · replace hF := ifn h44 hF
    refine v_aload 49 X 2 dX0_bestValve_47 rfl rfl ?_
    refine v_getN 52 X hAm in_X1 7 8 rfl rfl (by decide) q157 rfl rfl dX0_bestValve_49 rfl ?_
    refine v_iload 54 X 3 dX0_bestValve_52 rfl rfl ?_
    obtain ⟨z54, hz54, hF⟩ := ob hF
    refine v_aldV 55 X 9 hz54 rfl dX0_bestValve_54 rfl ?_
    refine v_getV 58 X hAm 1 (by decide) (by rfl) q1094 dX0_bestValve_55 rfl ?_
    obtain ⟨z58, hz58, hF⟩ := ob hF
    refine v_acmpV_ne 61 105 X hAm hz58 dX0_bestValve_58 rfl (by decide) (fun h58 => ?_) (fun h58 => ?_)
    · replace hF := ifn h58 hF
      refine v_iinc (v := (v5 + 1)) 108 [(5, .int (v5 + 1)), (2, .int v2), (3, .int v3), (4, .ref q28_6)] X 3 dX0_bestValve_105 rfl rfl (by rfl) (by decide) rfl ?_
      refine v_goto 36 X dX0_bestValve_108 (by decide) ?_
      refine v_cs (cb + 41) (sb + 1641) (by omega) (by omega) ?_
      obtain rfl := Option.some.inj hF
      exact v_lv [1, 2, 3, 0] rfl (hI _ rfl)
    · replace hF := ifp h58 hF
      refine v_aload 63 X 2 dX0_bestValve_61 rfl rfl ?_
      refine v_getN 66 X hAm in_X1 7 8 rfl rfl (by decide) q157 rfl rfl dX0_bestValve_63 rfl ?_
      refine v_iload 68 X 3 dX0_bestValve_66 rfl rfl ?_
      refine v_getV 71 X hAm 0 (by decide) (by rfl) q1157 dX0_bestValve_68 rfl ?_
      obtain ⟨z71, hz71, hF⟩ := ob hF
      refine v_astV 72 ([(a0, .inr (0, [.ref b0, .ref hq, .ref tx]))] ++ LW D b0 b1 b2 b3 b4 b5 n n4 cols rows kd thr bt tm rea gr vl so dy cg ++ LW D q28_6 q28_7 q28_8 q28_9 q28_10 q28_11 z28.2.2.2.2.2.2.2.1 z28.2.2.2.2.2.2.2.2.2.1 z28.1 z28.2.1 z28.2.2.1 z28.2.2.2.1 z28.2.2.2.2.1 z28.2.2.2.2.2.1 z28.2.2.2.2.2.2.1 z28.2.2.2.2.2.2.2.2.1 z71 z28.2.2.2.2.2.2.2.2.2.2.2.1 z28.2.2.2.2.2.2.2.2.2.2.2.2.1 z28.2.2.2.2.2.2.2.2.2.2.2.2.2) X hAm 9 hz71 rfl dX0_bestValve_71 rfl rfl ?_
      refine v_aload 74 X 2 dX0_bestValve_72 rfl rfl ?_
      refine v_iload_n 75 X 0 dX0_bestValve_74 rfl rfl rfl ?_
      refine v_iconst (v := 1) 76 X dX0_bestValve_75 rfl ki_1 ?_
      refine v_isub 77 X dX0_bestValve_76 rfl ?_
      refine v_bipush (v := (-9)) 79 X dX0_bestValve_77 rfl kb_m9 ?_
      obtain ⟨z79, hz79, hF⟩ := ob hF
      refine vc_Vi (wr := ([(a0, .inr (0, [.ref b0, .ref hq, .ref tx]))] ++ LW D b0 b1 b2 b3 b4 b5 n n4 cols rows kd thr bt tm rea gr vl so dy cg)) 82 (cb + 4) (sb + 164) X 2 [.int (v2 - 1), .int (-9)] [7, 8, 9, 10, 11, 12] [0, 1, 2, 3, 4, 5, 6] (LW D q28_6 q28_7 q28_8 q28_9 q28_10 q28_11 z28.2.2.2.2.2.2.2.1 z28.2.2.2.2.2.2.2.2.2.1 z28.1 z28.2.1 z28.2.2.1 z28.2.2.2.1 z28.2.2.2.2.1 z28.2.2.2.2.2.1 z28.2.2.2.2.2.2.1 z28.2.2.2.2.2.2.2.2.1 z71 z28.2.2.2.2.2.2.2.2.2.2.2.1 z28.2.2.2.2.2.2.2.2.2.2.2.2.1 z28.2.2.2.2.2.2.2.2.2.2.2.2.2) rfl rfl (by decide) (by decide) (by decide) (w_X1_spans (v2 - 1) (-9) _ hz79) q1099 q1100 q1101 q85 q1102 hdX1_spans 7 rfl rfl (pass_amb hAm) ⟨Nat.le_of_ble_eq_true rfl, Nat.le_of_ble_eq_true rfl⟩ ⟨(Nat.le_trans (show cb + 4 ≤ cb + 41 from by omega) hcb), (Nat.le_trans (show sb + 164 ≤ sb + 1641 from by omega) hsb)⟩ rfl rfl (Nat.le_of_ble_eq_true rfl) dX0_bestValve_79 rfl (by show cb + 4 = cb + 4; omega) (by show sb + 164 = sb + 164; omega) (fun r79 u79 e79 => ?_)
      obtain ⟨e791, rfl⟩ := e79
      have e792 := e791.symm
      subst e792
      refine v_ws (ws' := ([(a0, .inr (0, [.ref b0, .ref hq, .ref tx]))] ++ LW D b0 b1 b2 b3 b4 b5 n n4 cols rows kd thr bt tm rea gr vl so dy cg ++ LW D q28_6 q28_7 q28_8 q28_9 q28_10 q28_11 z28.2.2.2.2.2.2.2.1 z28.2.2.2.2.2.2.2.2.2.1 z28.1 z28.2.1 z28.2.2.1 z28.2.2.2.1 z28.2.2.2.2.1 z28.2.2.2.2.2.1 z28.2.2.2.2.2.2.1 z28.2.2.2.2.2.2.2.2.1 z71 z28.2.2.2.2.2.2.2.2.2.2.2.1 z28.2.2.2.2.2.2.2.2.2.2.2.2.1 z28.2.2.2.2.2.2.2.2.2.2.2.2.2)) [0, 1, 2, 3, 4, 5, 6, 7, 8, 9, 10, 11, 12] (by decide) rfl ?_
      refine v_if_eq 85 94 X dX0_bestValve_82 rfl (by decide) (fun h82 => ?_) (fun h82 => ?_)
      · replace hF := ifp h82 hF
        refine v_aload 96 X 2 dX0_bestValve_94 rfl rfl ?_
        refine v_getN 99 X hAm in_X1 7 8 rfl rfl (by decide) q157 rfl rfl dX0_bestValve_96 rfl ?_
        refine v_iload 101 X 3 dX0_bestValve_99 rfl rfl ?_
        refine v_getV 104 X hAm 1 (by decide) (by rfl) q1094 dX0_bestValve_101 rfl ?_
        obtain ⟨z104, hz104, hF⟩ := ob hF
        refine v_astV 105 ([(a0, .inr (0, [.ref b0, .ref hq, .ref tx]))] ++ LW D b0 b1 b2 b3 b4 b5 n n4 cols rows kd thr bt tm rea gr vl so dy cg ++ LW D q28_6 q28_7 q28_8 q28_9 q28_10 q28_11 z28.2.2.2.2.2.2.2.1 z28.2.2.2.2.2.2.2.2.2.1 z28.1 z28.2.1 z28.2.2.1 z28.2.2.2.1 z28.2.2.2.2.1 z28.2.2.2.2.2.1 z28.2.2.2.2.2.2.1 z28.2.2.2.2.2.2.2.2.1 z104 z28.2.2.2.2.2.2.2.2.2.2.2.1 z28.2.2.2.2.2.2.2.2.2.2.2.2.1 z28.2.2.2.2.2.2.2.2.2.2.2.2.2) X hAm 9 hz104 rfl dX0_bestValve_104 rfl rfl ?_
        refine v_iinc (v := (v5 + 1)) 108 [(5, .int (v5 + 1)), (2, .int v2), (3, .int v3), (4, .ref q28_6)] X 3 dX0_bestValve_105 rfl rfl (by rfl) (by decide) rfl ?_
        refine v_goto 36 X dX0_bestValve_108 (by decide) ?_
        refine v_cs (cb + 41) (sb + 1641) (by omega) (by omega) ?_
        obtain rfl := Option.some.inj hF
        exact v_lv [1, 2, 3, 0] rfl (hI _ rfl)
      · replace hF := ifn h82 hF
        refine v_aload 87 X 2 dX0_bestValve_85 rfl rfl ?_
        obtain ⟨z87, hz87, hF⟩ := ob hF
        refine vc_Vi (wr := ([(a0, .inr (0, [.ref b0, .ref hq, .ref tx]))] ++ LW D b0 b1 b2 b3 b4 b5 n n4 cols rows kd thr bt tm rea gr vl so dy cg)) 90 (cb + 41) (sb + 1641) X 0 [] [7, 8, 9, 10, 11, 12] [0, 1, 2, 3, 4, 5, 6] (LW D q28_6 q28_7 q28_8 q28_9 q28_10 q28_11 z28.2.2.2.2.2.2.2.1 z28.2.2.2.2.2.2.2.2.2.1 z28.1 z28.2.1 z28.2.2.1 z28.2.2.2.1 z28.2.2.2.2.1 z28.2.2.2.2.2.1 z28.2.2.2.2.2.2.1 z28.2.2.2.2.2.2.2.2.1 z71 z28.2.2.2.2.2.2.2.2.2.2.2.1 z28.2.2.2.2.2.2.2.2.2.2.2.2.1 z28.2.2.2.2.2.2.2.2.2.2.2.2.2) rfl rfl (by decide) (by decide) (by decide) (w_X1_spanningThreshold _ hz87) q1113 q1114 q1115 q85 q1116 hdX1_spanningThreshold 7 rfl rfl (pass_amb hAm) ⟨Nat.le_of_ble_eq_true rfl, Nat.le_of_ble_eq_true rfl⟩ ⟨(Nat.le_trans (show (cb + 4) + 37 ≤ cb + 41 from by omega) hcb), (Nat.le_trans (show (sb + 164) + 1477 ≤ sb + 1641 from by omega) hsb)⟩ rfl rfl (Nat.le_of_ble_eq_true rfl) dX0_bestValve_87 rfl (by show (cb + 4) + 37 = cb + 41; omega) (by show (sb + 164) + 1477 = sb + 1641; omega) (fun r87 u87 e87 => ?_)
        obtain ⟨e871, rfl⟩ := e87
        have e872 := e871.symm
        subst e872
        refine v_ws (ws' := ([(a0, .inr (0, [.ref b0, .ref hq, .ref tx]))] ++ LW D b0 b1 b2 b3 b4 b5 n n4 cols rows kd thr bt tm rea gr vl so dy cg ++ LW D q28_6 q28_7 q28_8 q28_9 q28_10 q28_11 z28.2.2.2.2.2.2.2.1 z28.2.2.2.2.2.2.2.2.2.1 z28.1 z28.2.1 z28.2.2.1 z28.2.2.2.1 z28.2.2.2.2.1 z28.2.2.2.2.2.1 z28.2.2.2.2.2.2.1 z28.2.2.2.2.2.2.2.2.1 z71 z28.2.2.2.2.2.2.2.2.2.2.2.1 z28.2.2.2.2.2.2.2.2.2.2.2.2.1 z28.2.2.2.2.2.2.2.2.2.2.2.2.2)) [0, 1, 2, 3, 4, 5, 6, 7, 8, 9, 10, 11, 12] (by decide) rfl ?_
        refine v_istore_n 91 [(2, .int z87), (3, .int v3), (4, .ref q28_6), (5, .int v5)] X dX0_bestValve_90 rfl rfl (by decide) rfl ?_
        refine v_iload 93 X 3 dX0_bestValve_91 rfl rfl ?_
        refine v_istore_n 94 [(3, .int v5), (2, .int z87), (4, .ref q28_6), (5, .int v5)] X dX0_bestValve_93 rfl rfl (by decide) rfl ?_
        refine v_aload 96 X 2 dX0_bestValve_94 rfl rfl ?_
        refine v_getN 99 X hAm in_X1 7 8 rfl rfl (by decide) q157 rfl rfl dX0_bestValve_96 rfl ?_
        refine v_iload 101 X 3 dX0_bestValve_99 rfl rfl ?_
        refine v_getV 104 X hAm 1 (by decide) (by rfl) q1094 dX0_bestValve_101 rfl ?_
        obtain ⟨z104, hz104, hF⟩ := ob hF
        refine v_astV 105 ([(a0, .inr (0, [.ref b0, .ref hq, .ref tx]))] ++ LW D b0 b1 b2 b3 b4 b5 n n4 cols rows kd thr bt tm rea gr vl so dy cg ++ LW D q28_6 q28_7 q28_8 q28_9 q28_10 q28_11 z28.2.2.2.2.2.2.2.1 z28.2.2.2.2.2.2.2.2.2.1 z28.1 z28.2.1 z28.2.2.1 z28.2.2.2.1 z28.2.2.2.2.1 z28.2.2.2.2.2.1 z28.2.2.2.2.2.2.1 z28.2.2.2.2.2.2.2.2.1 z104 z28.2.2.2.2.2.2.2.2.2.2.2.1 z28.2.2.2.2.2.2.2.2.2.2.2.2.1 z28.2.2.2.2.2.2.2.2.2.2.2.2.2) X hAm 9 hz104 rfl dX0_bestValve_104 rfl rfl ?_
        refine v_iinc (v := (v5 + 1)) 108 [(5, .int (v5 + 1)), (3, .int v5), (2, .int z87), (4, .ref q28_6)] X 3 dX0_bestValve_105 rfl rfl (by rfl) (by decide) rfl ?_
        refine v_goto 36 X dX0_bestValve_108 (by decide) ?_
        obtain rfl := Option.some.inj hF
        exact v_lv [2, 1, 3, 0] rfl (hI _ rfl)
theorem w_X0_bestValve_36_c (X : CX p s m args meth c D A cX0_bestValve 6 "DyeLattice") (hAm : AMB D A s) {q28_10 : Nat} {q28_11 : Nat} {q28_6 : Nat} {q28_7 : Nat} {q28_8 : Nat} {q28_9 : Nat} (z28 : Int32 × Int32 × Nat × Int32 × Int32 × Int32 × Int32 × Nat × (Nat → Int32) × Nat × (Nat → Nat) × (Nat → Int32) × (Nat → Int32) × (Nat → Int32)) : ∀ (cb sb : Nat) (x : Int32 × Int32 × Int32 × (Nat → Nat)) (r : (Int32 × Int32 × Int32 × (Nat → Nat)) ⊕ (Int32 × (Nat → Nat))), cb ≤ rmX0_bestValve.cells → sb ≤ rmX0_bestValve.slots → (fun x => C_bestValve_36c z28 x.1 x.2.1 x.2.2.1 x.2.2.2) x = some r → (∀ y, r = .inl y → V p l e rmX0_bestValve s m args below meth c D A 6 Q ([(a0, .inr (0, [.ref b0, .ref hq, .ref tx]))] ++ LW D b0 b1 b2 b3 b4 b5 n n4 cols rows kd thr bt tm rea gr vl so dy cg ++ LW D q28_6 q28_7 q28_8 q28_9 q28_10 q28_11 z28.2.2.2.2.2.2.2.1 z28.2.2.2.2.2.2.2.2.2.1 z28.1 z28.2.1 z28.2.2.1 z28.2.2.2.1 z28.2.2.2.2.1 z28.2.2.2.2.2.1 z28.2.2.2.2.2.2.1 z28.2.2.2.2.2.2.2.2.1 y.2.2.2 z28.2.2.2.2.2.2.2.2.2.2.2.1 z28.2.2.2.2.2.2.2.2.2.2.2.2.1 z28.2.2.2.2.2.2.2.2.2.2.2.2.2) cb sb 36 [(2, .int y.1), (3, .int y.2.1), (4, .ref q28_6), (5, .int y.2.2.1)] []) → (∀ y, r = .inr y → (V p l e rmX0_bestValve s m args below meth c D A 6 Q ([(a0, .inr (0, [.ref b0, .ref hq, .ref tx]))] ++ LW D b0 b1 b2 b3 b4 b5 n n4 cols rows kd thr bt tm rea gr vl so dy cg ++ LW D q28_6 q28_7 q28_8 q28_9 q28_10 q28_11 z28.2.2.2.2.2.2.2.1 z28.2.2.2.2.2.2.2.2.2.1 z28.1 z28.2.1 z28.2.2.1 z28.2.2.2.1 z28.2.2.2.2.1 z28.2.2.2.2.2.1 z28.2.2.2.2.2.2.1 z28.2.2.2.2.2.2.2.2.1 y.2 z28.2.2.2.2.2.2.2.2.2.2.2.1 z28.2.2.2.2.2.2.2.2.2.2.2.2.1 z28.2.2.2.2.2.2.2.2.2.2.2.2.2) cb sb 111 [(3, .int y.1)] [])) → V p l e rmX0_bestValve s m args below meth c D A 6 Q ([(a0, .inr (0, [.ref b0, .ref hq, .ref tx]))] ++ LW D b0 b1 b2 b3 b4 b5 n n4 cols rows kd thr bt tm rea gr vl so dy cg ++ LW D q28_6 q28_7 q28_8 q28_9 q28_10 q28_11 z28.2.2.2.2.2.2.2.1 z28.2.2.2.2.2.2.2.2.2.1 z28.1 z28.2.1 z28.2.2.1 z28.2.2.2.1 z28.2.2.2.2.1 z28.2.2.2.2.2.1 z28.2.2.2.2.2.2.1 z28.2.2.2.2.2.2.2.2.1 x.2.2.2 z28.2.2.2.2.2.2.2.2.2.2.2.1 z28.2.2.2.2.2.2.2.2.2.2.2.2.1 z28.2.2.2.2.2.2.2.2.2.2.2.2.2) cb sb 36 [(2, .int x.1), (3, .int x.2.1), (4, .ref q28_6), (5, .int x.2.2.1)] [] := by
  rintro cb sb ⟨v2, v3, v5, kc28_8⟩ r hcb hsb hF hI hO
  replace hF : C_bestValve_36c z28 v2 v3 v5 kc28_8 = some r := hF
  show V p l e rmX0_bestValve s m args below meth c D A 6 Q ([(a0, .inr (0, [.ref b0, .ref hq, .ref tx]))] ++ LW D b0 b1 b2 b3 b4 b5 n n4 cols rows kd thr bt tm rea gr vl so dy cg ++ LW D q28_6 q28_7 q28_8 q28_9 q28_10 q28_11 z28.2.2.2.2.2.2.2.1 z28.2.2.2.2.2.2.2.2.2.1 z28.1 z28.2.1 z28.2.2.1 z28.2.2.2.1 z28.2.2.2.2.1 z28.2.2.2.2.2.1 z28.2.2.2.2.2.2.1 z28.2.2.2.2.2.2.2.2.1 kc28_8 z28.2.2.2.2.2.2.2.2.2.2.2.1 z28.2.2.2.2.2.2.2.2.2.2.2.2.1 z28.2.2.2.2.2.2.2.2.2.2.2.2.2) cb sb 36 [(2, .int v2), (3, .int v3), (4, .ref q28_6), (5, .int v5)] []
  unfold C_bestValve_36c at hF
  refine v_iload 38 X 3 dX0_bestValve_36 rfl rfl ?_
  refine v_aload 40 X 2 dX0_bestValve_38 rfl rfl ?_
  refine v_getN 43 X hAm in_X1 7 8 rfl rfl (by decide) q157 rfl rfl dX0_bestValve_40 rfl ?_
  refine v_alen 44 X 9 4 rfl rfl rfl dX0_bestValve_43 rfl ?_
  refine v_icmp_ge 47 111 X dX0_bestValve_44 rfl (by decide) (fun h44 => ?_) (fun h44 => ?_)
  · replace hF := ifp h44 hF
    obtain rfl := Option.some.inj hF
    exact v_lv [1] rfl ((hO _ rfl))
  · replace hF := ifn h44 hF
    refine v_aload 49 X 2 dX0_bestValve_47 rfl rfl ?_
    refine v_getN 52 X hAm in_X1 7 8 rfl rfl (by decide) q157 rfl rfl dX0_bestValve_49 rfl ?_
    refine v_iload 54 X 3 dX0_bestValve_52 rfl rfl ?_
    obtain ⟨z54, hz54, hF⟩ := ob hF
    refine v_aldV 55 X 9 hz54 rfl dX0_bestValve_54 rfl ?_
    refine v_getV 58 X hAm 1 (by decide) (by rfl) q1094 dX0_bestValve_55 rfl ?_
    obtain ⟨z58, hz58, hF⟩ := ob hF
    refine v_acmpV_ne 61 105 X hAm hz58 dX0_bestValve_58 rfl (by decide) (fun h58 => ?_) (fun h58 => ?_)
    · replace hF := ifn h58 hF
      refine v_iinc (v := (v5 + 1)) 108 [(5, .int (v5 + 1)), (2, .int v2), (3, .int v3), (4, .ref q28_6)] X 3 dX0_bestValve_105 rfl rfl (by rfl) (by decide) rfl ?_
      refine v_goto 36 X dX0_bestValve_108 (by decide) ?_
      obtain rfl := Option.some.inj hF
      exact v_lv [1, 2, 3, 0] rfl (hI _ rfl)
    · replace hF := ifp h58 hF
      cases hF
theorem w_X0_bestValve_36 (X : CX p s m args meth c D A cX0_bestValve 6 "DyeLattice") (hAm : AMB D A s) {q28_10 : Nat} {q28_11 : Nat} {q28_6 : Nat} {q28_7 : Nat} {q28_8 : Nat} {q28_9 : Nat} (z28 : Int32 × Int32 × Nat × Int32 × Int32 × Int32 × Int32 × Nat × (Nat → Int32) × Nat × (Nat → Nat) × (Nat → Int32) × (Nat → Int32) × (Nat → Int32)) : ∀ (fu bud cb sb : Nat) (x : Int32 × Int32 × Int32 × (Nat → Nat)) (o : (Int32 × (Nat → Nat))), cb + bud * 41 ≤ rmX0_bestValve.cells → sb + bud * 1641 ≤ rmX0_bestValve.slots → loopB (fun x => C_bestValve_36c z28 x.1 x.2.1 x.2.2.1 x.2.2.2) (fun x => C_bestValve_36 z28 x.1 x.2.1 x.2.2.1 x.2.2.2) fu bud x = some o → (V p l e rmX0_bestValve s m args below meth c D A 6 Q ([(a0, .inr (0, [.ref b0, .ref hq, .ref tx]))] ++ LW D b0 b1 b2 b3 b4 b5 n n4 cols rows kd thr bt tm rea gr vl so dy cg ++ LW D q28_6 q28_7 q28_8 q28_9 q28_10 q28_11 z28.2.2.2.2.2.2.2.1 z28.2.2.2.2.2.2.2.2.2.1 z28.1 z28.2.1 z28.2.2.1 z28.2.2.2.1 z28.2.2.2.2.1 z28.2.2.2.2.2.1 z28.2.2.2.2.2.2.1 z28.2.2.2.2.2.2.2.2.1 o.2 z28.2.2.2.2.2.2.2.2.2.2.2.1 z28.2.2.2.2.2.2.2.2.2.2.2.2.1 z28.2.2.2.2.2.2.2.2.2.2.2.2.2) (cb + bud * 41) (sb + bud * 1641) 111 [(3, .int o.1)] []) → V p l e rmX0_bestValve s m args below meth c D A 6 Q ([(a0, .inr (0, [.ref b0, .ref hq, .ref tx]))] ++ LW D b0 b1 b2 b3 b4 b5 n n4 cols rows kd thr bt tm rea gr vl so dy cg ++ LW D q28_6 q28_7 q28_8 q28_9 q28_10 q28_11 z28.2.2.2.2.2.2.2.1 z28.2.2.2.2.2.2.2.2.2.1 z28.1 z28.2.1 z28.2.2.1 z28.2.2.2.1 z28.2.2.2.2.1 z28.2.2.2.2.2.1 z28.2.2.2.2.2.2.1 z28.2.2.2.2.2.2.2.2.1 x.2.2.2 z28.2.2.2.2.2.2.2.2.2.2.2.1 z28.2.2.2.2.2.2.2.2.2.2.2.2.1 z28.2.2.2.2.2.2.2.2.2.2.2.2.2) cb sb 36 [(2, .int x.1), (3, .int x.2.1), (4, .ref q28_6), (5, .int x.2.2.1)] [] :=
  v_loopB 41 1641 rmX0_bestValve.cells rmX0_bestValve.slots (fun cb sb (x : Int32 × Int32 × Int32 × (Nat → Nat)) => V p l e rmX0_bestValve s m args below meth c D A 6 Q ([(a0, .inr (0, [.ref b0, .ref hq, .ref tx]))] ++ LW D b0 b1 b2 b3 b4 b5 n n4 cols rows kd thr bt tm rea gr vl so dy cg ++ LW D q28_6 q28_7 q28_8 q28_9 q28_10 q28_11 z28.2.2.2.2.2.2.2.1 z28.2.2.2.2.2.2.2.2.2.1 z28.1 z28.2.1 z28.2.2.1 z28.2.2.2.1 z28.2.2.2.2.1 z28.2.2.2.2.2.1 z28.2.2.2.2.2.2.1 z28.2.2.2.2.2.2.2.2.1 x.2.2.2 z28.2.2.2.2.2.2.2.2.2.2.2.1 z28.2.2.2.2.2.2.2.2.2.2.2.2.1 z28.2.2.2.2.2.2.2.2.2.2.2.2.2) cb sb 36 [(2, .int x.1), (3, .int x.2.1), (4, .ref q28_6), (5, .int x.2.2.1)] []) (fun cb sb (o : (Int32 × (Nat → Nat))) => V p l e rmX0_bestValve s m args below meth c D A 6 Q ([(a0, .inr (0, [.ref b0, .ref hq, .ref tx]))] ++ LW D b0 b1 b2 b3 b4 b5 n n4 cols rows kd thr bt tm rea gr vl so dy cg ++ LW D q28_6 q28_7 q28_8 q28_9 q28_10 q28_11 z28.2.2.2.2.2.2.2.1 z28.2.2.2.2.2.2.2.2.2.1 z28.1 z28.2.1 z28.2.2.1 z28.2.2.2.1 z28.2.2.2.2.1 z28.2.2.2.2.2.1 z28.2.2.2.2.2.2.1 z28.2.2.2.2.2.2.2.2.1 o.2 z28.2.2.2.2.2.2.2.2.2.2.2.1 z28.2.2.2.2.2.2.2.2.2.2.2.2.1 z28.2.2.2.2.2.2.2.2.2.2.2.2.2) cb sb 111 [(3, .int o.1)] []) (fun c0 s0 c1 s1 o hc hs h => v_cs c1 s1 hc hs (h)) (w_X0_bestValve_36_c X hAm z28) (w_X0_bestValve_36_b X hAm z28)
theorem w_X0_bestValve_j20 (X : CX p s m args meth c D A cX0_bestValve 6 "DyeLattice") (hAm : AMB D A s) (s0 : Int32) (hr : meth.sig.returnType = (Option.some Jvm.ClassFile.FieldType.int)) {r : Int32} (hF : C_bestValve_j20 cols rows thr bt tm rea kd n n4 vl gr so dy cg s0 = some r) : V p l e rmX0_bestValve s m args below meth c D A 6 (MQ below (va_Qi (fun r1 u => r1 = r ∧ u = ([(a0, .inr (0, [.ref b0, .ref hq, .ref tx]))] ++ LW D b0 b1 b2 b3 b4 b5 n n4 cols rows kd thr bt tm rea gr vl so dy cg)) (Wd D A) A) args s rmX0_bestValve.cells rmX0_bestValve.slots A) ([(a0, .inr (0, [.ref b0, .ref hq, .ref tx]))] ++ LW D b0 b1 b2 b3 b4 b5 n n4 cols rows kd thr bt tm rea gr vl so dy cg) 37 1477 20 [(0, .ref a0)] [.int s0] := by
  unfold C_bestValve_j20 at hF
  refine v_istore_n 21 [(2, .int s0), (0, .ref a0)] X dX0_bestValve_20 rfl rfl (by decide) rfl ?_
  refine v_bipush (v := (-9)) 23 X dX0_bestValve_21 rfl kb_m9 ?_
  refine v_istore_n 24 [(3, .int (-9)), (2, .int s0), (0, .ref a0)] X dX0_bestValve_23 rfl rfl (by decide) rfl ?_
  refine v_aload_n 25 X 2 dX0_bestValve_24 rfl rfl rfl ?_
  refine v_get 28 X in_X0 0 0 rfl rfl (by decide) q245 rfl rfl dX0_bestValve_25 rfl ?_
  obtain ⟨z28, hz28, hF⟩ := ob hF
  refine vc_Vr (wr := ([(a0, .inr (0, [.ref b0, .ref hq, .ref tx]))])) 31 43 2129 X 0 [] [1, 2, 3, 4, 5, 6] [0] (LW D b0 b1 b2 b3 b4 b5 n n4 cols rows kd thr bt tm rea gr vl so dy cg) rfl rfl (by decide) (by decide) (by decide) (w_X1_copy _ hz28) q356 q357 q358 q85 q359 hdX1_copy 1 rfl rfl (pass_amb hAm) ⟨Nat.le_of_ble_eq_true rfl, Nat.le_of_ble_eq_true rfl⟩ ⟨(Nat.le_of_ble_eq_true rfl), (Nat.le_of_ble_eq_true rfl)⟩ rfl rfl (Nat.le_of_ble_eq_true rfl) dX0_bestValve_28 rfl rfl rfl (fun a28 u28 e28 => ?_)
  obtain ⟨q28_6, q28_7, q28_8, q28_9, q28_10, q28_11, e281, rfl⟩ := e28
  have e282 := e281.symm
  subst e282
  refine v_ws (ws' := ([(a0, .inr (0, [.ref b0, .ref hq, .ref tx]))] ++ LW D b0 b1 b2 b3 b4 b5 n n4 cols rows kd thr bt tm rea gr vl so dy cg ++ LW D q28_6 q28_7 q28_8 q28_9 q28_10 q28_11 z28.2.2.2.2.2.2.2.1 z28.2.2.2.2.2.2.2.2.2.1 z28.1 z28.2.1 z28.2.2.1 z28.2.2.2.1 z28.2.2.2.2.1 z28.2.2.2.2.2.1 z28.2.2.2.2.2.2.1 z28.2.2.2.2.2.2.2.2.1 z28.2.2.2.2.2.2.2.2.2.2.1 z28.2.2.2.2.2.2.2.2.2.2.2.1 z28.2.2.2.2.2.2.2.2.2.2.2.2.1 z28.2.2.2.2.2.2.2.2.2.2.2.2.2)) [0, 1, 2, 3, 4, 5, 6, 7, 8, 9, 10, 11, 12] (by decide) rfl ?_
  refine v_astore 33 [(4, .ref q28_6), (3, .int (-9)), (2, .int s0), (0, .ref a0)] X dX0_bestValve_31 rfl (by decide) rfl ?_
  refine v_iconst (v := 0) 34 X dX0_bestValve_33 rfl ki_0 ?_
  refine v_istore 36 [(5, .int 0), (4, .ref q28_6), (3, .int (-9)), (2, .int s0), (0, .ref a0)] X dX0_bestValve_34 rfl (by decide) rfl ?_
  obtain ⟨z36, hz36, hF⟩ := ob hF
  refine v_lv [3, 2, 1, 0] rfl (w_X0_bestValve_36 X hAm z28 400 64 43 2129 (s0, (-9), 0, z28.2.2.2.2.2.2.2.2.2.2.1) _ (Nat.le_of_ble_eq_true rfl) (Nat.le_of_ble_eq_true rfl) hz36 ?_)
  refine v_c0 2667 107153 rfl rfl ?_
  refine v_iload_n 112 X 0 dX0_bestValve_111 rfl rfl rfl ?_
  obtain rfl := Option.some.inj hF
  refine v_ws (ws' := ([(a0, .inr (0, [.ref b0, .ref hq, .ref tx]))] ++ LW D b0 b1 b2 b3 b4 b5 n n4 cols rows kd thr bt tm rea gr vl so dy cg)) [0, 1, 2, 3, 4, 5, 6] (by decide) rfl ?_
  exact v_iret X hr ⟨rfl, rfl⟩ (Nat.le_of_ble_eq_true rfl) (Nat.le_of_ble_eq_true rfl) dX0_bestValve_112
theorem w_X0_bestValve (r : Int32) (hF : C_bestValve cols rows thr bt tm rea kd n n4 vl gr so dy cg = some r) : CTi l yX0_bestValve cX0_bestValve 6 (Option.some Jvm.ClassFile.FieldType.int) rmX0_bestValve D ([(a0, .inr (0, [.ref b0, .ref hq, .ref tx]))] ++ LW D b0 b1 b2 b3 b4 b5 n n4 cols rows kd thr bt tm rea gr vl so dy cg) [.ref a0] (AMB D) (fun r1 u => r1 = r ∧ u = ([(a0, .inr (0, [.ref b0, .ref hq, .ref tx]))] ++ LW D b0 b1 b2 b3 b4 b5 n n4 cols rows kd thr bt tm rea gr vl so dy cg)) := by
  refine m_i (by decide) (Nat.le_of_ble_eq_true rfl) ?_
  intro p e s m args below meth c A B
  obtain ⟨X, hr, hAm, -, hnm, hnmd⟩ := B
  replace X : CX p s m args meth c D A cX0_bestValve 6 "DyeLattice" := X
  refine v_lv (lv' := [(0, .ref a0)]) [0] rfl ?_
  unfold C_bestValve at hF
  refine v_aload_n 1 X 0 dX0_bestValve_0 rfl rfl rfl ?_
  refine v_get 4 X in_X0 0 0 rfl rfl (by decide) q245 rfl rfl dX0_bestValve_1 rfl ?_
  obtain ⟨z4, hz4, hF⟩ := ob hF
  refine vc_Vi (wr := ([(a0, .inr (0, [.ref b0, .ref hq, .ref tx]))])) 7 37 1477 X 0 [] [1, 2, 3, 4, 5, 6] [0] (LW D b0 b1 b2 b3 b4 b5 n n4 cols rows kd thr bt tm rea gr vl so dy cg) rfl rfl (by decide) (by decide) (by decide) (w_X1_spanningThreshold _ hz4) q1113 q1114 q1115 q85 q1116 hdX1_spanningThreshold 1 rfl rfl (pass_amb hAm) ⟨Nat.le_of_ble_eq_true rfl, Nat.le_of_ble_eq_true rfl⟩ ⟨(Nat.le_of_ble_eq_true rfl), (Nat.le_of_ble_eq_true rfl)⟩ rfl rfl (Nat.le_of_ble_eq_true rfl) dX0_bestValve_4 rfl rfl rfl (fun r4 u4 e4 => ?_)
  obtain ⟨e41, rfl⟩ := e4
  have e42 := e41.symm
  subst e42
  refine v_ws (ws' := ([(a0, .inr (0, [.ref b0, .ref hq, .ref tx]))] ++ LW D b0 b1 b2 b3 b4 b5 n n4 cols rows kd thr bt tm rea gr vl so dy cg)) [0, 1, 2, 3, 4, 5, 6] (by decide) rfl ?_
  refine v_istore_n 8 [(1, .int z4), (0, .ref a0)] X dX0_bestValve_7 rfl rfl (by decide) rfl ?_
  refine v_iload_n 9 X 0 dX0_bestValve_8 rfl rfl rfl ?_
  refine v_bipush (v := (-9)) 11 X dX0_bestValve_9 rfl kb_m9 ?_
  refine v_icmp_ne 14 19 X dX0_bestValve_11 rfl (by decide) (fun h11 => ?_) (fun h11 => ?_)
  · replace hF := ifn h11 hF
    refine v_iload_n 20 X 0 dX0_bestValve_19 rfl rfl rfl ?_
    exact v_lv [1] rfl (w_X0_bestValve_j20 X hAm z4 hr hF)
  · replace hF := ifp h11 hF
    refine v_bipush (v := 101) 16 X dX0_bestValve_14 rfl kb_101 ?_
    refine v_goto 20 X dX0_bestValve_16 (by decide) ?_
    exact v_lv [1] rfl (w_X0_bestValve_j20 X hAm 101 hr hF)
end
