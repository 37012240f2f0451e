set_option maxRecDepth 100000
set_option maxHeartbeats 4000000
section
variable {p : Program} {l : Launch} {e : Env} {s : State} {m : MethodId} {args : Array Value} {below : List Frame} {meth : Method} {c : Code} {D : va_G} {A : Nat → Prop} {Q : State → Prop} {ws : va_W} {pq io tk0 : Nat} {pp : Int32} {tq an na : Nat} {ts tv : Int32} {sa : Nat → Nat} {av nb wq wb nw : Nat} {wby : Nat → Int32} {wh wz : Int32} {byt : Nat → Int32} {ml cnt : Int32} {t1 t2 bm bc a0 hq tx he ne b0u : Nat} {el : Nat → Option Nat} {hd tl : Int32} {hs : List Nat} {fst fsu : List Value} {k0 k1 k2 : Int32} {mk clu : Nat → Int32} {b0 b1 b2 b3 b4 b5 n n4 kd : Nat} {cols rows thr bt tm rea : Int32} {gr so dy cg : Nat → Int32} {vl : Nat → Nat}
theorem w_X5_init (r : Nat × Int32 × Int32 × Nat × Int32 × Int32 × Int32 × Int32 × Nat × (Nat → Int32) × Nat × (Nat → Nat) × (Nat → Int32) × (Nat → Int32) × (Nat → Int32) × Int32 × Int32) (hF : P_init a0 = some r) : CTv l yX5_init cX5_init 2 (Option.none : Option Jvm.ClassFile.FieldType) rmX5_init D ([(pq, .inr (3, [.null, .int 0, .null, .null]))]) [.ref pq, .ref a0] (AMB D) (fun u => ∃ qa1 qa2 qa3 qa4 qa5 qa6 qa7 : Nat, u = ([(pq, .inr (3, [.ref qa1, .int 0, .ref qa7, .ref r.1]))] ++ LW D qa1 qa2 qa3 qa4 qa5 qa6 r.2.2.2.2.2.2.2.2.1 r.2.2.2.2.2.2.2.2.2.2.1 r.2.1 r.2.2.1 r.2.2.2.1 r.2.2.2.2.1 r.2.2.2.2.2.1 r.2.2.2.2.2.2.1 r.2.2.2.2.2.2.2.1 r.2.2.2.2.2.2.2.2.2.1 r.2.2.2.2.2.2.2.2.2.2.2.1 r.2.2.2.2.2.2.2.2.2.2.2.2.1 r.2.2.2.2.2.2.2.2.2.2.2.2.2.1 r.2.2.2.2.2.2.2.2.2.2.2.2.2.2.1 ++ [(qa7, .inr (4, [.int r.2.2.2.2.2.2.2.2.2.2.2.2.2.2.2.1, .int r.2.2.2.2.2.2.2.2.2.2.2.2.2.2.2.2]))])) := by
  refine m_v (by decide) (Nat.le_of_ble_eq_true rfl) ?_
  intro p e s m args below meth c A B
  obtain ⟨X, hr, hAm, -, hnm, hnmd⟩ := B
  replace X : CX p s m args meth c D A cX5_init 2 "DyeLattice$Parser" := X
  refine v_lv (lv' := [(0, .ref pq), (1, .ref a0)]) [0, 1] rfl ?_
  unfold P_init at hF
  refine v_aload_n 1 X 0 dX5_init_0 rfl rfl rfl ?_
  refine v_aload_n 2 X 1 dX5_init_1 rfl rfl rfl ?_
  refine v_putF 5 ([(pq, .inr (3, [.null, .int 0, .null, .ref a0]))]) X hnm in_X5 tyX5_ok nmX5 0 3 rfl rfl (by decide) q649 rfl rfl rfl rfl rfl rfl (Nat.le_of_ble_eq_true rfl) dX5_init_2 rfl rfl ?_
  refine v_aload_n 6 X 0 dX5_init_5 rfl rfl rfl ?_
  refine v_objInit 9 X q625 (Nat.le_of_ble_eq_true rfl) (Nat.le_of_ble_eq_true rfl) dX5_init_6 rfl ?_
  refine v_aload_n 10 X 0 dX5_init_9 rfl rfl rfl ?_
  refine v_new (fs := [.int 0, .int 0, .null, .int 0, .int 0, .int 0, .int 0, .null, .null, .null, .null, .null]) 13 1 12 X in_X1 tyX1_ok q626 q120 q85 (ci := 1) rfl (by decide) (Nat.le_of_ble_eq_true rfl) (Nat.le_of_ble_eq_true rfl) dX5_init_10 rfl rfl rfl (fun q10 => ?_)
  refine v_ws (ws' := ([(pq, .inr (3, [.null, .int 0, .null, .ref a0])), (q10, .inr (1, [.int 0, .int 0, .null, .int 0, .int 0, .int 0, .int 0, .null, .null, .null, .null, .null]))])) [0, 1] (by decide) rfl ?_
  refine v_dup 14 X dX5_init_13 rfl rfl ?_
  refine v_iconst (v := 4) 15 X dX5_init_14 rfl ki_4 ?_
  refine v_iconst (v := 4) 16 X dX5_init_15 rfl ki_4 ?_
  obtain ⟨z16, hz16, hF⟩ := ob hF
  refine vc_Iv (wr := ([(pq, .inr (3, [.null, .int 0, .null, .ref a0]))])) 19 6 652 X 2 [.int 4, .int 4] [1] [0] ([(q10, .inr (1, [.int 0, .int 0, .null, .int 0, .int 0, .int 0, .int 0, .null, .null, .null, .null, .null]))]) rfl rfl (by decide) (by decide) (by decide) (w_X1_init 4 4 _ hz16) q627 q122 rfl q85 q123 hdX1_init.2 (pass_amb hAm) ⟨Nat.le_of_ble_eq_true rfl, Nat.le_of_ble_eq_true rfl⟩ ⟨(Nat.le_of_ble_eq_true rfl), (Nat.le_of_ble_eq_true rfl)⟩ rfl rfl (Nat.le_of_ble_eq_true rfl) dX5_init_16 rfl rfl rfl (fun u16 e16 => ?_)
  obtain ⟨q16_1, q16_2, q16_3, q16_4, q16_5, rfl⟩ := e16
  refine v_ws (ws' := ([(pq, .inr (3, [.null, .int 0, .null, .ref a0]))] ++ LW D q10 q16_1 q16_2 q16_3 q16_4 q16_5 z16.2.2.2.2.2.1 z16.2.2.2.2.2.2.2.1 z16.2.2.2.1 z16.2.2.2.2.1 z16.1 z16.2.1 z16.2.2.1 0 0 z16.2.2.2.2.2.2.1 z16.2.2.2.2.2.2.2.2.1 z16.2.2.2.2.2.2.2.2.2.1 z16.2.2.2.2.2.2.2.2.2.2.1 z16.2.2.2.2.2.2.2.2.2.2.2)) [0, 1, 2, 3, 4, 5, 6] (by decide) rfl ?_
  refine v_put 22 ([(pq, .inr (3, [.ref q10, .int 0, .null, .ref a0]))] ++ LW D q10 q16_1 q16_2 q16_3 q16_4 q16_5 z16.2.2.2.2.2.1 z16.2.2.2.2.2.2.2.1 z16.2.2.2.1 z16.2.2.2.2.1 z16.1 z16.2.1 z16.2.2.1 0 0 z16.2.2.2.2.2.2.1 z16.2.2.2.2.2.2.2.2.1 z16.2.2.2.2.2.2.2.2.2.1 z16.2.2.2.2.2.2.2.2.2.2.1 z16.2.2.2.2.2.2.2.2.2.2.2) X in_X5 tyX5_ok nmX5 0 0 rfl rfl (by decide) q645 rfl rfl rfl rfl rfl (Nat.le_of_ble_eq_true rfl) dX5_init_19 rfl rfl ?_
  refine v_aload_n 23 X 0 dX5_init_22 rfl rfl rfl ?_
  refine v_new (fs := [.int 0, .int 0]) 26 7 654 X in_X7 tyX7_ok q628 q629 q105 (ci := 4) rfl (by decide) (Nat.le_of_ble_eq_true rfl) (Nat.le_of_ble_eq_true rfl) dX5_init_23 rfl rfl rfl (fun q23 => ?_)
  refine v_ws (ws' := ([(pq, .inr (3, [.ref q10, .int 0, .null, .ref a0]))] ++ LW D q10 q16_1 q16_2 q16_3 q16_4 q16_5 z16.2.2.2.2.2.1 z16.2.2.2.2.2.2.2.1 z16.2.2.2.1 z16.2.2.2.2.1 z16.1 z16.2.1 z16.2.2.1 0 0 z16.2.2.2.2.2.2.1 z16.2.2.2.2.2.2.2.2.1 z16.2.2.2.2.2.2.2.2.2.1 z16.2.2.2.2.2.2.2.2.2.2.1 z16.2.2.2.2.2.2.2.2.2.2.2 ++ [(q23, .inr (4, [.int 0, .int 0]))])) [0, 1, 2, 3, 4, 5, 6, 7] (by decide) rfl ?_
  refine v_dup 27 X dX5_init_26 rfl rfl ?_
  refine v_iconst (v := 0) 28 X dX5_init_27 rfl ki_0 ?_
  refine v_bipush (v := 32) 30 X dX5_init_28 rfl kb_32 ?_
  obtain ⟨z30, hz30, hF⟩ := ob hF
  refine vc_Iv (wr := ([(pq, .inr (3, [.ref q10, .int 0, .null, .ref a0]))] ++ LW D q10 q16_1 q16_2 q16_3 q16_4 q16_5 z16.2.2.2.2.2.1 z16.2.2.2.2.2.2.2.1 z16.2.2.2.1 z16.2.2.2.2.1 z16.1 z16.2.1 z16.2.2.1 0 0 z16.2.2.2.2.2.2.1 z16.2.2.2.2.2.2.2.2.1 z16.2.2.2.2.2.2.2.2.2.1 z16.2.2.2.2.2.2.2.2.2.2.1 z16.2.2.2.2.2.2.2.2.2.2.2)) 33 7 654 X 2 [.int 0, .int 32] [7] [0, 1, 2, 3, 4, 5, 6] ([(q23, .inr (4, [.int 0, .int 0]))]) rfl rfl (by decide) (by decide) (by decide) (w_X7_init 0 32 _ hz30) q630 q631 rfl q105 q632 hdX7_init.2 (pass_amb hAm) ⟨Nat.le_of_ble_eq_true rfl, Nat.le_of_ble_eq_true rfl⟩ ⟨(Nat.le_of_ble_eq_true rfl), (Nat.le_of_ble_eq_true rfl)⟩ rfl rfl (Nat.le_of_ble_eq_true rfl) dX5_init_30 rfl rfl rfl (fun u30 e30 => ?_)
  subst e30
  refine v_ws (ws' := ([(pq, .inr (3, [.ref q10, .int 0, .null, .ref a0]))] ++ LW D q10 q16_1 q16_2 q16_3 q16_4 q16_5 z16.2.2.2.2.2.1 z16.2.2.2.2.2.2.2.1 z16.2.2.2.1 z16.2.2.2.2.1 z16.1 z16.2.1 z16.2.2.1 0 0 z16.2.2.2.2.2.2.1 z16.2.2.2.2.2.2.2.2.1 z16.2.2.2.2.2.2.2.2.2.1 z16.2.2.2.2.2.2.2.2.2.2.1 z16.2.2.2.2.2.2.2.2.2.2.2 ++ [(q23, .inr (4, [.int z30.1, .int z30.2]))])) [0, 1, 2, 3, 4, 5, 6, 7] (by decide) rfl ?_
  refine v_put 36 ([(pq, .inr (3, [.ref q10, .int 0, .ref q23, .ref a0]))] ++ LW D q10 q16_1 q16_2 q16_3 q16_4 q16_5 z16.2.2.2.2.2.1 z16.2.2.2.2.2.2.2.1 z16.2.2.2.1 z16.2.2.2.2.1 z16.1 z16.2.1 z16.2.2.1 0 0 z16.2.2.2.2.2.2.1 z16.2.2.2.2.2.2.2.2.1 z16.2.2.2.2.2.2.2.2.2.1 z16.2.2.2.2.2.2.2.2.2.2.1 z16.2.2.2.2.2.2.2.2.2.2.2 ++ [(q23, .inr (4, [.int z30.1, .int z30.2]))]) X in_X5 tyX5_ok nmX5 0 2 rfl rfl (by decide) q648 rfl rfl rfl rfl rfl (Nat.le_of_ble_eq_true rfl) dX5_init_33 rfl rfl ?_
  obtain rfl := Option.some.inj hF
  exact v_vret X hr ⟨q10, q16_1, q16_2, q16_3, q16_4, q16_5, q23, rfl⟩ (Nat.le_of_ble_eq_true rfl) (Nat.le_of_ble_eq_true rfl) dX5_init_36
theorem w_X5_here (r : Int32) (hF : P_here nb byt cnt pp = some r) : CTi l yX5_here cX5_here 1 (Option.some Jvm.ClassFile.FieldType.char) rmX5_here D ([(a0, .inr (0, [.ref b0, .ref hq, .ref tx])), (tx, .inr (9, [.ref av, .int 0, .int ml, .int cnt])), (av, .inl (D.1 102, nb, .inl byt)), (pq, .inr (3, [.ref io, .int pp, .ref tk0, .ref a0]))]) [.ref pq] (AMB D) (fun r1 u => r1 = r ∧ u = ([(a0, .inr (0, [.ref b0, .ref hq, .ref tx])), (tx, .inr (9, [.ref av, .int 0, .int ml, .int cnt])), (av, .inl (D.1 102, nb, .inl byt)), (pq, .inr (3, [.ref io, .int pp, .ref tk0, .ref a0]))])) := by
  refine m_i (by decide) (Nat.le_of_ble_eq_true rfl) ?_
  intro p e s m args below meth c A B
  obtain ⟨X, hr, hAm, -, hnm, hnmd⟩ := B
  replace X : CX p s m args meth c D A cX5_here 1 "DyeLattice$Parser" := X
  refine v_lv (lv' := [(0, .ref pq)]) [0] rfl ?_
  unfold P_here at hF
  refine v_aload_n 1 X 0 dX5_here_0 rfl rfl rfl ?_
  refine v_get 4 X in_X5 3 1 rfl rfl (by decide) q647 rfl rfl dX5_here_1 rfl ?_
  refine v_aload_n 5 X 0 dX5_here_4 rfl rfl rfl ?_
  refine v_get 8 X in_X5 3 3 rfl rfl (by decide) q649 rfl rfl dX5_here_5 rfl ?_
  refine v_getN 11 X hAm in_X0 0 2 rfl rfl (by decide) q247 rfl rfl dX5_here_8 rfl ?_
  obtain ⟨z11, hz11, hF⟩ := ob hF
  refine vc_Vi (wr := ([(a0, .inr (0, [.ref b0, .ref hq, .ref tx])), (pq, .inr (3, [.ref io, .int pp, .ref tk0, .ref a0]))])) 14 0 0 X 0 [] [1, 2] [0, 3] ([(tx, .inr (9, [.ref av, .int 0, .int ml, .int cnt])), (av, .inl (D.1 102, nb, .inl byt))]) rfl rfl (by decide) (by decide) (by decide) (w_J4_length _ hz11) q671 q498 q499 q92 q500 hdJ4_length 1 rfl rfl (pass_amb hAm) ⟨Nat.le_of_ble_eq_true rfl, Nat.le_of_ble_eq_true rfl⟩ ⟨(Nat.le_of_ble_eq_true rfl), (Nat.le_of_ble_eq_true rfl)⟩ rfl rfl (Nat.le_of_ble_eq_true rfl) dX5_here_11 rfl rfl rfl (fun r11 u11 e11 => ?_)
  obtain ⟨e111, rfl⟩ := e11
  have e112 := e111.symm
  subst e112
  refine v_ws (ws' := ([(a0, .inr (0, [.ref b0, .ref hq, .ref tx])), (pq, .inr (3, [.ref io, .int pp, .ref tk0, .ref a0])), (tx, .inr (9, [.ref av, .int 0, .int ml, .int cnt])), (av, .inl (D.1 102, nb, .inl byt))])) [0, 1, 2, 3] (by decide) rfl ?_
  refine v_icmp_ge 17 34 X dX5_here_14 rfl (by decide) (fun h14 => ?_) (fun h14 => ?_)
  · replace hF := ifp h14 hF
    refine v_iconst (v := 0) 35 X dX5_here_34 rfl ki_0 ?_
    obtain rfl := Option.some.inj hF
    refine v_ws (ws' := ([(a0, .inr (0, [.ref b0, .ref hq, .ref tx])), (tx, .inr (9, [.ref av, .int 0, .int ml, .int cnt])), (av, .inl (D.1 102, nb, .inl byt)), (pq, .inr (3, [.ref io, .int pp, .ref tk0, .ref a0]))])) [0, 2, 3, 1] (by decide) rfl ?_
    exact v_zret X hr rfl ⟨rfl, rfl⟩ (Nat.le_of_ble_eq_true rfl) (Nat.le_of_ble_eq_true rfl) dX5_here_35
  · replace hF := ifn h14 hF
    refine v_aload_n 18 X 0 dX5_here_17 rfl rfl rfl ?_
    refine v_get 21 X in_X5 1 3 rfl rfl (by decide) q649 rfl rfl dX5_here_18 rfl ?_
    refine v_getN 24 X hAm in_X0 0 2 rfl rfl (by decide) q247 rfl rfl dX5_here_21 rfl ?_
    refine v_aload_n 25 X 0 dX5_here_24 rfl rfl rfl ?_
    refine v_get 28 X in_X5 1 1 rfl rfl (by decide) q647 rfl rfl dX5_here_25 rfl ?_
    obtain ⟨z28, hz28, hF⟩ := ob hF
    refine vc_Vi (wr := ([(a0, .inr (0, [.ref b0, .ref hq, .ref tx])), (pq, .inr (3, [.ref io, .int pp, .ref tk0, .ref a0]))])) 31 0 0 X 1 [.int pp] [2, 3] [0, 1] ([(tx, .inr (9, [.ref av, .int 0, .int ml, .int cnt])), (av, .inl (D.1 102, nb, .inl byt))]) rfl rfl (by decide) (by decide) (by decide) (w_J4_charAt pp _ hz28) q672 q673 q674 q92 q675 hdJ4_charAt 2 rfl rfl (pass_amb hAm) ⟨Nat.le_of_ble_eq_true rfl, Nat.le_of_ble_eq_true rfl⟩ ⟨(Nat.le_of_ble_eq_true rfl), (Nat.le_of_ble_eq_true rfl)⟩ rfl rfl (Nat.le_of_ble_eq_true rfl) dX5_here_28 rfl rfl rfl (fun r28 u28 e28 => ?_)
    obtain ⟨e281, rfl⟩ := e28
    have e282 := e281.symm
    subst e282
    refine v_ws (ws' := ([(a0, .inr (0, [.ref b0, .ref hq, .ref tx])), (pq, .inr (3, [.ref io, .int pp, .ref tk0, .ref a0])), (tx, .inr (9, [.ref av, .int 0, .int ml, .int cnt])), (av, .inl (D.1 102, nb, .inl byt))])) [0, 1, 2, 3] (by decide) rfl ?_
    refine v_goto 35 X dX5_here_31 (by decide) ?_
    obtain ⟨z35, hz35, hF⟩ := ob hF
    refine v_topi (cck_s hz35).1 ?_
    obtain rfl := Option.some.inj hF
    refine v_ws (ws' := ([(a0, .inr (0, [.ref b0, .ref hq, .ref tx])), (tx, .inr (9, [.ref av, .int 0, .int ml, .int cnt])), (av, .inl (D.1 102, nb, .inl byt)), (pq, .inr (3, [.ref io, .int pp, .ref tk0, .ref a0]))])) [0, 2, 3, 1] (by decide) rfl ?_
    exact v_zret X hr (cck_s hz35).2.1 ⟨rfl, rfl⟩ (Nat.le_of_ble_eq_true rfl) (Nat.le_of_ble_eq_true rfl) dX5_here_35
theorem w_X5_advance_0 (X : CX p s m args meth c D A cX5_advance 3 "DyeLattice$Parser") (hAm : AMB D A s) {cb sb : Nat} (hcb : cb ≤ rmX5_advance.cells) (hsb : sb ≤ rmX5_advance.slots) : ∀ (fu : Nat) (x : Int32) (o : (Int32)), loopN (fun x => P_advance_0 nb byt cnt x) fu x = some o → (V p l e rmX5_advance s m args below meth c D A 3 Q ([(a0, .inr (0, [.ref b0, .ref hq, .ref tx])), (tx, .inr (9, [.ref av, .int 0, .int ml, .int cnt])), (av, .inl (D.1 102, nb, .inl byt)), (pq, .inr (3, [.ref io, .int o, .ref tk0, .ref a0]))]) cb sb 22 [(0, .ref pq)] []) → V p l e rmX5_advance s m args below meth c D A 3 Q ([(a0, .inr (0, [.ref b0, .ref hq, .ref tx])), (tx, .inr (9, [.ref av, .int 0, .int ml, .int cnt])), (av, .inl (D.1 102, nb, .inl byt)), (pq, .inr (3, [.ref io, .int x, .ref tk0, .ref a0]))]) cb sb 0 [(0, .ref pq)] [] := by
  refine v_loop (fun (x : Int32) => V p l e rmX5_advance s m args below meth c D A 3 Q ([(a0, .inr (0, [.ref b0, .ref hq, .ref tx])), (tx, .inr (9, [.ref av, .int 0, .int ml, .int cnt])), (av, .inl (D.1 102, nb, .inl byt)), (pq, .inr (3, [.ref io, .int x, .ref tk0, .ref a0]))]) cb sb 0 [(0, .ref pq)] []) (fun (o : (Int32)) => V p l e rmX5_advance s m args below meth c D A 3 Q ([(a0, .inr (0, [.ref b0, .ref hq, .ref tx])), (tx, .inr (9, [.ref av, .int 0, .int ml, .int cnt])), (av, .inl (D.1 102, nb, .inl byt)), (pq, .inr (3, [.ref io, .int o, .ref tk0, .ref a0]))]) cb sb 22 [(0, .ref pq)] []) ?_
  rintro pp r hF hI hO
  replace hF : P_advance_0 nb byt cnt pp = some r := hF
  show V p l e rmX5_advance s m args below meth c D A 3 Q ([(a0, .inr (0, [.ref b0, .ref hq, .ref tx])), (tx, .inr (9, [.ref av, .int 0, .int ml, .int cnt])), (av, .inl (D.1 102, nb, .inl byt)), (pq, .inr (3, [.ref io, .int pp, .ref tk0, .ref a0]))]) cb sb 0 [(0, .ref pq)] []
  unfold P_advance_0 at hF
  refine v_aload_n 1 X 0 dX5_advance_0 rfl rfl rfl ?_
  obtain ⟨z1, hz1, hF⟩ := ob hF
  refine v_mVi 4 X 0 [] (w_X5_here _ hz1) q667 q669 qs6 q103 q670 hdX5_here 3 rfl rfl (pass_amb hAm) ⟨rfl, rfl⟩ ⟨Nat.le_of_ble_eq_true rfl, Nat.le_of_ble_eq_true rfl⟩ ⟨(by exact hcb), (by exact hsb)⟩ rfl rfl (Nat.le_of_ble_eq_true rfl) dX5_advance_1 rfl ?_
  refine v_bipush (v := 32) 6 X dX5_advance_4 rfl kb_32 ?_
  refine v_icmp_ne 9 22 X dX5_advance_6 rfl (by decide) (fun h6 => ?_) (fun h6 => ?_)
  · replace hF := ifn h6 hF
    obtain rfl := Option.some.inj hF
    exact v_lv [0] rfl ((hO _ rfl))
  · replace hF := ifp h6 hF
    refine v_aload_n 10 X 0 dX5_advance_9 rfl rfl rfl ?_
    refine v_dup 11 X dX5_advance_10 rfl rfl ?_
    refine v_get 14 X in_X5 3 1 rfl rfl (by decide) q647 rfl rfl dX5_advance_11 rfl ?_
    refine v_iconst (v := 1) 15 X dX5_advance_14 rfl ki_1 ?_
    refine v_iadd 16 X dX5_advance_15 rfl ?_
    refine v_put 19 ([(a0, .inr (0, [.ref b0, .ref hq, .ref tx])), (tx, .inr (9, [.ref av, .int 0, .int ml, .int cnt])), (av, .inl (D.1 102, nb, .inl byt)), (pq, .inr (3, [.ref io, .int (pp + 1), .ref tk0, .ref a0]))]) X in_X5 tyX5_ok nmX5 3 1 rfl rfl (by decide) q647 rfl rfl rfl rfl rfl (Nat.le_of_ble_eq_true rfl) dX5_advance_16 rfl rfl ?_
    refine v_goto 0 X dX5_advance_19 (by decide) ?_
    obtain rfl := Option.some.inj hF
    exact v_lv [0] rfl (hI _ rfl)
theorem w_X5_advance_41 (X : CX p s m args meth c D A cX5_advance 3 "DyeLattice$Parser") (hAm : AMB D A s) {cb sb : Nat} (hcb : cb ≤ rmX5_advance.cells) (hsb : sb ≤ rmX5_advance.slots) (v1 : Int32) : ∀ (fu : Nat) (x : Int32) (o : (Int32)), loopN (fun x => P_advance_41 nb byt cnt x) fu x = some o → (V p l e rmX5_advance s m args below meth c D A 3 Q ([(a0, .inr (0, [.ref b0, .ref hq, .ref tx])), (tx, .inr (9, [.ref av, .int 0, .int ml, .int cnt])), (av, .inl (D.1 102, nb, .inl byt)), (pq, .inr (3, [.ref io, .int o, .ref tk0, .ref a0]))]) cb sb 68 [(0, .ref pq), (1, .int v1)] []) → V p l e rmX5_advance s m args below meth c D A 3 Q ([(a0, .inr (0, [.ref b0, .ref hq, .ref tx])), (tx, .inr (9, [.ref av, .int 0, .int ml, .int cnt])), (av, .inl (D.1 102, nb, .inl byt)), (pq, .inr (3, [.ref io, .int x, .ref tk0, .ref a0]))]) cb sb 41 [(0, .ref pq), (1, .int v1)] [] := by
  refine v_loop (fun (x : Int32) => V p l e rmX5_advance s m args below meth c D A 3 Q ([(a0, .inr (0, [.ref b0, .ref hq, .ref tx])), (tx, .inr (9, [.ref av, .int 0, .int ml, .int cnt])), (av, .inl (D.1 102, nb, .inl byt)), (pq, .inr (3, [.ref io, .int x, .ref tk0, .ref a0]))]) cb sb 41 [(0, .ref pq), (1, .int v1)] []) (fun (o : (Int32)) => V p l e rmX5_advance s m args below meth c D A 3 Q ([(a0, .inr (0, [.ref b0, .ref hq, .ref tx])), (tx, .inr (9, [.ref av, .int 0, .int ml, .int cnt])), (av, .inl (D.1 102, nb, .inl byt)), (pq, .inr (3, [.ref io, .int o, .ref tk0, .ref a0]))]) cb sb 68 [(0, .ref pq), (1, .int v1)] []) ?_
  rintro pp r hF hI hO
  replace hF : P_advance_41 nb byt cnt pp = some r := hF
  show V p l e rmX5_advance s m args below meth c D A 3 Q ([(a0, .inr (0, [.ref b0, .ref hq, .ref tx])), (tx, .inr (9, [.ref av, .int 0, .int ml, .int cnt])), (av, .inl (D.1 102, nb, .inl byt)), (pq, .inr (3, [.ref io, .int pp, .ref tk0, .ref a0]))]) cb sb 41 [(0, .ref pq), (1, .int v1)] []
  unfold P_advance_41 at hF
  refine v_aload_n 42 X 0 dX5_advance_41 rfl rfl rfl ?_
  obtain ⟨z42, hz42, hF⟩ := ob hF
  refine v_mVi 45 X 0 [] (w_X5_here _ hz42) q667 q669 qs6 q103 q670 hdX5_here 3 rfl rfl (pass_amb hAm) ⟨rfl, rfl⟩ ⟨Nat.le_of_ble_eq_true rfl, Nat.le_of_ble_eq_true rfl⟩ ⟨(by exact hcb), (by exact hsb)⟩ rfl rfl (Nat.le_of_ble_eq_true rfl) dX5_advance_42 rfl ?_
  refine v_bipush (v := 97) 47 X dX5_advance_45 rfl kb_97 ?_
  refine v_bipush (v := 122) 49 X dX5_advance_47 rfl kb_122 ?_
  obtain ⟨z49, hz49, hF⟩ := ob hF
  refine v_nSi 52 X hAm 3 [.int z42, .int 97, .int 122] (w_X0_isBetween ([(a0, .inr (0, [.ref b0, .ref hq, .ref tx])), (tx, .inr (9, [.ref av, .int 0, .int ml, .int cnt])), (av, .inl (D.1 102, nb, .inl byt)), (pq, .inr (3, [.ref io, .int pp, .ref tk0, .ref a0]))]) z42 97 122 _ hz49) q684 q261 q84 q262 hdX0_isBetween pass_no ⟨rfl, rfl⟩ ⟨Nat.le_of_ble_eq_true rfl, Nat.le_of_ble_eq_true rfl⟩ ⟨(by exact hcb), (by exact hsb)⟩ rfl rfl (Nat.le_of_ble_eq_true rfl) dX5_advance_49 rfl ?_
  refine v_if_eq 55 68 X dX5_advance_52 rfl (by decide) (fun h52 => ?_) (fun h52 => ?_)
  · replace hF := ifp h52 hF
    obtain rfl := Option.some.inj hF
    exact v_lv [0, 1] rfl ((hO _ rfl))
  · replace hF := ifn h52 hF
    refine v_aload_n 56 X 0 dX5_advance_55 rfl rfl rfl ?_
    refine v_dup 57 X dX5_advance_56 rfl rfl ?_
    refine v_get 60 X in_X5 3 1 rfl rfl (by decide) q647 rfl rfl dX5_advance_57 rfl ?_
    refine v_iconst (v := 1) 61 X dX5_advance_60 rfl ki_1 ?_
    refine v_iadd 62 X dX5_advance_61 rfl ?_
    refine v_put 65 ([(a0, .inr (0, [.ref b0, .ref hq, .ref tx])), (tx, .inr (9, [.ref av, .int 0, .int ml, .int cnt])), (av, .inl (D.1 102, nb, .inl byt)), (pq, .inr (3, [.ref io, .int (pp + 1), .ref tk0, .ref a0]))]) X in_X5 tyX5_ok nmX5 3 1 rfl rfl (by decide) q647 rfl rfl rfl rfl rfl (Nat.le_of_ble_eq_true rfl) dX5_advance_62 rfl rfl ?_
    refine v_goto 41 X dX5_advance_65 (by decide) ?_
    obtain rfl := Option.some.inj hF
    exact v_lv [0, 1] rfl (hI _ rfl)
theorem w_X5_advance_114 (X : CX p s m args meth c D A cX5_advance 3 "DyeLattice$Parser") (hAm : AMB D A s) {cb sb : Nat} (hcb : cb ≤ rmX5_advance.cells) (hsb : sb ≤ rmX5_advance.slots) (v1 : Int32) : ∀ (fu : Nat) (x : Int32 × Int32) (o : (Int32 × Int32)), loopN (fun x => P_advance_114 nb byt cnt x.1 x.2) fu x = some o → (V p l e rmX5_advance s m args below meth c D A 3 Q ([(a0, .inr (0, [.ref b0, .ref hq, .ref tx])), (tx, .inr (9, [.ref av, .int 0, .int ml, .int cnt])), (av, .inl (D.1 102, nb, .inl byt)), (pq, .inr (3, [.ref io, .int o.2, .ref tk0, .ref a0]))]) cb sb 160 [(0, .ref pq), (1, .int v1), (2, .int o.1)] []) → V p l e rmX5_advance s m args below meth c D A 3 Q ([(a0, .inr (0, [.ref b0, .ref hq, .ref tx])), (tx, .inr (9, [.ref av, .int 0, .int ml, .int cnt])), (av, .inl (D.1 102, nb, .inl byt)), (pq, .inr (3, [.ref io, .int x.2, .ref tk0, .ref a0]))]) cb sb 114 [(0, .ref pq), (1, .int v1), (2, .int x.1)] [] := by
  refine v_loop (fun (x : Int32 × Int32) => V p l e rmX5_advance s m args below meth c D A 3 Q ([(a0, .inr (0, [.ref b0, .ref hq, .ref tx])), (tx, .inr (9, [.ref av, .int 0, .int ml, .int cnt])), (av, .inl (D.1 102, nb, .inl byt)), (pq, .inr (3, [.ref io, .int x.2, .ref tk0, .ref a0]))]) cb sb 114 [(0, .ref pq), (1, .int v1), (2, .int x.1)] []) (fun (o : (Int32 × Int32)) => V p l e rmX5_advance s m args below meth c D A 3 Q ([(a0, .inr (0, [.ref b0, .ref hq, .ref tx])), (tx, .inr (9, [.ref av, .int 0, .int ml, .int cnt])), (av, .inl (D.1 102, nb, .inl byt)), (pq, .inr (3, [.ref io, .int o.2, .ref tk0, .ref a0]))]) cb sb 160 [(0, .ref pq), (1, .int v1), (2, .int o.1)] []) ?_
  rintro ⟨v2, pp⟩ r hF hI hO
  replace hF : P_advance_114 nb byt cnt v2 pp = some r := hF
  show V p l e rmX5_advance s m args below meth c D A 3 Q ([(a0, .inr (0, [.ref b0, .ref hq, .ref tx])), (tx, .inr (9, [.ref av, .int 0, .int ml, .int cnt])), (av, .inl (D.1 102, nb, .inl byt)), (pq, .inr (3, [.ref io, .int pp, .ref tk0, .ref a0]))]) cb sb 114 [(0, .ref pq), (1, .int v1), (2, .int v2)] []
  unfold P_advance_114 at hF
  refine v_aload_n 115 X 0 dX5_advance_114 rfl rfl rfl ?_
  obtain ⟨z115, hz115, hF⟩ := ob hF
  refine v_mVi 118 X 0 [] (w_X5_here _ hz115) q667 q669 qs6 q103 q670 hdX5_here 3 rfl rfl (pass_amb hAm) ⟨rfl, rfl⟩ ⟨Nat.le_of_ble_eq_true rfl, Nat.le_of_ble_eq_true rfl⟩ ⟨(by exact hcb), (by exact hsb)⟩ rfl rfl (Nat.le_of_ble_eq_true rfl) dX5_advance_115 rfl ?_
  refine v_bipush (v := 48) 120 X dX5_advance_118 rfl kb_48 ?_
  refine v_bipush (v := 57) 122 X dX5_advance_120 rfl kb_57 ?_
  obtain ⟨z122, hz122, hF⟩ := ob hF
  refine v_nSi 125 X hAm 3 [.int z115, .int 48, .int 57] (w_X0_isBetween ([(a0, .inr (0, [.ref b0, .ref hq, .ref tx])), (tx, .inr (9, [.ref av, .int 0, .int ml, .int cnt])), (av, .inl (D.1 102, nb, .inl byt)), (pq, .inr (3, [.ref io, .int pp, .ref tk0, .ref a0]))]) z115 48 57 _ hz122) q684 q261 q84 q262 hdX0_isBetween pass_no ⟨rfl, rfl⟩ ⟨Nat.le_of_ble_eq_true rfl, Nat.le_of_ble_eq_true rfl⟩ ⟨(by exact hcb), (by exact hsb)⟩ rfl rfl (Nat.le_of_ble_eq_true rfl) dX5_advance_122 rfl ?_
  refine v_if_eq 128 160 X dX5_advance_125 rfl (by decide) (fun h125 => ?_) (fun h125 => ?_)
  · replace hF := ifp h125 hF
    obtain rfl := Option.some.inj hF
    exact v_lv [0, 1, 2] rfl ((hO _ rfl))
  · replace hF := ifn h125 hF
    refine v_bipush (v := 10) 130 X dX5_advance_128 rfl kb_10 ?_
    refine v_iload_n 131 X 2 dX5_advance_130 rfl rfl rfl ?_
    refine v_imul 132 X dX5_advance_131 rfl ?_
    refine v_aload_n 133 X 0 dX5_advance_132 rfl rfl rfl ?_
    obtain ⟨z133, hz133, hF⟩ := ob hF
    refine v_mVi 136 X 0 [] (w_X5_here _ hz133) q667 q669 qs6 q103 q670 hdX5_here 3 rfl rfl (pass_amb hAm) ⟨rfl, rfl⟩ ⟨Nat.le_of_ble_eq_true rfl, Nat.le_of_ble_eq_true rfl⟩ ⟨(by exact hcb), (by exact hsb)⟩ rfl rfl (Nat.le_of_ble_eq_true rfl) dX5_advance_133 rfl ?_
    refine v_iadd 137 X dX5_advance_136 rfl ?_
    refine v_bipush (v := 48) 139 X dX5_advance_137 rfl kb_48 ?_
    refine v_isub 140 X dX5_advance_139 rfl ?_
    refine v_sipush (v := 10000) 143 X dX5_advance_140 rfl ks_10000 ?_
    refine v_mmin 146 X q755 (Nat.le_of_ble_eq_true rfl) (Nat.le_of_ble_eq_true rfl) (by exact hcb) (by exact hsb) dX5_advance_143 rfl ?_
    obtain ⟨z146, hz146, hF⟩ := ob hF
    refine v_topi (Option.some.inj hz146) ?_
    refine v_istore_n 147 [(2, .int z146), (0, .ref pq), (1, .int v1)] X dX5_advance_146 rfl rfl (by decide) rfl ?_
    refine v_aload_n 148 X 1 dX5_advance_147 rfl rfl rfl ?_
    refine v_dup 149 X dX5_advance_148 rfl rfl ?_
    refine v_get 152 X in_X5 3 1 rfl rfl (by decide) q647 rfl rfl dX5_advance_149 rfl ?_
    refine v_iconst (v := 1) 153 X dX5_advance_152 rfl ki_1 ?_
    refine v_iadd 154 X dX5_advance_153 rfl ?_
    refine v_put 157 ([(a0, .inr (0, [.ref b0, .ref hq, .ref tx])), (tx, .inr (9, [.ref av, .int 0, .int ml, .int cnt])), (av, .inl (D.1 102, nb, .inl byt)), (pq, .inr (3, [.ref io, .int (pp + 1), .ref tk0, .ref a0]))]) X in_X5 tyX5_ok nmX5 3 1 rfl rfl (by decide) q647 rfl rfl rfl rfl rfl (Nat.le_of_ble_eq_true rfl) dX5_advance_154 rfl rfl ?_
    refine v_goto 114 X dX5_advance_157 (by decide) ?_
    obtain rfl := Option.some.inj hF
    exact v_lv [1, 2, 0] rfl (hI _ rfl)
theorem w_X5_advance (r : ((Int32 × Int32 × Nat × (Nat → Int32)) ⊕ ((Int32 × Int32 × Int32) ⊕ (Int32 × Int32 × Int32)))) (hF : P_advance nb byt cnt pp = some r) : CTv l yX5_advance cX5_advance 3 (Option.none : Option Jvm.ClassFile.FieldType) rmX5_advance D ([(a0, .inr (0, [.ref b0, .ref hq, .ref tx])), (tx, .inr (9, [.ref av, .int 0, .int ml, .int cnt])), (av, .inl (D.1 102, nb, .inl byt)), (pq, .inr (3, [.ref io, .int pp, .ref tk0, .ref a0]))]) [.ref pq] (AMB D) (fun u => match r with | (.inl x) => ∃ qa4 qa5 qa6 : Nat, u = ([(a0, .inr (0, [.ref b0, .ref hq, .ref tx])), (tx, .inr (9, [.ref av, .int 0, .int ml, .int cnt])), (av, .inl (D.1 102, nb, .inl byt)), (pq, .inr (3, [.ref io, .int x.1, .ref qa4, .ref a0])), (qa4, .inr (5, [.int x.2.1, .ref qa5])), (qa5, .inr (10, [.ref qa6, .int 0, .int 0, .int 0])), (qa6, .inl (D.1 102, x.2.2.1, .inl x.2.2.2))]) | (.inr (.inl x)) => ∃ qa4 : Nat, u = ([(a0, .inr (0, [.ref b0, .ref hq, .ref tx])), (tx, .inr (9, [.ref av, .int 0, .int ml, .int cnt])), (av, .inl (D.1 102, nb, .inl byt)), (pq, .inr (3, [.ref io, .int x.1, .ref qa4, .ref a0])), (qa4, .inr (4, [.int x.2.1, .int x.2.2]))]) | (.inr (.inr x)) => ∃ qa4 : Nat, u = ([(a0, .inr (0, [.ref b0, .ref hq, .ref tx])), (tx, .inr (9, [.ref av, .int 0, .int ml, .int cnt])), (av, .inl (D.1 102, nb, .inl byt)), (pq, .inr (3, [.ref io, .int x.1, .ref qa4, .ref a0])), (qa4, .inr (6, [.int x.2.1, .int x.2.2]))])) := by
  refine m_v (by decide) (Nat.le_of_ble_eq_true rfl) ?_
  intro p e s m args below meth c A B
  obtain ⟨X, hr, hAm, -, hnm, hnmd⟩ := B
  replace X : CX p s m args meth c D A cX5_advance 3 "DyeLattice$Parser" := X
  refine v_lv (lv' := [(0, .ref pq)]) [0] rfl ?_
  unfold P_advance at hF
  obtain ⟨z0, hz0, hF⟩ := ob hF
  refine v_lv [0] rfl (w_X5_advance_0 X hAm (Nat.le_of_ble_eq_true rfl) (Nat.le_of_ble_eq_true rfl) _ pp _ hz0 ?_)
  refine v_aload_n 23 X 0 dX5_advance_22 rfl rfl rfl ?_
  refine v_get 26 X in_X5 3 1 rfl rfl (by decide) q647 rfl rfl dX5_advance_23 rfl ?_
  refine v_istore_n 27 [(1, .int z0), (0, .ref pq)] X dX5_advance_26 rfl rfl (by decide) rfl ?_
  refine v_aload_n 28 X 1 dX5_advance_27 rfl rfl rfl ?_
  obtain ⟨z28, hz28, hF⟩ := ob hF
  refine v_mVi 31 X 0 [] (w_X5_here _ hz28) q667 q669 qs6 q103 q670 hdX5_here 3 rfl rfl (pass_amb hAm) ⟨rfl, rfl⟩ ⟨Nat.le_of_ble_eq_true rfl, Nat.le_of_ble_eq_true rfl⟩ ⟨(Nat.le_of_ble_eq_true rfl), (Nat.le_of_ble_eq_true rfl)⟩ rfl rfl (Nat.le_of_ble_eq_true rfl) dX5_advance_28 rfl ?_
  refine v_bipush (v := 97) 33 X dX5_advance_31 rfl kb_97 ?_
  refine v_bipush (v := 122) 35 X dX5_advance_33 rfl kb_122 ?_
  obtain ⟨z35, hz35, hF⟩ := ob hF
  refine v_nSi 38 X hAm 3 [.int z28, .int 97, .int 122] (w_X0_isBetween ([(a0, .inr (0, [.ref b0, .ref hq, .ref tx])), (tx, .inr (9, [.ref av, .int 0, .int ml, .int cnt])), (av, .inl (D.1 102, nb, .inl byt)), (pq, .inr (3, [.ref io, .int z0, .ref tk0, .ref a0]))]) z28 97 122 _ hz35) q684 q261 q84 q262 hdX0_isBetween pass_no ⟨rfl, rfl⟩ ⟨Nat.le_of_ble_eq_true rfl, Nat.le_of_ble_eq_true rfl⟩ ⟨(Nat.le_of_ble_eq_true rfl), (Nat.le_of_ble_eq_true rfl)⟩ rfl rfl (Nat.le_of_ble_eq_true rfl) dX5_advance_35 rfl ?_
  refine v_if_eq 41 98 X dX5_advance_38 rfl (by decide) (fun h38 => ?_) (fun h38 => ?_)
  · replace hF := ifp h38 hF
    refine v_aload_n 99 X 1 dX5_advance_98 rfl rfl rfl ?_
    obtain ⟨z99, hz99, hF⟩ := ob hF
    refine v_mVi 102 X 0 [] (w_X5_here _ hz99) q667 q669 qs6 q103 q670 hdX5_here 3 rfl rfl (pass_amb hAm) ⟨rfl, rfl⟩ ⟨Nat.le_of_ble_eq_true rfl, Nat.le_of_ble_eq_true rfl⟩ ⟨(Nat.le_of_ble_eq_true rfl), (Nat.le_of_ble_eq_true rfl)⟩ rfl rfl (Nat.le_of_ble_eq_true rfl) dX5_advance_99 rfl ?_
    refine v_bipush (v := 48) 104 X dX5_advance_102 rfl kb_48 ?_
    refine v_bipush (v := 57) 106 X dX5_advance_104 rfl kb_57 ?_
    obtain ⟨z106, hz106, hF⟩ := ob hF
    refine v_nSi 109 X hAm 3 [.int z99, .int 48, .int 57] (w_X0_isBetween ([(a0, .inr (0, [.ref b0, .ref hq, .ref tx])), (tx, .inr (9, [.ref av, .int 0, .int ml, .int cnt])), (av, .inl (D.1 102, nb, .inl byt)), (pq, .inr (3, [.ref io, .int z0, .ref tk0, .ref a0]))]) z99 48 57 _ hz106) q684 q261 q84 q262 hdX0_isBetween pass_no ⟨rfl, rfl⟩ ⟨Nat.le_of_ble_eq_true rfl, Nat.le_of_ble_eq_true rfl⟩ ⟨(Nat.le_of_ble_eq_true rfl), (Nat.le_of_ble_eq_true rfl)⟩ rfl rfl (Nat.le_of_ble_eq_true rfl) dX5_advance_106 rfl ?_
    refine v_if_eq 112 207 X dX5_advance_109 rfl (by decide) (fun h109 => ?_) (fun h109 => ?_)
    · replace hF := ifp h109 hF
      refine v_aload_n 208 X 1 dX5_advance_207 rfl rfl rfl ?_
      refine v_new (fs := [.int 0, .int 0]) 211 1 2 X in_X7 tyX7_ok q628 q629 q105 (ci := 4) rfl (by decide) (Nat.le_of_ble_eq_true rfl) (Nat.le_of_ble_eq_true rfl) dX5_advance_208 rfl rfl rfl (fun q208 => ?_)
      refine v_ws (ws' := ([(a0, .inr (0, [.ref b0, .ref hq, .ref tx])), (tx, .inr (9, [.ref av, .int 0, .int ml, .int cnt])), (av, .inl (D.1 102, nb, .inl byt)), (pq, .inr (3, [.ref io, .int z0, .ref tk0, .ref a0])), (q208, .inr (4, [.int 0, .int 0]))])) [0, 1, 2, 3, 4] (by decide) rfl ?_
      refine v_dup 212 X dX5_advance_211 rfl rfl ?_
      refine v_iload_n 213 X 0 dX5_advance_212 rfl rfl rfl ?_
      refine v_aload_n 214 X 1 dX5_advance_213 rfl rfl rfl ?_
      obtain ⟨z214, hz214, hF⟩ := ob hF
      refine vc_Vi (wr := ([(q208, .inr (4, [.int 0, .int 0]))])) 217 1 2 X 0 [] [0, 1, 2, 3] [4] ([(a0, .inr (0, [.ref b0, .ref hq, .ref tx])), (tx, .inr (9, [.ref av, .int 0, .int ml, .int cnt])), (av, .inl (D.1 102, nb, .inl byt)), (pq, .inr (3, [.ref io, .int z0, .ref tk0, .ref a0]))]) rfl rfl (by decide) (by decide) (by decide) (w_X5_here _ hz214) q667 q669 qs6 q103 q670 hdX5_here 3 rfl rfl (pass_amb hAm) ⟨Nat.le_of_ble_eq_true rfl, Nat.le_of_ble_eq_true rfl⟩ ⟨(Nat.le_of_ble_eq_true rfl), (Nat.le_of_ble_eq_true rfl)⟩ rfl rfl (Nat.le_of_ble_eq_true rfl) dX5_advance_214 rfl rfl rfl (fun r214 u214 e214 => ?_)
      obtain ⟨e2141, rfl⟩ := e214
      have e2142 := e2141.symm
      subst e2142
      refine v_ws (ws' := ([(q208, .inr (4, [.int 0, .int 0])), (a0, .inr (0, [.ref b0, .ref hq, .ref tx])), (tx, .inr (9, [.ref av, .int 0, .int ml, .int cnt])), (av, .inl (D.1 102, nb, .inl byt)), (pq, .inr (3, [.ref io, .int z0, .ref tk0, .ref a0]))])) [0, 1, 2, 3, 4] (by decide) rfl ?_
      obtain ⟨z217, hz217, hF⟩ := ob hF
      refine vc_Iv (wr := ([(a0, .inr (0, [.ref b0, .ref hq, .ref tx])), (tx, .inr (9, [.ref av, .int 0, .int ml, .int cnt])), (av, .inl (D.1 102, nb, .inl byt)), (pq, .inr (3, [.ref io, .int z0, .ref tk0, .ref a0]))])) 220 1 2 X 2 [.int z0, .int z214] [0] [1, 2, 3, 4] ([(q208, .inr (4, [.int 0, .int 0]))]) rfl rfl (by decide) (by decide) (by decide) (w_X7_init z0 z214 _ hz217) q630 q631 rfl q105 q632 hdX7_init.2 (pass_amb hAm) ⟨Nat.le_of_ble_eq_true rfl, Nat.le_of_ble_eq_true rfl⟩ ⟨(Nat.le_of_ble_eq_true rfl), (Nat.le_of_ble_eq_true rfl)⟩ rfl rfl (Nat.le_of_ble_eq_true rfl) dX5_advance_217 rfl rfl rfl (fun u217 e217 => ?_)
      subst e217
      refine v_ws (ws' := ([(a0, .inr (0, [.ref b0, .ref hq, .ref tx])), (tx, .inr (9, [.ref av, .int 0, .int ml, .int cnt])), (av, .inl (D.1 102, nb, .inl byt)), (pq, .inr (3, [.ref io, .int z0, .ref tk0, .ref a0])), (q208, .inr (4, [.int z217.1, .int z217.2]))])) [0, 1, 2, 3, 4] (by decide) rfl ?_
      refine v_put 223 ([(a0, .inr (0, [.ref b0, .ref hq, .ref tx])), (tx, .inr (9, [.ref av, .int 0, .int ml, .int cnt])), (av, .inl (D.1 102, nb, .inl byt)), (pq, .inr (3, [.ref io, .int z0, .ref q208, .ref a0])), (q208, .inr (4, [.int z217.1, .int z217.2]))]) X in_X5 tyX5_ok nmX5 3 2 rfl rfl (by decide) q648 rfl rfl rfl rfl rfl (Nat.le_of_ble_eq_true rfl) dX5_advance_220 rfl rfl ?_
      refine v_aload_n 224 X 1 dX5_advance_223 rfl rfl rfl ?_
      refine v_dup 225 X dX5_advance_224 rfl rfl ?_
      refine v_get 228 X in_X5 3 1 rfl rfl (by decide) q647 rfl rfl dX5_advance_225 rfl ?_
      refine v_aload_n 229 X 1 dX5_advance_228 rfl rfl rfl ?_
      obtain ⟨z229, hz229, hF⟩ := ob hF
      refine vc_Vi (wr := ([(q208, .inr (4, [.int z217.1, .int z217.2]))])) 232 1 2 X 0 [] [0, 1, 2, 3] [4] ([(a0, .inr (0, [.ref b0, .ref hq, .ref tx])), (tx, .inr (9, [.ref av, .int 0, .int ml, .int cnt])), (av, .inl (D.1 102, nb, .inl byt)), (pq, .inr (3, [.ref io, .int z0, .ref q208, .ref a0]))]) rfl rfl (by decide) (by decide) (by decide) (w_X5_here _ hz229) q667 q669 qs6 q103 q670 hdX5_here 3 rfl rfl (pass_amb hAm) ⟨Nat.le_of_ble_eq_true rfl, Nat.le_of_ble_eq_true rfl⟩ ⟨(Nat.le_of_ble_eq_true rfl), (Nat.le_of_ble_eq_true rfl)⟩ rfl rfl (Nat.le_of_ble_eq_true rfl) dX5_advance_229 rfl rfl rfl (fun r229 u229 e229 => ?_)
      obtain ⟨e2291, rfl⟩ := e229
      have e2292 := e2291.symm
      subst e2292
      refine v_ws (ws' := ([(q208, .inr (4, [.int z217.1, .int z217.2])), (a0, .inr (0, [.ref b0, .ref hq, .ref tx])), (tx, .inr (9, [.ref av, .int 0, .int ml, .int cnt])), (av, .inl (D.1 102, nb, .inl byt)), (pq, .inr (3, [.ref io, .int z0, .ref q208, .ref a0]))])) [0, 1, 2, 3, 4] (by decide) rfl ?_
      refine v_if_ne 235 239 X dX5_advance_232 rfl (by decide) (fun h232 => ?_) (fun h232 => ?_)
      · replace hF := ifn h232 hF
        refine v_iconst (v := 1) 240 X dX5_advance_239 rfl ki_1 ?_
        refine v_iadd 241 X dX5_advance_240 rfl ?_
        refine v_put 244 ([(q208, .inr (4, [.int z217.1, .int z217.2])), (a0, .inr (0, [.ref b0, .ref hq, .ref tx])), (tx, .inr (9, [.ref av, .int 0, .int ml, .int cnt])), (av, .inl (D.1 102, nb, .inl byt)), (pq, .inr (3, [.ref io, .int (z0 + 1), .ref q208, .ref a0]))]) X in_X5 tyX5_ok nmX5 4 1 rfl rfl (by decide) q647 rfl rfl rfl rfl rfl (Nat.le_of_ble_eq_true rfl) dX5_advance_241 rfl rfl ?_
        obtain rfl := Option.some.inj hF
        refine v_ws (ws' := ([(a0, .inr (0, [.ref b0, .ref hq, .ref tx])), (tx, .inr (9, [.ref av, .int 0, .int ml, .int cnt])), (av, .inl (D.1 102, nb, .inl byt)), (pq, .inr (3, [.ref io, .int (z0 + 1), .ref q208, .ref a0])), (q208, .inr (4, [.int z217.1, .int z217.2]))])) [1, 2, 3, 4, 0] (by decide) rfl ?_
        exact v_vret X hr ⟨q208, rfl⟩ (Nat.le_of_ble_eq_true rfl) (Nat.le_of_ble_eq_true rfl) dX5_advance_244
      · replace hF := ifp h232 hF
        refine v_iconst (v := 0) 236 X dX5_advance_235 rfl ki_0 ?_
        refine v_goto 240 X dX5_advance_236 (by decide) ?_
        refine v_iadd 241 X dX5_advance_240 rfl ?_
        refine v_put 244 ([(q208, .inr (4, [.int z217.1, .int z217.2])), (a0, .inr (0, [.ref b0, .ref hq, .ref tx])), (tx, .inr (9, [.ref av, .int 0, .int ml, .int cnt])), (av, .inl (D.1 102, nb, .inl byt)), (pq, .inr (3, [.ref io, .int (z0 + 0), .ref q208, .ref a0]))]) X in_X5 tyX5_ok nmX5 4 1 rfl rfl (by decide) q647 rfl rfl rfl rfl rfl (Nat.le_of_ble_eq_true rfl) dX5_advance_241 rfl rfl ?_
        obtain rfl := Option.some.inj hF
        refine v_ws (ws' := ([(a0, .inr (0, [.ref b0, .ref hq, .ref tx])), (tx, .inr (9, [.ref av, .int 0, .int ml, .int cnt])), (av, .inl (D.1 102, nb, .inl byt)), (pq, .inr (3, [.ref io, .int (z0 + 0), .ref q208, .ref a0])), (q208, .inr (4, [.int z217.1, .int z217.2]))])) [1, 2, 3, 4, 0] (by decide) rfl ?_
        exact v_vret X hr ⟨q208, rfl⟩ (Nat.le_of_ble_eq_true rfl) (Nat.le_of_ble_eq_true rfl) dX5_advance_244
    · replace hF := ifn h109 hF
      refine v_iconst (v := 0) 113 X dX5_advance_112 rfl ki_0 ?_
      refine v_istore_n 114 [(2, .int 0), (1, .int z0), (0, .ref pq)] X dX5_advance_113 rfl rfl (by decide) rfl ?_
      obtain ⟨z114, hz114, hF⟩ := ob hF
      refine v_lv [2, 1, 0] rfl (w_X5_advance_114 X hAm (Nat.le_of_ble_eq_true rfl) (Nat.le_of_ble_eq_true rfl) z0 _ (0, z0) _ hz114 ?_)
      refine v_aload_n 161 X 0 dX5_advance_160 rfl rfl rfl ?_
      refine v_new (fs := [.int 0, .int 0]) 164 1 2 X in_X9 tyX9_ok q756 q757 q107 (ci := 6) rfl (by decide) (Nat.le_of_ble_eq_true rfl) (Nat.le_of_ble_eq_true rfl) dX5_advance_161 rfl rfl rfl (fun q161 => ?_)
      refine v_ws (ws' := ([(a0, .inr (0, [.ref b0, .ref hq, .ref tx])), (tx, .inr (9, [.ref av, .int 0, .int ml, .int cnt])), (av, .inl (D.1 102, nb, .inl byt)), (pq, .inr (3, [.ref io, .int z114.2, .ref tk0, .ref a0])), (q161, .inr (6, [.int 0, .int 0]))])) [0, 1, 2, 3, 4] (by decide) rfl ?_
      refine v_dup 165 X dX5_advance_164 rfl rfl ?_
      refine v_iload_n 166 X 1 dX5_advance_165 rfl rfl rfl ?_
      refine v_aload_n 167 X 0 dX5_advance_166 rfl rfl rfl ?_
      refine v_get 170 X in_X5 3 1 rfl rfl (by decide) q647 rfl rfl dX5_advance_167 rfl ?_
      refine v_iload_n 171 X 1 dX5_advance_170 rfl rfl rfl ?_
      refine v_iconst (v := 1) 172 X dX5_advance_171 rfl ki_1 ?_
      refine v_iadd 173 X dX5_advance_172 rfl ?_
      refine v_icmp_le 176 197 X dX5_advance_173 rfl (by decide) (fun h173 => ?_) (fun h173 => ?_)
      · replace hF := ifp h173 hF
        refine v_iload_n 198 X 2 dX5_advance_197 rfl rfl rfl ?_
        obtain ⟨z198, hz198, hF⟩ := ob hF
        refine vc_Iv (wr := ([(a0, .inr (0, [.ref b0, .ref hq, .ref tx])), (tx, .inr (9, [.ref av, .int 0, .int ml, .int cnt])), (av, .inl (D.1 102, nb, .inl byt)), (pq, .inr (3, [.ref io, .int z114.2, .ref tk0, .ref a0]))])) 201 1 2 X 2 [.int z0, .int z114.1] [4] [0, 1, 2, 3] ([(q161, .inr (6, [.int 0, .int 0]))]) rfl rfl (by decide) (by decide) (by decide) (w_X9_init z0 z114.1 _ hz198) q758 q759 rfl q107 q760 hdX9_init.2 (pass_amb hAm) ⟨Nat.le_of_ble_eq_true rfl, Nat.le_of_ble_eq_true rfl⟩ ⟨(Nat.le_of_ble_eq_true rfl), (Nat.le_of_ble_eq_true rfl)⟩ rfl rfl (Nat.le_of_ble_eq_true rfl) dX5_advance_198 rfl rfl rfl (fun u198 e198 => ?_)
        subst e198
        refine v_ws (ws' := ([(a0, .inr (0, [.ref b0, .ref hq, .ref tx])), (tx, .inr (9, [.ref av, .int 0, .int ml, .int cnt])), (av, .inl (D.1 102, nb, .inl byt)), (pq, .inr (3, [.ref io, .int z114.2, .ref tk0, .ref a0])), (q161, .inr (6, [.int z198.1, .int z198.2]))])) [0, 1, 2, 3, 4] (by decide) rfl ?_
        refine v_put 204 ([(a0, .inr (0, [.ref b0, .ref hq, .ref tx])), (tx, .inr (9, [.ref av, .int 0, .int ml, .int cnt])), (av, .inl (D.1 102, nb, .inl byt)), (pq, .inr (3, [.ref io, .int z114.2, .ref q161, .ref a0])), (q161, .inr (6, [.int z198.1, .int z198.2]))]) X in_X5 tyX5_ok nmX5 3 2 rfl rfl (by decide) q648 rfl rfl rfl rfl rfl (Nat.le_of_ble_eq_true rfl) dX5_advance_201 rfl rfl ?_
        refine v_goto 244 X dX5_advance_204 (by decide) ?_
        obtain rfl := Option.some.inj hF
        exact v_vret X hr ⟨q161, rfl⟩ (Nat.le_of_ble_eq_true rfl) (Nat.le_of_ble_eq_true rfl) dX5_advance_244
      · replace hF := ifn h173 hF
        refine v_aload_n 177 X 0 dX5_advance_176 rfl rfl rfl ?_
        refine v_get 180 X in_X5 3 3 rfl rfl (by decide) q649 rfl rfl dX5_advance_177 rfl ?_
        refine v_getN 183 X hAm in_X0 0 2 rfl rfl (by decide) q247 rfl rfl dX5_advance_180 rfl ?_
        refine v_iload_n 184 X 1 dX5_advance_183 rfl rfl rfl ?_
        obtain ⟨z184, hz184, hF⟩ := ob hF
        refine vc_Vi (wr := ([(a0, .inr (0, [.ref b0, .ref hq, .ref tx])), (pq, .inr (3, [.ref io, .int z114.2, .ref tk0, .ref a0])), (q161, .inr (6, [.int 0, .int 0]))])) 187 1 2 X 1 [.int z0] [1, 2] [0, 3, 4] ([(tx, .inr (9, [.ref av, .int 0, .int ml, .int cnt])), (av, .inl (D.1 102, nb, .inl byt))]) rfl rfl (by decide) (by decide) (by decide) (w_J4_charAt z0 _ hz184) q672 q673 q674 q92 q675 hdJ4_charAt 1 rfl rfl (pass_amb hAm) ⟨Nat.le_of_ble_eq_true rfl, Nat.le_of_ble_eq_true rfl⟩ ⟨(Nat.le_of_ble_eq_true rfl), (Nat.le_of_ble_eq_true rfl)⟩ rfl rfl (Nat.le_of_ble_eq_true rfl) dX5_advance_184 rfl rfl rfl (fun r184 u184 e184 => ?_)
        obtain ⟨e1841, rfl⟩ := e184
        have e1842 := e1841.symm
        subst e1842
        refine v_ws (ws' := ([(a0, .inr (0, [.ref b0, .ref hq, .ref tx])), (pq, .inr (3, [.ref io, .int z114.2, .ref tk0, .ref a0])), (q161, .inr (6, [.int 0, .int 0])), (tx, .inr (9, [.ref av, .int 0, .int ml, .int cnt])), (av, .inl (D.1 102, nb, .inl byt))])) [0, 1, 2, 3, 4] (by decide) rfl ?_
        refine v_bipush (v := 48) 189 X dX5_advance_187 rfl kb_48 ?_
        refine v_icmp_ne 192 197 X dX5_advance_189 rfl (by decide) (fun h189 => ?_) (fun h189 => ?_)
        · replace hF := ifn h189 hF
          refine v_iload_n 198 X 2 dX5_advance_197 rfl rfl rfl ?_
          obtain ⟨z198, hz198, hF⟩ := ob hF
          refine vc_Iv (wr := ([(a0, .inr (0, [.ref b0, .ref hq, .ref tx])), (pq, .inr (3, [.ref io, .int z114.2, .ref tk0, .ref a0])), (tx, .inr (9, [.ref av, .int 0, .int ml, .int cnt])), (av, .inl (D.1 102, nb, .inl byt))])) 201 1 2 X 2 [.int z0, .int z114.1] [2] [0, 1, 3, 4] ([(q161, .inr (6, [.int 0, .int 0]))]) rfl rfl (by decide) (by decide) (by decide) (w_X9_init z0 z114.1 _ hz198) q758 q759 rfl q107 q760 hdX9_init.2 (pass_amb hAm) ⟨Nat.le_of_ble_eq_true rfl, Nat.le_of_ble_eq_true rfl⟩ ⟨(Nat.le_of_ble_eq_true rfl), (Nat.le_of_ble_eq_true rfl)⟩ rfl rfl (Nat.le_of_ble_eq_true rfl) dX5_advance_198 rfl rfl rfl (fun u198 e198 => ?_)
          subst e198
          refine v_ws (ws' := ([(a0, .inr (0, [.ref b0, .ref hq, .ref tx])), (pq, .inr (3, [.ref io, .int z114.2, .ref tk0, .ref a0])), (tx, .inr (9, [.ref av, .int 0, .int ml, .int cnt])), (av, .inl (D.1 102, nb, .inl byt)), (q161, .inr (6, [.int z198.1, .int z198.2]))])) [0, 1, 2, 3, 4] (by decide) rfl ?_
          refine v_put 204 ([(a0, .inr (0, [.ref b0, .ref hq, .ref tx])), (pq, .inr (3, [.ref io, .int z114.2, .ref q161, .ref a0])), (tx, .inr (9, [.ref av, .int 0, .int ml, .int cnt])), (av, .inl (D.1 102, nb, .inl byt)), (q161, .inr (6, [.int z198.1, .int z198.2]))]) X in_X5 tyX5_ok nmX5 1 2 rfl rfl (by decide) q648 rfl rfl rfl rfl rfl (Nat.le_of_ble_eq_true rfl) dX5_advance_201 rfl rfl ?_
          refine v_goto 244 X dX5_advance_204 (by decide) ?_
          obtain rfl := Option.some.inj hF
          refine v_ws (ws' := ([(a0, .inr (0, [.ref b0, .ref hq, .ref tx])), (tx, .inr (9, [.ref av, .int 0, .int ml, .int cnt])), (av, .inl (D.1 102, nb, .inl byt)), (pq, .inr (3, [.ref io, .int z114.2, .ref q161, .ref a0])), (q161, .inr (6, [.int z198.1, .int z198.2]))])) [0, 2, 3, 1, 4] (by decide) rfl ?_
          exact v_vret X hr ⟨q161, rfl⟩ (Nat.le_of_ble_eq_true rfl) (Nat.le_of_ble_eq_true rfl) dX5_advance_244
        · replace hF := ifp h189 hF
          refine v_bipush (v := (-9)) 194 X dX5_advance_192 rfl kb_m9 ?_
          refine v_goto 198 X dX5_advance_194 (by decide) ?_
          obtain ⟨z198, hz198, hF⟩ := ob hF
          refine vc_Iv (wr := ([(a0, .inr (0, [.ref b0, .ref hq, .ref tx])), (pq, .inr (3, [.ref io, .int z114.2, .ref tk0, .ref a0])), (tx, .inr (9, [.ref av, .int 0, .int ml, .int cnt])), (av, .inl (D.1 102, nb, .inl byt))])) 201 1 2 X 2 [.int z0, .int (-9)] [2] [0, 1, 3, 4] ([(q161, .inr (6, [.int 0, .int 0]))]) rfl rfl (by decide) (by decide) (by decide) (w_X9_init z0 (-9) _ hz198) q758 q759 rfl q107 q760 hdX9_init.2 (pass_amb hAm) ⟨Nat.le_of_ble_eq_true rfl, Nat.le_of_ble_eq_true rfl⟩ ⟨(Nat.le_of_ble_eq_true rfl), (Nat.le_of_ble_eq_true rfl)⟩ rfl rfl (Nat.le_of_ble_eq_true rfl) dX5_advance_198 rfl rfl rfl (fun u198 e198 => ?_)
          subst e198
          refine v_ws (ws' := ([(a0, .inr (0, [.ref b0, .ref hq, .ref tx])), (pq, .inr (3, [.ref io, .int z114.2, .ref tk0, .ref a0])), (tx, .inr (9, [.ref av, .int 0, .int ml, .int cnt])), (av, .inl (D.1 102, nb, .inl byt)), (q161, .inr (6, [.int z198.1, .int z198.2]))])) [0, 1, 2, 3, 4] (by decide) rfl ?_
          refine v_put 204 ([(a0, .inr (0, [.ref b0, .ref hq, .ref tx])), (pq, .inr (3, [.ref io, .int z114.2, .ref q161, .ref a0])), (tx, .inr (9, [.ref av, .int 0, .int ml, .int cnt])), (av, .inl (D.1 102, nb, .inl byt)), (q161, .inr (6, [.int z198.1, .int z198.2]))]) X in_X5 tyX5_ok nmX5 1 2 rfl rfl (by decide) q648 rfl rfl rfl rfl rfl (Nat.le_of_ble_eq_true rfl) dX5_advance_201 rfl rfl ?_
          refine v_goto 244 X dX5_advance_204 (by decide) ?_
          obtain rfl := Option.some.inj hF
          refine v_ws (ws' := ([(a0, .inr (0, [.ref b0, .ref hq, .ref tx])), (tx, .inr (9, [.ref av, .int 0, .int ml, .int cnt])), (av, .inl (D.1 102, nb, .inl byt)), (pq, .inr (3, [.ref io, .int z114.2, .ref q161, .ref a0])), (q161, .inr (6, [.int z198.1, .int z198.2]))])) [0, 2, 3, 1, 4] (by decide) rfl ?_
          exact v_vret X hr ⟨q161, rfl⟩ (Nat.le_of_ble_eq_true rfl) (Nat.le_of_ble_eq_true rfl) dX5_advance_244
  · replace hF := ifn h38 hF
    obtain ⟨z41, hz41, hF⟩ := ob hF
    refine v_lv [1, 0] rfl (w_X5_advance_41 X hAm (Nat.le_of_ble_eq_true rfl) (Nat.le_of_ble_eq_true rfl) z0 _ z0 _ hz41 ?_)
    refine v_aload_n 69 X 0 dX5_advance_68 rfl rfl rfl ?_
    refine v_new (fs := [.int 0, .null]) 72 1 2 X in_X8 tyX8_ok q685 q686 q106 (ci := 5) rfl (by decide) (Nat.le_of_ble_eq_true rfl) (Nat.le_of_ble_eq_true rfl) dX5_advance_69 rfl rfl rfl (fun q69 => ?_)
    refine v_ws (ws' := ([(a0, .inr (0, [.ref b0, .ref hq, .ref tx])), (tx, .inr (9, [.ref av, .int 0, .int ml, .int cnt])), (av, .inl (D.1 102, nb, .inl byt)), (pq, .inr (3, [.ref io, .int z41, .ref tk0, .ref a0])), (q69, .inr (5, [.int 0, .null]))])) [0, 1, 2, 3, 4] (by decide) rfl ?_
    refine v_dup 73 X dX5_advance_72 rfl rfl ?_
    refine v_iload_n 74 X 1 dX5_advance_73 rfl rfl rfl ?_
    refine v_aload_n 75 X 0 dX5_advance_74 rfl rfl rfl ?_
    refine v_get 78 X in_X5 3 3 rfl rfl (by decide) q649 rfl rfl dX5_advance_75 rfl ?_
    refine v_getN 81 X hAm in_X0 0 2 rfl rfl (by decide) q247 rfl rfl dX5_advance_78 rfl ?_
    refine v_iload_n 82 X 1 dX5_advance_81 rfl rfl rfl ?_
    refine v_aload_n 83 X 0 dX5_advance_82 rfl rfl rfl ?_
    refine v_get 86 X in_X5 3 1 rfl rfl (by decide) q647 rfl rfl dX5_advance_83 rfl ?_
    obtain ⟨z86, hz86, hF⟩ := ob hF
    refine vc_Vr (wr := ([(a0, .inr (0, [.ref b0, .ref hq, .ref tx])), (pq, .inr (3, [.ref io, .int z41, .ref tk0, .ref a0])), (q69, .inr (5, [.int 0, .null]))])) 89 3 70 X 2 [.int z0, .int z41] [1, 2] [0, 3, 4] ([(tx, .inr (9, [.ref av, .int 0, .int ml, .int cnt])), (av, .inl (D.1 102, nb, .inl byt))]) rfl rfl (by decide) (by decide) (by decide) (w_J4_substring z0 z41 _ hz86) q687 q688 q689 q92 q690 hdJ4_substring 1 rfl rfl (pass_amb hAm) ⟨Nat.le_of_ble_eq_true rfl, Nat.le_of_ble_eq_true rfl⟩ ⟨(Nat.le_of_ble_eq_true rfl), (Nat.le_of_ble_eq_true rfl)⟩ rfl rfl (Nat.le_of_ble_eq_true rfl) dX5_advance_86 rfl rfl rfl (fun a86 u86 e86 => ?_)
    obtain ⟨q86_2, q86_3, e861, rfl⟩ := e86
    have e862 := e861.symm
    subst e862
    refine v_ws (ws' := ([(a0, .inr (0, [.ref b0, .ref hq, .ref tx])), (pq, .inr (3, [.ref io, .int z41, .ref tk0, .ref a0])), (q69, .inr (5, [.int 0, .null])), (tx, .inr (9, [.ref av, .int 0, .int ml, .int cnt])), (av, .inl (D.1 102, nb, .inl byt)), (q86_2, .inr (10, [.ref q86_3, .int 0, .int 0, .int 0])), (q86_3, .inl (D.1 102, z86.1, .inl z86.2))])) [0, 1, 2, 3, 4, 5, 6] (by decide) rfl ?_
    obtain ⟨z89, hz89, hF⟩ := ob hF
    refine vc_Iv (wr := ([(a0, .inr (0, [.ref b0, .ref hq, .ref tx])), (pq, .inr (3, [.ref io, .int z41, .ref tk0, .ref a0])), (tx, .inr (9, [.ref av, .int 0, .int ml, .int cnt])), (av, .inl (D.1 102, nb, .inl byt))])) 92 3 70 X 2 [.int z0, .ref q86_2] [2, 5, 6] [0, 1, 3, 4] ([(q69, .inr (5, [.int 0, .null])), (q86_2, .inr (10, [.ref q86_3, .int 0, .int 0, .int 0])), (q86_3, .inl (D.1 102, z86.1, .inl z86.2))]) rfl rfl (by decide) (by decide) (by decide) (w_X8_init z0 _ hz89) q746 q747 rfl q106 q748 hdX8_init.2 (pass_amb hAm) ⟨Nat.le_of_ble_eq_true rfl, Nat.le_of_ble_eq_true rfl⟩ ⟨(Nat.le_of_ble_eq_true rfl), (Nat.le_of_ble_eq_true rfl)⟩ rfl rfl (Nat.le_of_ble_eq_true rfl) dX5_advance_89 rfl rfl rfl (fun u89 e89 => ?_)
    subst e89
    refine v_ws (ws' := ([(a0, .inr (0, [.ref b0, .ref hq, .ref tx])), (pq, .inr (3, [.ref io, .int z41, .ref tk0, .ref a0])), (tx, .inr (9, [.ref av, .int 0, .int ml, .int cnt])), (av, .inl (D.1 102, nb, .inl byt)), (q69, .inr (5, [.int z89, .ref q86_2])), (q86_2, .inr (10, [.ref q86_3, .int 0, .int 0, .int 0])), (q86_3, .inl (D.1 102, z86.1, .inl z86.2))])) [0, 1, 2, 3, 4, 5, 6] (by decide) rfl ?_
    refine v_put 95 ([(a0, .inr (0, [.ref b0, .ref hq, .ref tx])), (pq, .inr (3, [.ref io, .int z41, .ref q69, .ref a0])), (tx, .inr (9, [.ref av, .int 0, .int ml, .int cnt])), (av, .inl (D.1 102, nb, .inl byt)), (q69, .inr (5, [.int z89, .ref q86_2])), (q86_2, .inr (10, [.ref q86_3, .int 0, .int 0, .int 0])), (q86_3, .inl (D.1 102, z86.1, .inl z86.2))]) X in_X5 tyX5_ok nmX5 1 2 rfl rfl (by decide) q648 rfl rfl rfl rfl rfl (Nat.le_of_ble_eq_true rfl) dX5_advance_92 rfl rfl ?_
    refine v_goto 244 X dX5_advance_95 (by decide) ?_
    obtain rfl := Option.some.inj hF
    refine v_ws (ws' := ([(a0, .inr (0, [.ref b0, .ref hq, .ref tx])), (tx, .inr (9, [.ref av, .int 0, .int ml, .int cnt])), (av, .inl (D.1 102, nb, .inl byt)), (pq, .inr (3, [.ref io, .int z41, .ref q69, .ref a0])), (q69, .inr (5, [.int z89, .ref q86_2])), (q86_2, .inr (10, [.ref q86_3, .int 0, .int 0, .int 0])), (q86_3, .inl (D.1 102, z86.1, .inl z86.2))])) [0, 2, 3, 1, 4, 5, 6] (by decide) rfl ?_
    exact v_vret X hr ⟨q69, q86_2, q86_3, rfl⟩ (Nat.le_of_ble_eq_true rfl) (Nat.le_of_ble_eq_true rfl) dX5_advance_244
end
