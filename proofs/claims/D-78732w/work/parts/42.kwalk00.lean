set_option maxRecDepth 100000
set_option maxHeartbeats 4000000
section
variable {p : Program} {l : Launch} {e : Env} {s : State} {m : MethodId} {args : Array Value} {below : List Frame} {meth : Method} {c : Code} {D : va_G} {A : Nat → Prop} {Q : State → Prop} {ws : va_W} {tq an na : Nat} {ts tv : Int32} {sa : Nat → Nat} {av nb wq wb nw : Nat} {wby : Nat → Int32} {wh wz : Int32} {byt : Nat → Int32} {ml cnt : Int32} {t1 t2 bm bc a0 hq tx he ne b0u : Nat} {el : Nat → Option Nat} {hd tl : Int32} {hs : List Nat} {fst fsu : List Value} {k0 k1 k2 : Int32} {mk clu : Nat → Int32} {b0 b1 b2 b3 b4 b5 n n4 kd : Nat} {cols rows thr bt tm rea : Int32} {gr so dy cg : Nat → Int32} {vl : Nat → Nat}
theorem w_X6_init_a (v1 : Int32) (r : Int32) (hF : T_init v1 = some r) : CTv l yX6_init cX6_init 2 (Option.none : Option Jvm.ClassFile.FieldType) rmX6_init_a D ([(tq, .inr (4, [.int 0, .int 0]))]) [.ref tq, .int v1] (AMB D) (fun u => u = ([(tq, .inr (4, [.int r, .int 0]))])) := by
  refine m_v (by decide) (Nat.le_of_ble_eq_true rfl) ?_
  intro p e s m args below meth c A B
  obtain ⟨X, hr, hAm, -, hnm, hnmd⟩ := B
  replace X : CX p s m args meth c D A cX6_init 2 "DyeLattice$Token" := X
  refine v_lv (lv' := [(0, .ref tq), (1, .int v1)]) [0, 1] rfl ?_
  unfold T_init at hF
  refine v_aload_n 1 X 0 dX6_init_0 rfl rfl rfl ?_
  refine v_objInit 4 X q636 (Nat.le_of_ble_eq_true rfl) (Nat.le_of_ble_eq_true rfl) dX6_init_1 rfl ?_
  refine v_aload_n 5 X 0 dX6_init_4 rfl rfl rfl ?_
  refine v_iload_n 6 X 1 dX6_init_5 rfl rfl rfl ?_
  refine v_putF 9 ([(tq, .inr (4, [.int v1, .int 0]))]) X hnm in_X7 tyX7_ok nmX7 0 0 rfl rfl (by decide) q638 rfl rfl rfl rfl rfl rfl (Nat.le_of_ble_eq_true rfl) dX6_init_6 rfl rfl ?_
  obtain rfl := Option.some.inj hF
  exact v_vret X hr rfl (Nat.le_of_ble_eq_true rfl) (Nat.le_of_ble_eq_true rfl) dX6_init_9
theorem w_X6_init_b (v1 : Int32) (r : Int32) (hF : T_init v1 = some r) : CTv l yX6_init cX6_init 2 (Option.none : Option Jvm.ClassFile.FieldType) rmX6_init_b D ([(tq, .inr (5, [.int 0, .null]))]) [.ref tq, .int v1] (AMB D) (fun u => u = ([(tq, .inr (5, [.int r, .null]))])) := by
  refine m_v (by decide) (Nat.le_of_ble_eq_true rfl) ?_
  intro p e s m args below meth c A B
  obtain ⟨X, hr, hAm, -, hnm, hnmd⟩ := B
  replace X : CX p s m args meth c D A cX6_init 2 "DyeLattice$Token" := X
  refine v_lv (lv' := [(0, .ref tq), (1, .int v1)]) [0, 1] rfl ?_
  unfold T_init at hF
  refine v_aload_n 1 X 0 dX6_init_0 rfl rfl rfl ?_
  refine v_objInit 4 X q636 (Nat.le_of_ble_eq_true rfl) (Nat.le_of_ble_eq_true rfl) dX6_init_1 rfl ?_
  refine v_aload_n 5 X 0 dX6_init_4 rfl rfl rfl ?_
  refine v_iload_n 6 X 1 dX6_init_5 rfl rfl rfl ?_
  refine v_putF 9 ([(tq, .inr (5, [.int v1, .null]))]) X hnm in_X8 tyX8_ok nmX8 0 0 rfl rfl (by decide) q638 rfl rfl rfl rfl rfl rfl (Nat.le_of_ble_eq_true rfl) dX6_init_6 rfl rfl ?_
  obtain rfl := Option.some.inj hF
  exact v_vret X hr rfl (Nat.le_of_ble_eq_true rfl) (Nat.le_of_ble_eq_true rfl) dX6_init_9
theorem w_X6_init_c (v1 : Int32) (r : Int32) (hF : T_init v1 = some r) : CTv l yX6_init cX6_init 2 (Option.none : Option Jvm.ClassFile.FieldType) rmX6_init_c D ([(tq, .inr (6, [.int 0, .int 0]))]) [.ref tq, .int v1] (AMB D) (fun u => u = ([(tq, .inr (6, [.int r, .int 0]))])) := by
  refine m_v (by decide) (Nat.le_of_ble_eq_true rfl) ?_
  intro p e s m args below meth c A B
  obtain ⟨X, hr, hAm, -, hnm, hnmd⟩ := B
  replace X : CX p s m args meth c D A cX6_init 2 "DyeLattice$Token" := X
  refine v_lv (lv' := [(0, .ref tq), (1, .int v1)]) [0, 1] rfl ?_
  unfold T_init at hF
  refine v_aload_n 1 X 0 dX6_init_0 rfl rfl rfl ?_
  refine v_objInit 4 X q636 (Nat.le_of_ble_eq_true rfl) (Nat.le_of_ble_eq_true rfl) dX6_init_1 rfl ?_
  refine v_aload_n 5 X 0 dX6_init_4 rfl rfl rfl ?_
  refine v_iload_n 6 X 1 dX6_init_5 rfl rfl rfl ?_
  refine v_putF 9 ([(tq, .inr (6, [.int v1, .int 0]))]) X hnm in_X9 tyX9_ok nmX9 0 0 rfl rfl (by decide) q638 rfl rfl rfl rfl rfl rfl (Nat.le_of_ble_eq_true rfl) dX6_init_6 rfl rfl ?_
  obtain rfl := Option.some.inj hF
  exact v_vret X hr rfl (Nat.le_of_ble_eq_true rfl) (Nat.le_of_ble_eq_true rfl) dX6_init_9
theorem w_X7_init (v1 : Int32) (v2 : Int32) (r : Int32 × Int32) (hF : T7_init v1 v2 = some r) : CTv l yX7_init cX7_init 3 (Option.none : Option Jvm.ClassFile.FieldType) rmX7_init D ([(tq, .inr (4, [.int 0, .int 0]))]) [.ref tq, .int v1, .int v2] (AMB D) (fun u => u = ([(tq, .inr (4, [.int r.1, .int r.2]))])) := by
  refine m_v (by decide) (Nat.le_of_ble_eq_true rfl) ?_
  intro p e s m args below meth c A B
  obtain ⟨X, hr, hAm, -, hnm, hnmd⟩ := B
  replace X : CX p s m args meth c D A cX7_init 3 "DyeLattice$Sign" := X
  refine v_lv (lv' := [(0, .ref tq), (1, .int v1), (2, .int v2)]) [0, 1, 2] rfl ?_
  unfold T7_init at hF
  refine v_aload_n 1 X 0 dX7_init_0 rfl rfl rfl ?_
  refine v_iload_n 2 X 1 dX7_init_1 rfl rfl rfl ?_
  obtain ⟨z2, hz2, hF⟩ := ob hF
  refine vc_Iv (wr := ([] : va_W)) 5 0 0 X 1 [.int v1] [0] [] ([(tq, .inr (4, [.int 0, .int 0]))]) rfl rfl (by decide) (by decide) (by decide) (w_X6_init_a v1 _ hz2) q633 q634 rfl q104 q635 hdX6_init.2 (pass_amb hAm) ⟨Nat.le_of_ble_eq_true rfl, Nat.le_of_ble_eq_true rfl⟩ ⟨(Nat.le_of_ble_eq_true rfl), (Nat.le_of_ble_eq_true rfl)⟩ rfl rfl (Nat.le_of_ble_eq_true rfl) dX7_init_2 rfl rfl rfl (fun u2 e2 => ?_)
  subst e2
  refine v_ws (ws' := ([(tq, .inr (4, [.int z2, .int 0]))])) [0] (by decide) rfl ?_
  refine v_aload_n 6 X 0 dX7_init_5 rfl rfl rfl ?_
  refine v_iload_n 7 X 2 dX7_init_6 rfl rfl rfl ?_
  obtain ⟨z7, hz7, hF⟩ := ob hF
  refine v_topi (cck_s hz7).1 ?_
  refine v_putF 10 ([(tq, .inr (4, [.int z2, .int z7]))]) X hnm in_X7 tyX7_ok nmX7 0 1 rfl rfl (by decide) q637 rfl rfl rfl rfl (cck_s hz7).2.1 (cck_s hz7).2.2 (Nat.le_of_ble_eq_true rfl) dX7_init_7 rfl rfl ?_
  obtain rfl := Option.some.inj hF
  exact v_vret X hr rfl (Nat.le_of_ble_eq_true rfl) (Nat.le_of_ble_eq_true rfl) dX7_init_10
theorem w_X9_init (v1 : Int32) (v2 : Int32) (r : Int32 × Int32) (hF : T9_init v1 v2 = some r) : CTv l yX9_init cX9_init 3 (Option.none : Option Jvm.ClassFile.FieldType) rmX9_init D ([(tq, .inr (6, [.int 0, .int 0]))]) [.ref tq, .int v1, .int v2] (AMB D) (fun u => u = ([(tq, .inr (6, [.int r.1, .int r.2]))])) := by
  refine m_v (by decide) (Nat.le_of_ble_eq_true rfl) ?_
  intro p e s m args below meth c A B
  obtain ⟨X, hr, hAm, -, hnm, hnmd⟩ := B
  replace X : CX p s m args meth c D A cX9_init 3 "DyeLattice$Number" := X
  refine v_lv (lv' := [(0, .ref tq), (1, .int v1), (2, .int v2)]) [0, 1, 2] rfl ?_
  unfold T9_init at hF
  refine v_aload_n 1 X 0 dX9_init_0 rfl rfl rfl ?_
  refine v_iload_n 2 X 1 dX9_init_1 rfl rfl rfl ?_
  obtain ⟨z2, hz2, hF⟩ := ob hF
  refine vc_Iv (wr := ([] : va_W)) 5 0 0 X 1 [.int v1] [0] [] ([(tq, .inr (6, [.int 0, .int 0]))]) rfl rfl (by decide) (by decide) (by decide) (w_X6_init_c v1 _ hz2) q761 q634 rfl q104 q635 hdX6_init.2 (pass_amb hAm) ⟨Nat.le_of_ble_eq_true rfl, Nat.le_of_ble_eq_true rfl⟩ ⟨(Nat.le_of_ble_eq_true rfl), (Nat.le_of_ble_eq_true rfl)⟩ rfl rfl (Nat.le_of_ble_eq_true rfl) dX9_init_2 rfl rfl rfl (fun u2 e2 => ?_)
  subst e2
  refine v_ws (ws' := ([(tq, .inr (6, [.int z2, .int 0]))])) [0] (by decide) rfl ?_
  refine v_aload_n 6 X 0 dX9_init_5 rfl rfl rfl ?_
  refine v_iload_n 7 X 2 dX9_init_6 rfl rfl rfl ?_
  refine v_putF 10 ([(tq, .inr (6, [.int z2, .int v2]))]) X hnm in_X9 tyX9_ok nmX9 0 1 rfl rfl (by decide) q762 rfl rfl rfl rfl rfl rfl (Nat.le_of_ble_eq_true rfl) dX9_init_7 rfl rfl ?_
  obtain rfl := Option.some.inj hF
  exact v_vret X hr rfl (Nat.le_of_ble_eq_true rfl) (Nat.le_of_ble_eq_true rfl) dX9_init_10
theorem w_X8_init (v1 : Int32) (r : Int32) (hF : T8_init v1 = some r) : CTv l yX8_init cX8_init 3 (Option.none : Option Jvm.ClassFile.FieldType) rmX8_init D ([(tq, .inr (5, [.int 0, .null])), (wq, .inr (10, [.ref wb, .int 0, .int wh, .int wz])), (wb, .inl (D.1 102, nw, .inl wby))]) [.ref tq, .int v1, .ref wq] (AMB D) (fun u => u = ([(tq, .inr (5, [.int r, .ref wq])), (wq, .inr (10, [.ref wb, .int 0, .int wh, .int wz])), (wb, .inl (D.1 102, nw, .inl wby))])) := by
  refine m_v (by decide) (Nat.le_of_ble_eq_true rfl) ?_
  intro p e s m args below meth c A B
  obtain ⟨X, hr, hAm, -, hnm, hnmd⟩ := B
  replace X : CX p s m args meth c D A cX8_init 3 "DyeLattice$Word" := X
  refine v_lv (lv' := [(0, .ref tq), (1, .int v1), (2, .ref wq)]) [0, 1, 2] rfl ?_
  unfold T8_init at hF
  refine v_aload_n 1 X 0 dX8_init_0 rfl rfl rfl ?_
  refine v_iload_n 2 X 1 dX8_init_1 rfl rfl rfl ?_
  obtain ⟨z2, hz2, hF⟩ := ob hF
  refine vc_Iv (wr := ([(wq, .inr (10, [.ref wb, .int 0, .int wh, .int wz])), (wb, .inl (D.1 102, nw, .inl wby))])) 5 0 0 X 1 [.int v1] [0] [1, 2] ([(tq, .inr (5, [.int 0, .null]))]) rfl rfl (by decide) (by decide) (by decide) (w_X6_init_b v1 _ hz2) q749 q634 rfl q104 q635 hdX6_init.2 (pass_amb hAm) ⟨Nat.le_of_ble_eq_true rfl, Nat.le_of_ble_eq_true rfl⟩ ⟨(Nat.le_of_ble_eq_true rfl), (Nat.le_of_ble_eq_true rfl)⟩ rfl rfl (Nat.le_of_ble_eq_true rfl) dX8_init_2 rfl rfl rfl (fun u2 e2 => ?_)
  subst e2
  refine v_ws (ws' := ([(wq, .inr (10, [.ref wb, .int 0, .int wh, .int wz])), (wb, .inl (D.1 102, nw, .inl wby)), (tq, .inr (5, [.int z2, .null]))])) [0, 1, 2] (by decide) rfl ?_
  refine v_aload_n 6 X 0 dX8_init_5 rfl rfl rfl ?_
  refine v_aload_n 7 X 2 dX8_init_6 rfl rfl rfl ?_
  refine v_putF 10 ([(wq, .inr (10, [.ref wb, .int 0, .int wh, .int wz])), (wb, .inl (D.1 102, nw, .inl wby)), (tq, .inr (5, [.int z2, .ref wq]))]) X hnm in_X8 tyX8_ok nmX8 2 1 rfl rfl (by decide) q750 rfl rfl rfl rfl rfl rfl (Nat.le_of_ble_eq_true rfl) dX8_init_7 rfl rfl ?_
  obtain rfl := Option.some.inj hF
  refine v_ws (ws' := ([(tq, .inr (5, [.int z2, .ref wq])), (wq, .inr (10, [.ref wb, .int 0, .int wh, .int wz])), (wb, .inl (D.1 102, nw, .inl wby))])) [2, 0, 1] (by decide) rfl ?_
  exact v_vret X hr rfl (Nat.le_of_ble_eq_true rfl) (Nat.le_of_ble_eq_true rfl) dX8_init_10
theorem w_X7_isSign (v1 : Int32) (r : Int32) (hF : T7_isSign tv v1 = some r) : CTi l yX7_isSign cX7_isSign 2 (Option.some Jvm.ClassFile.FieldType.boolean) rmX7_isSign D ([(tq, .inr (4, [.int ts, .int tv]))]) [.ref tq, .int v1] (AMB D) (fun r1 u => r1 = r ∧ u = ([(tq, .inr (4, [.int ts, .int tv]))])) := by
  refine m_i (by decide) (Nat.le_of_ble_eq_true rfl) ?_
  intro p e s m args below meth c A B
  obtain ⟨X, hr, hAm, -, hnm, hnmd⟩ := B
  replace X : CX p s m args meth c D A cX7_isSign 2 "DyeLattice$Sign" := X
  refine v_lv (lv' := [(0, .ref tq), (1, .int v1)]) [0, 1] rfl ?_
  unfold T7_isSign at hF
  refine v_aload_n 1 X 0 dX7_isSign_0 rfl rfl rfl ?_
  refine v_get 4 X in_X7 0 1 rfl rfl (by decide) q637 rfl rfl dX7_isSign_1 rfl ?_
  refine v_iload_n 5 X 1 dX7_isSign_4 rfl rfl rfl ?_
  refine v_icmp_ne 8 12 X dX7_isSign_5 rfl (by decide) (fun h5 => ?_) (fun h5 => ?_)
  · replace hF := ifn h5 hF
    refine v_iconst (v := 0) 13 X dX7_isSign_12 rfl ki_0 ?_
    obtain rfl := Option.some.inj hF
    exact v_zret X hr rfl ⟨rfl, rfl⟩ (Nat.le_of_ble_eq_true rfl) (Nat.le_of_ble_eq_true rfl) dX7_isSign_13
  · replace hF := ifp h5 hF
    refine v_iconst (v := 1) 9 X dX7_isSign_8 rfl ki_1 ?_
    refine v_goto 13 X dX7_isSign_9 (by decide) ?_
    obtain rfl := Option.some.inj hF
    exact v_zret X hr rfl ⟨rfl, rfl⟩ (Nat.le_of_ble_eq_true rfl) (Nat.le_of_ble_eq_true rfl) dX7_isSign_13
theorem w_X9_value (r : Int32) (hF : T9_value tv = some r) : CTi l yX9_value cX9_value 1 (Option.some Jvm.ClassFile.FieldType.int) rmX9_value D ([(tq, .inr (6, [.int ts, .int tv]))]) [.ref tq] (AMB D) (fun r1 u => r1 = r ∧ u = ([(tq, .inr (6, [.int ts, .int tv]))])) := by
  refine m_i (by decide) (Nat.le_of_ble_eq_true rfl) ?_
  intro p e s m args below meth c A B
  obtain ⟨X, hr, hAm, -, hnm, hnmd⟩ := B
  replace X : CX p s m args meth c D A cX9_value 1 "DyeLattice$Number" := X
  refine v_lv (lv' := [(0, .ref tq)]) [0] rfl ?_
  unfold T9_value at hF
  refine v_aload_n 1 X 0 dX9_value_0 rfl rfl rfl ?_
  refine v_get 4 X in_X9 0 1 rfl rfl (by decide) q762 rfl rfl dX9_value_1 rfl ?_
  obtain rfl := Option.some.inj hF
  exact v_iret X hr ⟨rfl, rfl⟩ (Nat.le_of_ble_eq_true rfl) (Nat.le_of_ble_eq_true rfl) dX9_value_4
theorem w_X8_among_5 (X : CX p s m args meth c D A cX8_among 4 "DyeLattice$Word") (hAm : AMB D A s) {cb sb : Nat} (hcb : cb ≤ rmX8_among.cells) (hsb : sb ≤ rmX8_among.slots) : ∀ (fu : Nat) (x : Int32 × Int32) (o : (Int32)), loopN (fun x => T8_among_5 nw wby na sa x.1 x.2) fu x = some o → (V p l e rmX8_among s m args below meth c D A 4 Q ([(tq, .inr (5, [.int ts, .ref wq])), (wq, .inr (10, [.ref wb, .int 0, .int wh, .int wz])), (wb, .inl (D.1 102, nw, .inl wby)), (an, .inl (D.1 105, na, .inr (.inr (.inr (.inr (sArr D sa))))))]) cb sb 36 [(2, .int o)] []) → V p l e rmX8_among s m args below meth c D A 4 Q ([(tq, .inr (5, [.int ts, .ref wq])), (wq, .inr (10, [.ref wb, .int 0, .int wh, .int wz])), (wb, .inl (D.1 102, nw, .inl wby)), (an, .inl (D.1 105, na, .inr (.inr (.inr (.inr (sArr D sa))))))]) cb sb 5 [(0, .ref tq), (1, .ref an), (2, .int x.1), (3, .int x.2)] [] := by
  refine v_loop (fun (x : Int32 × Int32) => V p l e rmX8_among s m args below meth c D A 4 Q ([(tq, .inr (5, [.int ts, .ref wq])), (wq, .inr (10, [.ref wb, .int 0, .int wh, .int wz])), (wb, .inl (D.1 102, nw, .inl wby)), (an, .inl (D.1 105, na, .inr (.inr (.inr (.inr (sArr D sa))))))]) cb sb 5 [(0, .ref tq), (1, .ref an), (2, .int x.1), (3, .int x.2)] []) (fun (o : (Int32)) => V p l e rmX8_among s m args below meth c D A 4 Q ([(tq, .inr (5, [.int ts, .ref wq])), (wq, .inr (10, [.ref wb, .int 0, .int wh, .int wz])), (wb, .inl (D.1 102, nw, .inl wby)), (an, .inl (D.1 105, na, .inr (.inr (.inr (.inr (sArr D sa))))))]) cb sb 36 [(2, .int o)] []) ?_
  rintro ⟨v2, v3⟩ r hF hI hO
  replace hF : T8_among_5 nw wby na sa v2 v3 = some r := hF
  show V p l e rmX8_among s m args below meth c D A 4 Q ([(tq, .inr (5, [.int ts, .ref wq])), (wq, .inr (10, [.ref wb, .int 0, .int wh, .int wz])), (wb, .inl (D.1 102, nw, .inl wby)), (an, .inl (D.1 105, na, .inr (.inr (.inr (.inr (sArr D sa))))))]) cb sb 5 [(0, .ref tq), (1, .ref an), (2, .int v2), (3, .int v3)] []
  unfold T8_among_5 at hF
  refine v_iload_n 6 X 3 dX8_among_5 rfl rfl rfl ?_
  refine v_aload_n 7 X 1 dX8_among_6 rfl rfl rfl ?_
  refine v_alen 8 X 3 5 rfl rfl rfl dX8_among_7 rfl ?_
  refine v_icmp_ge 11 36 X dX8_among_8 rfl (by decide) (fun h8 => ?_) (fun h8 => ?_)
  · replace hF := ifp h8 hF
    obtain rfl := Option.some.inj hF
    exact v_lv [2] rfl ((hO _ rfl))
  · replace hF := ifn h8 hF
    refine v_aload_n 12 X 0 dX8_among_11 rfl rfl rfl ?_
    refine v_get 15 X in_X8 0 1 rfl rfl (by decide) q750 rfl rfl dX8_among_12 rfl ?_
    refine v_aload_n 16 X 1 dX8_among_15 rfl rfl rfl ?_
    refine v_iload_n 17 X 3 dX8_among_16 rfl rfl rfl ?_
    obtain ⟨z17, hz17, hF⟩ := ob hF
    refine v_aldS 18 X 3 hz17 rfl dX8_among_17 rfl ?_
    obtain ⟨z18, hz18, hF⟩ := ob hF
    refine vc_Vi (wr := ([(tq, .inr (5, [.int ts, .ref wq])), (an, .inl (D.1 105, na, .inr (.inr (.inr (.inr (sArr D sa))))))])) 21 cb sb X 1 [.ref (adS D z17)] [1, 2] [0, 3] ([(wq, .inr (10, [.ref wb, .int 0, .int wh, .int wz])), (wb, .inl (D.1 102, nw, .inl wby))]) rfl rfl (by decide) (by decide) (by decide) (w_J5_equals z17 _ hz18) q797 q798 q799 q93 q800 hdJ5_equals 1 rfl rfl (pass_amb hAm) ⟨Nat.le_of_ble_eq_true rfl, Nat.le_of_ble_eq_true rfl⟩ ⟨(by exact hcb), (by exact hsb)⟩ rfl rfl (Nat.le_of_ble_eq_true rfl) dX8_among_18 rfl (by show cb + 0 = cb + 0; omega) (by show sb + 0 = sb + 0; omega) (fun r18 u18 e18 => ?_)
    obtain ⟨e181, rfl⟩ := e18
    have e182 := e181.symm
    subst e182
    refine v_ws (ws' := ([(tq, .inr (5, [.int ts, .ref wq])), (an, .inl (D.1 105, na, .inr (.inr (.inr (.inr (sArr D sa)))))), (wq, .inr (10, [.ref wb, .int 0, .int wh, .int wz])), (wb, .inl (D.1 102, nw, .inl wby))])) [0, 1, 2, 3] (by decide) rfl ?_
    refine v_if_eq 24 28 X dX8_among_21 rfl (by decide) (fun h21 => ?_) (fun h21 => ?_)
    · replace hF := ifp h21 hF
      refine v_iload_n 29 X 2 dX8_among_28 rfl rfl rfl ?_
      refine v_istore_n 30 [(2, .int v2), (0, .ref tq), (1, .ref an), (3, .int v3)] X dX8_among_29 rfl rfl (by decide) rfl ?_
      refine v_iinc (v := (v3 + 1)) 33 [(3, .int (v3 + 1)), (2, .int v2), (0, .ref tq), (1, .ref an)] X 3 dX8_among_30 rfl rfl (by rfl) (by decide) rfl ?_
      refine v_goto 5 X dX8_among_33 (by decide) ?_
      obtain rfl := Option.some.inj hF
      refine v_ws (ws' := ([(tq, .inr (5, [.int ts, .ref wq])), (wq, .inr (10, [.ref wb, .int 0, .int wh, .int wz])), (wb, .inl (D.1 102, nw, .inl wby)), (an, .inl (D.1 105, na, .inr (.inr (.inr (.inr (sArr D sa))))))])) [0, 2, 3, 1] (by decide) rfl ?_
      exact v_lv [2, 3, 1, 0] rfl (hI _ rfl)
    · replace hF := ifn h21 hF
      refine v_iload_n 25 X 3 dX8_among_24 rfl rfl rfl ?_
      refine v_goto 29 X dX8_among_25 (by decide) ?_
      refine v_istore_n 30 [(2, .int v3), (0, .ref tq), (1, .ref an), (3, .int v3)] X dX8_among_29 rfl rfl (by decide) rfl ?_
      refine v_iinc (v := (v3 + 1)) 33 [(3, .int (v3 + 1)), (2, .int v3), (0, .ref tq), (1, .ref an)] X 3 dX8_among_30 rfl rfl (by rfl) (by decide) rfl ?_
      refine v_goto 5 X dX8_among_33 (by decide) ?_
      obtain rfl := Option.some.inj hF
      refine v_ws (ws' := ([(tq, .inr (5, [.int ts, .ref wq])), (wq, .inr (10, [.ref wb, .int 0, .int wh, .int wz])), (wb, .inl (D.1 102, nw, .inl wby)), (an, .inl (D.1 105, na, .inr (.inr (.inr (.inr (sArr D sa))))))])) [0, 2, 3, 1] (by decide) rfl ?_
      exact v_lv [2, 3, 1, 0] rfl (hI _ rfl)
theorem w_X8_among (r : Int32) (hF : T8_among nw wby na sa = some r) : CTi l yX8_among cX8_among 4 (Option.some Jvm.ClassFile.FieldType.int) rmX8_among D ([(tq, .inr (5, [.int ts, .ref wq])), (wq, .inr (10, [.ref wb, .int 0, .int wh, .int wz])), (wb, .inl (D.1 102, nw, .inl wby)), (an, .inl (D.1 105, na, .inr (.inr (.inr (.inr (sArr D sa))))))]) [.ref tq, .ref an] (AMB D) (fun r1 u => r1 = r ∧ u = ([(tq, .inr (5, [.int ts, .ref wq])), (wq, .inr (10, [.ref wb, .int 0, .int wh, .int wz])), (wb, .inl (D.1 102, nw, .inl wby)), (an, .inl (D.1 105, na, .inr (.inr (.inr (.inr (sArr D sa))))))])) := by
  refine m_i (by decide) (Nat.le_of_ble_eq_true rfl) ?_
  intro p e s m args below meth c A B
  obtain ⟨X, hr, hAm, -, hnm, hnmd⟩ := B
  replace X : CX p s m args meth c D A cX8_among 4 "DyeLattice$Word" := X
  refine v_lv (lv' := [(0, .ref tq), (1, .ref an)]) [0, 1] rfl ?_
  unfold T8_among at hF
  refine v_bipush (v := (-9)) 2 X dX8_among_0 rfl kb_m9 ?_
  refine v_istore_n 3 [(2, .int (-9)), (0, .ref tq), (1, .ref an)] X dX8_among_2 rfl rfl (by decide) rfl ?_
  refine v_iconst (v := 0) 4 X dX8_among_3 rfl ki_0 ?_
  refine v_istore_n 5 [(3, .int 0), (2, .int (-9)), (0, .ref tq), (1, .ref an)] X dX8_among_4 rfl rfl (by decide) rfl ?_
  obtain ⟨z5, hz5, hF⟩ := ob hF
  refine v_lv [2, 3, 1, 0] rfl (w_X8_among_5 X hAm (Nat.le_of_ble_eq_true rfl) (Nat.le_of_ble_eq_true rfl) _ ((-9), 0) _ hz5 ?_)
  refine v_iload_n 37 X 0 dX8_among_36 rfl rfl rfl ?_
  obtain rfl := Option.some.inj hF
  exact v_iret X hr ⟨rfl, rfl⟩ (Nat.le_of_ble_eq_true rfl) (Nat.le_of_ble_eq_true rfl) dX8_among_37
theorem w_X6_among (ws : va_W) (v0 : Nat) (v1 : Nat) (r : Int32) (hF : T_among = some r) : CTi l yX6_among cX6_among 2 (Option.some Jvm.ClassFile.FieldType.int) rmX6_among D ws [.ref v0, .ref v1] (NoX) (fun r1 u => r1 = r ∧ u = ws) := by
  refine m_i (by decide) (Nat.le_of_ble_eq_true rfl) ?_
  intro p e s m args below meth c A B
  obtain ⟨X, hr, hAm, -, hnm, hnmd⟩ := B
  replace X : CX p s m args meth c D A cX6_among 2 "DyeLattice$Token" := X
  refine v_lv (lv' := [(0, .ref v0), (1, .ref v1)]) [0, 1] rfl ?_
  unfold T_among at hF
  refine v_bipush (v := (-9)) 2 X dX6_among_0 rfl kb_m9 ?_
  obtain rfl := Option.some.inj hF
  exact v_iret X hr ⟨rfl, rfl⟩ (Nat.le_of_ble_eq_true rfl) (Nat.le_of_ble_eq_true rfl) dX6_among_2
theorem w_X6_value (ws : va_W) (v0 : Nat) (r : Int32) (hF : T_value = some r) : CTi l yX6_value cX6_value 1 (Option.some Jvm.ClassFile.FieldType.int) rmX6_value D ws [.ref v0] (NoX) (fun r1 u => r1 = r ∧ u = ws) := by
  refine m_i (by decide) (Nat.le_of_ble_eq_true rfl) ?_
  intro p e s m args below meth c A B
  obtain ⟨X, hr, hAm, -, hnm, hnmd⟩ := B
  replace X : CX p s m args meth c D A cX6_value 1 "DyeLattice$Token" := X
  refine v_lv (lv' := [(0, .ref v0)]) [0] rfl ?_
  unfold T_value at hF
  refine v_bipush (v := (-9)) 2 X dX6_value_0 rfl kb_m9 ?_
  obtain rfl := Option.some.inj hF
  exact v_iret X hr ⟨rfl, rfl⟩ (Nat.le_of_ble_eq_true rfl) (Nat.le_of_ble_eq_true rfl) dX6_value_2
theorem w_X6_isSign (ws : va_W) (v0 : Nat) (v1 : Int32) (r : Int32) (hF : T_isSign = some r) : CTi l yX6_isSign cX6_isSign 2 (Option.some Jvm.ClassFile.FieldType.boolean) rmX6_isSign D ws [.ref v0, .int v1] (NoX) (fun r1 u => r1 = r ∧ u = ws) := by
  refine m_i (by decide) (Nat.le_of_ble_eq_true rfl) ?_
  intro p e s m args below meth c A B
  obtain ⟨X, hr, hAm, -, hnm, hnmd⟩ := B
  replace X : CX p s m args meth c D A cX6_isSign 2 "DyeLattice$Token" := X
  refine v_lv (lv' := [(0, .ref v0), (1, .int v1)]) [0, 1] rfl ?_
  unfold T_isSign at hF
  refine v_iconst (v := 0) 1 X dX6_isSign_0 rfl ki_0 ?_
  obtain rfl := Option.some.inj hF
  exact v_zret X hr rfl ⟨rfl, rfl⟩ (Nat.le_of_ble_eq_true rfl) (Nat.le_of_ble_eq_true rfl) dX6_isSign_1
end
