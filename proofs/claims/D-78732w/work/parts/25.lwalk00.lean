set_option maxRecDepth 100000
set_option maxHeartbeats 4000000
section
variable {p : Program} {l : Launch} {e : Env} {s : State} {m : MethodId} {args : Array Value} {below : List Frame} {meth : Method} {c : Code} {D : va_G} {A : Nat → Prop} {Q : State → Prop} {ws : va_W} {t1 t2 bm bc : Nat} {k0 k1 k2 : Int32} {mk clu : Nat → Int32} {b0 b1 b2 b3 b4 b5 n n4 kd : Nat} {cols rows thr bt tm rea : Int32} {gr so dy cg : Nat → Int32} {vl : Nat → Nat}
theorem w_X1_init_77 (X : CX p s m args meth c D A cX1_init 5 "DyeLattice$Lattice") (hAm : AMB D A s) {q38 : Nat} {q47 : Nat} {q55 : Nat} {q62 : Nat} {q69 : Nat} {f2_t_obj : Nat} {f3_t_obj : Int32} {f4_t_obj : Int32} {f0_t_obj : Int32} {f1_t_obj : Int32} {kn47 : (Nat → Nat)} {cb sb : Nat} (hcb : cb ≤ rmX1_init.cells) (hsb : sb ≤ rmX1_init.slots) (v3 : Int32) (z38 : Nat) (z47 : Nat) : ∀ (fu : Nat) (x : Int32 × (Nat → Int32)) (o : ((Nat → Int32))), loopN (fun x => L_init_77 v3 z38 x.1 x.2) fu x = some o → (V p l e rmX1_init s m args below meth c D A 5 Q (LW D b0 q38 q47 q55 q62 q69 z38 z47 f0_t_obj f1_t_obj f2_t_obj f3_t_obj f4_t_obj 0 0 o kn47 (fun _ => 0) (fun _ => 0) (fun _ => 0)) cb sb 98 [(0, .ref b0)] []) → V p l e rmX1_init s m args below meth c D A 5 Q (LW D b0 q38 q47 q55 q62 q69 z38 z47 f0_t_obj f1_t_obj f2_t_obj f3_t_obj f4_t_obj 0 0 x.2 kn47 (fun _ => 0) (fun _ => 0) (fun _ => 0)) cb sb 77 [(0, .ref b0), (3, .int v3), (4, .int x.1)] [] := by
  refine v_loop (fun (x : Int32 × (Nat → Int32)) => V p l e rmX1_init s m args below meth c D A 5 Q (LW D b0 q38 q47 q55 q62 q69 z38 z47 f0_t_obj f1_t_obj f2_t_obj f3_t_obj f4_t_obj 0 0 x.2 kn47 (fun _ => 0) (fun _ => 0) (fun _ => 0)) cb sb 77 [(0, .ref b0), (3, .int v3), (4, .int x.1)] []) (fun (o : ((Nat → Int32))) => V p l e rmX1_init s m args below meth c D A 5 Q (LW D b0 q38 q47 q55 q62 q69 z38 z47 f0_t_obj f1_t_obj f2_t_obj f3_t_obj f4_t_obj 0 0 o kn47 (fun _ => 0) (fun _ => 0) (fun _ => 0)) cb sb 98 [(0, .ref b0)] []) ?_
  rintro ⟨v4, kn38⟩ r hF hI hO
  replace hF : L_init_77 v3 z38 v4 kn38 = some r := hF
  show V p l e rmX1_init s m args below meth c D A 5 Q (LW D b0 q38 q47 q55 q62 q69 z38 z47 f0_t_obj f1_t_obj f2_t_obj f3_t_obj f4_t_obj 0 0 kn38 kn47 (fun _ => 0) (fun _ => 0) (fun _ => 0)) cb sb 77 [(0, .ref b0), (3, .int v3), (4, .int v4)] []
  unfold L_init_77 at hF
  refine v_iload 79 X 2 dX1_init_77 rfl rfl ?_
  refine v_iload_n 80 X 1 dX1_init_79 rfl rfl rfl ?_
  refine v_icmp_ge 83 98 X dX1_init_80 rfl (by decide) (fun h80 => ?_) (fun h80 => ?_)
  · replace hF := ifp h80 hF
    obtain rfl := Option.some.inj hF
    exact v_lv [0] rfl ((hO _ rfl))
  · replace hF := ifn h80 hF
    refine v_aload_n 84 X 0 dX1_init_83 rfl rfl rfl ?_
    refine v_get 87 X in_X1 0 7 rfl rfl (by decide) q152 rfl rfl dX1_init_84 rfl ?_
    refine v_iload 89 X 2 dX1_init_87 rfl rfl ?_
    refine v_bipush (v := 50) 91 X dX1_init_89 rfl kb_50 ?_
    obtain ⟨z91, hz91, hF⟩ := ob hF
    refine v_iast 92 (LW D b0 q38 q47 q55 q62 q69 z38 z47 f0_t_obj f1_t_obj f2_t_obj f3_t_obj f4_t_obj 0 0 z91 kn47 (fun _ => 0) (fun _ => 0) (fun _ => 0)) X 1 hz91 rfl dX1_init_91 rfl rfl ?_
    refine v_iinc (v := (v4 + 1)) 95 [(4, .int (v4 + 1)), (0, .ref b0), (3, .int v3)] X 2 dX1_init_92 rfl rfl (by rfl) (by decide) rfl ?_
    refine v_goto 77 X dX1_init_95 (by decide) ?_
    obtain rfl := Option.some.inj hF
    exact v_lv [1, 2, 0] rfl (hI _ rfl)
theorem w_X1_init (v1 : Int32) (v2 : Int32) (r : Nat × Int32 × Int32 × Int32 × Int32 × Nat × (Nat → Int32) × Nat × (Nat → Nat) × (Nat → Int32) × (Nat → Int32) × (Nat → Int32)) (hF : L_init v1 v2 = some r) : CTv l yX1_init cX1_init 5 (Option.none : Option Jvm.ClassFile.FieldType) rmX1_init D ([(b0, .inr (1, [.int 0, .int 0, .null, .int 0, .int 0, .int 0, .int 0, .null, .null, .null, .null, .null]))]) [.ref b0, .int v1, .int v2] (AMB D) (fun u => ∃ qa1 qa2 qa3 qa4 qa5 : Nat, u = (LW D b0 qa1 qa2 qa3 qa4 qa5 r.2.2.2.2.2.1 r.2.2.2.2.2.2.2.1 r.2.2.2.1 r.2.2.2.2.1 r.1 r.2.1 r.2.2.1 0 0 r.2.2.2.2.2.2.1 r.2.2.2.2.2.2.2.2.1 r.2.2.2.2.2.2.2.2.2.1 r.2.2.2.2.2.2.2.2.2.2.1 r.2.2.2.2.2.2.2.2.2.2.2)) := by
  refine m_v (by decide) (Nat.le_of_ble_eq_true rfl) ?_
  intro p e s m args below meth c A B
  obtain ⟨X, hr, hAm, -, hnm, hnmd⟩ := B
  replace X : CX p s m args meth c D A cX1_init 5 "DyeLattice$Lattice" := X
  refine v_lv (lv' := [(0, .ref b0), (1, .int v1), (2, .int v2)]) [0, 1, 2] rfl ?_
  unfold L_init at hF
  refine v_aload_n 1 X 0 dX1_init_0 rfl rfl rfl ?_
  refine v_objInit 4 X q124 (Nat.le_of_ble_eq_true rfl) (Nat.le_of_ble_eq_true rfl) dX1_init_1 rfl ?_
  refine v_aload_n 5 X 0 dX1_init_4 rfl rfl rfl ?_
  refine v_getK 8 X hAm 0 (by decide) (by rfl) q125 dX1_init_5 rfl ?_
  refine v_put 11 ([(b0, .inr (1, [.int 0, .int 0, .ref (adK D 0), .int 0, .int 0, .int 0, .int 0, .null, .null, .null, .null, .null]))]) X in_X1 tyX1_ok nmX1 0 2 rfl rfl (by decide) q141 rfl rfl rfl rfl rfl (Nat.le_of_ble_eq_true rfl) dX1_init_8 rfl rfl ?_
  refine v_aload_n 12 X 0 dX1_init_11 rfl rfl rfl ?_
  refine v_bipush (v := 50) 14 X dX1_init_12 rfl kb_50 ?_
  refine v_put 17 ([(b0, .inr (1, [.int 0, .int 0, .ref (adK D 0), .int 50, .int 0, .int 0, .int 0, .null, .null, .null, .null, .null]))]) X in_X1 tyX1_ok nmX1 0 3 rfl rfl (by decide) q143 rfl rfl rfl rfl rfl (Nat.le_of_ble_eq_true rfl) dX1_init_14 rfl rfl ?_
  refine v_aload_n 18 X 0 dX1_init_17 rfl rfl rfl ?_
  refine v_iconst (v := 1) 19 X dX1_init_18 rfl ki_1 ?_
  refine v_put 22 ([(b0, .inr (1, [.int 0, .int 0, .ref (adK D 0), .int 50, .int 1, .int 0, .int 0, .null, .null, .null, .null, .null]))]) X in_X1 tyX1_ok nmX1 0 4 rfl rfl (by decide) q146 rfl rfl rfl rfl rfl (Nat.le_of_ble_eq_true rfl) dX1_init_19 rfl rfl ?_
  refine v_aload_n 23 X 0 dX1_init_22 rfl rfl rfl ?_
  refine v_iload_n 24 X 1 dX1_init_23 rfl rfl rfl ?_
  refine v_putF 27 ([(b0, .inr (1, [.int v1, .int 0, .ref (adK D 0), .int 50, .int 1, .int 0, .int 0, .null, .null, .null, .null, .null]))]) X hnm in_X1 tyX1_ok nmX1 0 0 rfl rfl (by decide) q135 rfl rfl rfl rfl rfl rfl (Nat.le_of_ble_eq_true rfl) dX1_init_24 rfl rfl ?_
  refine v_aload_n 28 X 0 dX1_init_27 rfl rfl rfl ?_
  refine v_iload_n 29 X 2 dX1_init_28 rfl rfl rfl ?_
  refine v_putF 32 ([(b0, .inr (1, [.int v1, .int v2, .ref (adK D 0), .int 50, .int 1, .int 0, .int 0, .null, .null, .null, .null, .null]))]) X hnm in_X1 tyX1_ok nmX1 0 1 rfl rfl (by decide) q138 rfl rfl rfl rfl rfl rfl (Nat.le_of_ble_eq_true rfl) dX1_init_29 rfl rfl ?_
  refine v_iload_n 33 X 1 dX1_init_32 rfl rfl rfl ?_
  refine v_iload_n 34 X 2 dX1_init_33 rfl rfl rfl ?_
  refine v_imul 35 X dX1_init_34 rfl ?_
  refine v_istore_n 36 [(3, .int (v1 * v2)), (0, .ref b0), (1, .int v1), (2, .int v2)] X dX1_init_35 rfl rfl (by decide) rfl ?_
  refine v_aload_n 37 X 1 dX1_init_36 rfl rfl rfl ?_
  refine v_iload_n 38 X 0 dX1_init_37 rfl rfl rfl ?_
  obtain ⟨z38, hz38, hF⟩ := ob hF
  refine v_newa (atype := .int) (mx := 80) (t0 := 0) (ty := .int) 40 1 80 X hz38 q190 rfl rfl (fun _ h1 h2 => ra_prim rfl rfl h1 h2) rfl (Nat.le_of_ble_eq_true rfl) (Nat.le_of_ble_eq_true rfl) (Nat.le_of_ble_eq_true rfl) dX1_init_38 rfl rfl rfl (fun q38 => ?_)
  refine v_ws (ws' := ([(b0, .inr (1, [.int v1, .int v2, .ref (adK D 0), .int 50, .int 1, .int 0, .int 0, .null, .null, .null, .null, .null])), (q38, .inl (D.1 100, z38, .inl (fun _ => 0)))])) [0, 1] (by decide) rfl ?_
  refine v_putF 43 ([(b0, .inr (1, [.int v1, .int v2, .ref (adK D 0), .int 50, .int 1, .int 0, .int 0, .ref q38, .null, .null, .null, .null])), (q38, .inl (D.1 100, z38, .inl (fun _ => 0)))]) X hnm in_X1 tyX1_ok nmX1 0 7 rfl rfl (by decide) q152 rfl rfl rfl rfl rfl rfl (Nat.le_of_ble_eq_true rfl) dX1_init_40 rfl rfl ?_
  refine v_aload_n 44 X 1 dX1_init_43 rfl rfl rfl ?_
  refine v_iconst (v := 4) 45 X dX1_init_44 rfl ki_4 ?_
  refine v_iload_n 46 X 0 dX1_init_45 rfl rfl rfl ?_
  refine v_imul 47 X dX1_init_46 rfl ?_
  obtain ⟨z47, hz47, hF⟩ := ob hF
  refine v_newq (mx := 320) (t0 := 4) 50 2 400 X hAm hz47 q127 q128 rfl (Nat.le_of_ble_eq_true rfl) (Nat.le_of_ble_eq_true rfl) (Nat.le_of_ble_eq_true rfl) dX1_init_47 rfl rfl rfl (fun q47 => ?_)
  refine v_ws (ws' := ([(b0, .inr (1, [.int v1, .int v2, .ref (adK D 0), .int 50, .int 1, .int 0, .int 0, .ref q38, .null, .null, .null, .null])), (q38, .inl (D.1 100, z38, .inl (fun _ => 0))), (q47, .inl (D.1 104, z47, .inr (.inr (.inr (.inr (vArr D (fun _ => 5)))))))])) [0, 1, 2] (by decide) rfl ?_
  refine v_putF 53 ([(b0, .inr (1, [.int v1, .int v2, .ref (adK D 0), .int 50, .int 1, .int 0, .int 0, .ref q38, .ref q47, .null, .null, .null])), (q38, .inl (D.1 100, z38, .inl (fun _ => 0))), (q47, .inl (D.1 104, z47, .inr (.inr (.inr (.inr (vArr D (fun _ => 5)))))))]) X hnm in_X1 tyX1_ok nmX1 0 8 rfl rfl (by decide) q155 rfl rfl rfl rfl rfl rfl (Nat.le_of_ble_eq_true rfl) dX1_init_50 rfl rfl ?_
  refine v_aload_n 54 X 1 dX1_init_53 rfl rfl rfl ?_
  refine v_iload_n 55 X 0 dX1_init_54 rfl rfl rfl ?_
  refine v_newa (atype := .int) (mx := 80) (t0 := 0) (ty := .int) 57 3 480 X hz38 q190 rfl rfl (fun _ h1 h2 => ra_prim rfl rfl h1 h2) rfl (Nat.le_of_ble_eq_true rfl) (Nat.le_of_ble_eq_true rfl) (Nat.le_of_ble_eq_true rfl) dX1_init_55 rfl rfl rfl (fun q55 => ?_)
  refine v_ws (ws' := ([(b0, .inr (1, [.int v1, .int v2, .ref (adK D 0), .int 50, .int 1, .int 0, .int 0, .ref q38, .ref q47, .null, .null, .null])), (q38, .inl (D.1 100, z38, .inl (fun _ => 0))), (q47, .inl (D.1 104, z47, .inr (.inr (.inr (.inr (vArr D (fun _ => 5))))))), (q55, .inl (D.1 100, z38, .inl (fun _ => 0)))])) [0, 1, 2, 3] (by decide) rfl ?_
  refine v_putF 60 ([(b0, .inr (1, [.int v1, .int v2, .ref (adK D 0), .int 50, .int 1, .int 0, .int 0, .ref q38, .ref q47, .ref q55, .null, .null])), (q38, .inl (D.1 100, z38, .inl (fun _ => 0))), (q47, .inl (D.1 104, z47, .inr (.inr (.inr (.inr (vArr D (fun _ => 5))))))), (q55, .inl (D.1 100, z38, .inl (fun _ => 0)))]) X hnm in_X1 tyX1_ok nmX1 0 9 rfl rfl (by decide) q158 rfl rfl rfl rfl rfl rfl (Nat.le_of_ble_eq_true rfl) dX1_init_57 rfl rfl ?_
  refine v_aload_n 61 X 1 dX1_init_60 rfl rfl rfl ?_
  refine v_iload_n 62 X 0 dX1_init_61 rfl rfl rfl ?_
  refine v_newa (atype := .int) (mx := 80) (t0 := 0) (ty := .int) 64 4 560 X hz38 q190 rfl rfl (fun _ h1 h2 => ra_prim rfl rfl h1 h2) rfl (Nat.le_of_ble_eq_true rfl) (Nat.le_of_ble_eq_true rfl) (Nat.le_of_ble_eq_true rfl) dX1_init_62 rfl rfl rfl (fun q62 => ?_)
  refine v_ws (ws' := ([(b0, .inr (1, [.int v1, .int v2, .ref (adK D 0), .int 50, .int 1, .int 0, .int 0, .ref q38, .ref q47, .ref q55, .null, .null])), (q38, .inl (D.1 100, z38, .inl (fun _ => 0))), (q47, .inl (D.1 104, z47, .inr (.inr (.inr (.inr (vArr D (fun _ => 5))))))), (q55, .inl (D.1 100, z38, .inl (fun _ => 0))), (q62, .inl (D.1 100, z38, .inl (fun _ => 0)))])) [0, 1, 2, 3, 4] (by decide) rfl ?_
  refine v_put 67 ([(b0, .inr (1, [.int v1, .int v2, .ref (adK D 0), .int 50, .int 1, .int 0, .int 0, .ref q38, .ref q47, .ref q55, .ref q62, .null])), (q38, .inl (D.1 100, z38, .inl (fun _ => 0))), (q47, .inl (D.1 104, z47, .inr (.inr (.inr (.inr (vArr D (fun _ => 5))))))), (q55, .inl (D.1 100, z38, .inl (fun _ => 0))), (q62, .inl (D.1 100, z38, .inl (fun _ => 0)))]) X in_X1 tyX1_ok nmX1 0 10 rfl rfl (by decide) q161 rfl rfl rfl rfl rfl (Nat.le_of_ble_eq_true rfl) dX1_init_64 rfl rfl ?_
  refine v_aload_n 68 X 1 dX1_init_67 rfl rfl rfl ?_
  refine v_iload_n 69 X 0 dX1_init_68 rfl rfl rfl ?_
  refine v_newa (atype := .boolean) (mx := 80) (t0 := 1) (ty := .boolean) 71 5 640 X hz38 q191 rfl rfl (fun _ h1 h2 => ra_prim rfl rfl h1 h2) rfl (Nat.le_of_ble_eq_true rfl) (Nat.le_of_ble_eq_true rfl) (Nat.le_of_ble_eq_true rfl) dX1_init_69 rfl rfl rfl (fun q69 => ?_)
  refine v_ws (ws' := ([(b0, .inr (1, [.int v1, .int v2, .ref (adK D 0), .int 50, .int 1, .int 0, .int 0, .ref q38, .ref q47, .ref q55, .ref q62, .null])), (q38, .inl (D.1 100, z38, .inl (fun _ => 0))), (q47, .inl (D.1 104, z47, .inr (.inr (.inr (.inr (vArr D (fun _ => 5))))))), (q55, .inl (D.1 100, z38, .inl (fun _ => 0))), (q62, .inl (D.1 100, z38, .inl (fun _ => 0))), (q69, .inl (D.1 101, z38, .inl (fun _ => 0)))])) [0, 1, 2, 3, 4, 5] (by decide) rfl ?_
  refine v_putF 74 (LW D b0 q38 q47 q55 q62 q69 z38 z47 v1 v2 0 50 1 0 0 (fun _ => 0) (fun _ => 5) (fun _ => 0) (fun _ => 0) (fun _ => 0)) X hnm in_X1 tyX1_ok nmX1 0 11 rfl rfl (by decide) q163 rfl rfl rfl rfl rfl rfl (Nat.le_of_ble_eq_true rfl) dX1_init_71 rfl rfl ?_
  refine v_iconst (v := 0) 75 X dX1_init_74 rfl ki_0 ?_
  refine v_istore 77 [(4, .int 0), (3, .int (v1 * v2)), (0, .ref b0), (1, .int v1), (2, .int v2)] X dX1_init_75 rfl (by decide) rfl ?_
  obtain ⟨z77, hz77, hF⟩ := ob hF
  refine v_lv [2, 1, 0] rfl (w_X1_init_77 X hAm (Nat.le_of_ble_eq_true rfl) (Nat.le_of_ble_eq_true rfl) (v1 * v2) z38 z47 _ (0, (fun _ => 0)) _ hz77 ?_)
  refine v_aload_n 99 X 0 dX1_init_98 rfl rfl rfl ?_
  obtain ⟨z99, hz99, hF⟩ := ob hF
  refine v_mVv 102 X 0 [] (w_X1_freeValves _ hz99) q129 q130 q131 q85 q132 hdX1_freeValves 0 rfl rfl (pass_amb hAm) ⟨rfl, rfl⟩ ⟨Nat.le_of_ble_eq_true rfl, Nat.le_of_ble_eq_true rfl⟩ ⟨(Nat.le_of_ble_eq_true rfl), (Nat.le_of_ble_eq_true rfl)⟩ rfl rfl (Nat.le_of_ble_eq_true rfl) dX1_init_99 rfl ?_
  obtain rfl := Option.some.inj hF
  exact v_vret X hr ⟨q38, q47, q55, q62, q69, rfl⟩ (Nat.le_of_ble_eq_true rfl) (Nat.le_of_ble_eq_true rfl) dX1_init_102
theorem w_X1_resized (v1 : Int32) (v2 : Int32) (r : Int32 × Int32 × Nat × Int32 × Int32 × Int32 × Int32 × Nat × (Nat → Int32) × Nat × (Nat → Nat) × (Nat → Int32) × (Nat → Int32) × (Nat → Int32)) (hF : L_resized thr bt rea kd v1 v2 = some r) : CTr l yX1_resized cX1_resized 4 (Option.some (Jvm.ClassFile.FieldType.object "DyeLattice$Lattice")) rmX1_resized D (LW D b0 b1 b2 b3 b4 b5 n n4 cols rows kd thr bt tm rea gr vl so dy cg) [.ref b0, .int v1, .int v2] (AMB D) (fun a1 u => ∃ qa6 qa7 qa8 qa9 qa10 qa11 : Nat, a1 = qa6 ∧ u = (LW D b0 b1 b2 b3 b4 b5 n n4 cols rows kd thr bt tm rea gr vl so dy cg ++ LW D qa6 qa7 qa8 qa9 qa10 qa11 r.2.2.2.2.2.2.2.1 r.2.2.2.2.2.2.2.2.2.1 r.1 r.2.1 r.2.2.1 r.2.2.2.1 r.2.2.2.2.1 r.2.2.2.2.2.1 r.2.2.2.2.2.2.1 r.2.2.2.2.2.2.2.2.1 r.2.2.2.2.2.2.2.2.2.2.1 r.2.2.2.2.2.2.2.2.2.2.2.1 r.2.2.2.2.2.2.2.2.2.2.2.2.1 r.2.2.2.2.2.2.2.2.2.2.2.2.2)) := by
  refine m_r (by decide) (Nat.le_of_ble_eq_true rfl) ?_
  intro p e s m args below meth c A B
  obtain ⟨X, hr, hAm, -, hnm, hnmd⟩ := B
  replace X : CX p s m args meth c D A cX1_resized 4 "DyeLattice$Lattice" := X
  refine v_lv (lv' := [(0, .ref b0), (1, .int v1), (2, .int v2)]) [0, 1, 2] rfl ?_
  unfold L_resized at hF
  refine v_new (fs := [.int 0, .int 0, .null, .int 0, .int 0, .int 0, .int 0, .null, .null, .null, .null, .null]) 3 1 12 X in_X1 tyX1_ok q267 q120 q85 (ci := 1) rfl (by decide) (Nat.le_of_ble_eq_true rfl) (Nat.le_of_ble_eq_true rfl) dX1_resized_0 rfl rfl rfl (fun q0 => ?_)
  refine v_ws (ws' := (LW D b0 b1 b2 b3 b4 b5 n n4 cols rows kd thr bt tm rea gr vl so dy cg ++ [(q0, .inr (1, [.int 0, .int 0, .null, .int 0, .int 0, .int 0, .int 0, .null, .null, .null, .null, .null]))])) [0, 1, 2, 3, 4, 5, 6] (by decide) rfl ?_
  refine v_dup 4 X dX1_resized_3 rfl rfl ?_
  refine v_iload_n 5 X 1 dX1_resized_4 rfl rfl rfl ?_
  refine v_iload_n 6 X 2 dX1_resized_5 rfl rfl rfl ?_
  obtain ⟨z6, hz6, hF⟩ := ob hF
  refine vc_Iv (wr := (LW D b0 b1 b2 b3 b4 b5 n n4 cols rows kd thr bt tm rea gr vl so dy cg)) 9 6 652 X 2 [.int v1, .int v2] [6] [0, 1, 2, 3, 4, 5] ([(q0, .inr (1, [.int 0, .int 0, .null, .int 0, .int 0, .int 0, .int 0, .null, .null, .null, .null, .null]))]) rfl rfl (by decide) (by decide) (by decide) (w_X1_init v1 v2 _ hz6) q268 q122 rfl q85 q123 hdX1_init.2 (pass_amb hAm) ⟨Nat.le_of_ble_eq_true rfl, Nat.le_of_ble_eq_true rfl⟩ ⟨(Nat.le_of_ble_eq_true rfl), (Nat.le_of_ble_eq_true rfl)⟩ rfl rfl (Nat.le_of_ble_eq_true rfl) dX1_resized_6 rfl rfl rfl (fun u6 e6 => ?_)
  obtain ⟨q6_1, q6_2, q6_3, q6_4, q6_5, rfl⟩ := e6
  refine v_ws (ws' := (LW D b0 b1 b2 b3 b4 b5 n n4 cols rows kd thr bt tm rea gr vl so dy cg ++ LW D q0 q6_1 q6_2 q6_3 q6_4 q6_5 z6.2.2.2.2.2.1 z6.2.2.2.2.2.2.2.1 z6.2.2.2.1 z6.2.2.2.2.1 z6.1 z6.2.1 z6.2.2.1 0 0 z6.2.2.2.2.2.2.1 z6.2.2.2.2.2.2.2.2.1 z6.2.2.2.2.2.2.2.2.2.1 z6.2.2.2.2.2.2.2.2.2.2.1 z6.2.2.2.2.2.2.2.2.2.2.2)) [0, 1, 2, 3, 4, 5, 6, 7, 8, 9, 10, 11] (by decide) rfl ?_
  refine v_astore_n 10 [(3, .ref q0), (0, .ref b0), (1, .int v1), (2, .int v2)] X dX1_resized_9 rfl rfl (by decide) rfl ?_
  refine v_aload_n 11 X 0 dX1_resized_10 rfl rfl rfl ?_
  refine v_aload_n 12 X 1 dX1_resized_11 rfl rfl rfl ?_
  refine v_get 15 X in_X1 0 2 rfl rfl (by decide) q141 rfl rfl dX1_resized_12 rfl ?_
  refine v_put 18 (LW D b0 b1 b2 b3 b4 b5 n n4 cols rows kd thr bt tm rea gr vl so dy cg ++ LW D q0 q6_1 q6_2 q6_3 q6_4 q6_5 z6.2.2.2.2.2.1 z6.2.2.2.2.2.2.2.1 z6.2.2.2.1 z6.2.2.2.2.1 kd z6.2.1 z6.2.2.1 0 0 z6.2.2.2.2.2.2.1 z6.2.2.2.2.2.2.2.2.1 z6.2.2.2.2.2.2.2.2.2.1 z6.2.2.2.2.2.2.2.2.2.2.1 z6.2.2.2.2.2.2.2.2.2.2.2) X in_X1 tyX1_ok nmX1 6 2 rfl rfl (by decide) q141 rfl rfl rfl rfl rfl (Nat.le_of_ble_eq_true rfl) dX1_resized_15 rfl rfl ?_
  refine v_aload_n 19 X 0 dX1_resized_18 rfl rfl rfl ?_
  refine v_aload_n 20 X 1 dX1_resized_19 rfl rfl rfl ?_
  refine v_get 23 X in_X1 0 3 rfl rfl (by decide) q143 rfl rfl dX1_resized_20 rfl ?_
  refine v_put 26 (LW D b0 b1 b2 b3 b4 b5 n n4 cols rows kd thr bt tm rea gr vl so dy cg ++ LW D q0 q6_1 q6_2 q6_3 q6_4 q6_5 z6.2.2.2.2.2.1 z6.2.2.2.2.2.2.2.1 z6.2.2.2.1 z6.2.2.2.2.1 kd thr z6.2.2.1 0 0 z6.2.2.2.2.2.2.1 z6.2.2.2.2.2.2.2.2.1 z6.2.2.2.2.2.2.2.2.2.1 z6.2.2.2.2.2.2.2.2.2.2.1 z6.2.2.2.2.2.2.2.2.2.2.2) X in_X1 tyX1_ok nmX1 6 3 rfl rfl (by decide) q143 rfl rfl rfl rfl rfl (Nat.le_of_ble_eq_true rfl) dX1_resized_23 rfl rfl ?_
  refine v_aload_n 27 X 0 dX1_resized_26 rfl rfl rfl ?_
  refine v_aload_n 28 X 1 dX1_resized_27 rfl rfl rfl ?_
  refine v_get 31 X in_X1 0 4 rfl rfl (by decide) q146 rfl rfl dX1_resized_28 rfl ?_
  refine v_put 34 (LW D b0 b1 b2 b3 b4 b5 n n4 cols rows kd thr bt tm rea gr vl so dy cg ++ LW D q0 q6_1 q6_2 q6_3 q6_4 q6_5 z6.2.2.2.2.2.1 z6.2.2.2.2.2.2.2.1 z6.2.2.2.1 z6.2.2.2.2.1 kd thr bt 0 0 z6.2.2.2.2.2.2.1 z6.2.2.2.2.2.2.2.2.1 z6.2.2.2.2.2.2.2.2.2.1 z6.2.2.2.2.2.2.2.2.2.2.1 z6.2.2.2.2.2.2.2.2.2.2.2) X in_X1 tyX1_ok nmX1 6 4 rfl rfl (by decide) q146 rfl rfl rfl rfl rfl (Nat.le_of_ble_eq_true rfl) dX1_resized_31 rfl rfl ?_
  refine v_aload_n 35 X 0 dX1_resized_34 rfl rfl rfl ?_
  refine v_aload_n 36 X 1 dX1_resized_35 rfl rfl rfl ?_
  refine v_get 39 X in_X1 0 6 rfl rfl (by decide) q150 rfl rfl dX1_resized_36 rfl ?_
  refine v_put 42 (LW D b0 b1 b2 b3 b4 b5 n n4 cols rows kd thr bt tm rea gr vl so dy cg ++ LW D q0 q6_1 q6_2 q6_3 q6_4 q6_5 z6.2.2.2.2.2.1 z6.2.2.2.2.2.2.2.1 z6.2.2.2.1 z6.2.2.2.2.1 kd thr bt 0 rea z6.2.2.2.2.2.2.1 z6.2.2.2.2.2.2.2.2.1 z6.2.2.2.2.2.2.2.2.2.1 z6.2.2.2.2.2.2.2.2.2.2.1 z6.2.2.2.2.2.2.2.2.2.2.2) X in_X1 tyX1_ok nmX1 6 6 rfl rfl (by decide) q150 rfl rfl rfl rfl rfl (Nat.le_of_ble_eq_true rfl) dX1_resized_39 rfl rfl ?_
  refine v_aload_n 43 X 0 dX1_resized_42 rfl rfl rfl ?_
  obtain rfl := Option.some.inj hF
  refine v_aret (post := (fun r : Int32 × Int32 × Nat × Int32 × Int32 × Int32 × Int32 × Nat × (Nat → Int32) × Nat × (Nat → Nat) × (Nat → Int32) × (Nat → Int32) × (Nat → Int32) => (fun a1 u => ∃ qa6 qa7 qa8 qa9 qa10 qa11 : Nat, a1 = qa6 ∧ u = (LW D b0 b1 b2 b3 b4 b5 n n4 cols rows kd thr bt tm rea gr vl so dy cg ++ LW D qa6 qa7 qa8 qa9 qa10 qa11 r.2.2.2.2.2.2.2.1 r.2.2.2.2.2.2.2.2.2.1 r.1 r.2.1 r.2.2.1 r.2.2.2.1 r.2.2.2.2.1 r.2.2.2.2.2.1 r.2.2.2.2.2.2.1 r.2.2.2.2.2.2.2.2.1 r.2.2.2.2.2.2.2.2.2.2.1 r.2.2.2.2.2.2.2.2.2.2.2.1 r.2.2.2.2.2.2.2.2.2.2.2.2.1 r.2.2.2.2.2.2.2.2.2.2.2.2.2))) (z6.2.2.2.1, z6.2.2.2.2.1, kd, thr, bt, 0, rea, z6.2.2.2.2.2.1, z6.2.2.2.2.2.2.1, z6.2.2.2.2.2.2.2.1, z6.2.2.2.2.2.2.2.2.1, z6.2.2.2.2.2.2.2.2.2.1, z6.2.2.2.2.2.2.2.2.2.2.1, z6.2.2.2.2.2.2.2.2.2.2.2)) X hr (Or.inl ⟨_, rfl⟩) ?_ ?_ ?_ dX1_resized_43
  · exact ⟨q0, q6_1, q6_2, q6_3, q6_4, q6_5, rfl, rfl⟩
  · exact Nat.le_of_ble_eq_true rfl
  · exact Nat.le_of_ble_eq_true rfl
theorem w_X1_copy (r : Int32 × Int32 × Nat × Int32 × Int32 × Int32 × Int32 × Nat × (Nat → Int32) × Nat × (Nat → Nat) × (Nat → Int32) × (Nat → Int32) × (Nat → Int32)) (hF : L_copy cols rows thr bt tm rea kd n n4 vl gr so dy cg = some r) : CTr l yX1_copy cX1_copy 2 (Option.some (Jvm.ClassFile.FieldType.object "DyeLattice$Lattice")) rmX1_copy D (LW D b0 b1 b2 b3 b4 b5 n n4 cols rows kd thr bt tm rea gr vl so dy cg) [.ref b0] (AMB D) (fun a1 u => ∃ qa6 qa7 qa8 qa9 qa10 qa11 : Nat, a1 = qa6 ∧ u = (LW D b0 b1 b2 b3 b4 b5 n n4 cols rows kd thr bt tm rea gr vl so dy cg ++ LW D qa6 qa7 qa8 qa9 qa10 qa11 r.2.2.2.2.2.2.2.1 r.2.2.2.2.2.2.2.2.2.1 r.1 r.2.1 r.2.2.1 r.2.2.2.1 r.2.2.2.2.1 r.2.2.2.2.2.1 r.2.2.2.2.2.2.1 r.2.2.2.2.2.2.2.2.1 r.2.2.2.2.2.2.2.2.2.2.1 r.2.2.2.2.2.2.2.2.2.2.2.1 r.2.2.2.2.2.2.2.2.2.2.2.2.1 r.2.2.2.2.2.2.2.2.2.2.2.2.2)) := by
  refine m_r (by decide) (Nat.le_of_ble_eq_true rfl) ?_
  intro p e s m args below meth c A B
  obtain ⟨X, hr, hAm, -, hnm, hnmd⟩ := B
  replace X : CX p s m args meth c D A cX1_copy 2 "DyeLattice$Lattice" := X
  refine v_lv (lv' := [(0, .ref b0)]) [0] rfl ?_
  unfold L_copy at hF
  refine v_aload_n 1 X 0 dX1_copy_0 rfl rfl rfl ?_
  refine v_aload_n 2 X 0 dX1_copy_1 rfl rfl rfl ?_
  refine v_get 5 X in_X1 0 0 rfl rfl (by decide) q135 rfl rfl dX1_copy_2 rfl ?_
  refine v_aload_n 6 X 0 dX1_copy_5 rfl rfl rfl ?_
  refine v_get 9 X in_X1 0 1 rfl rfl (by decide) q138 rfl rfl dX1_copy_6 rfl ?_
  obtain ⟨z9, hz9, hF⟩ := ob hF
  refine vc_Vr (wr := ([] : va_W)) 12 6 652 X 2 [.int cols, .int rows] [0, 1, 2, 3, 4, 5] [] (LW D b0 b1 b2 b3 b4 b5 n n4 cols rows kd thr bt tm rea gr vl so dy cg) rfl rfl (by decide) (by decide) (by decide) (w_X1_resized cols rows _ hz9) q360 q264 q265 q85 q266 hdX1_resized 0 rfl rfl (pass_amb hAm) ⟨Nat.le_of_ble_eq_true rfl, Nat.le_of_ble_eq_true rfl⟩ ⟨(Nat.le_of_ble_eq_true rfl), (Nat.le_of_ble_eq_true rfl)⟩ rfl rfl (Nat.le_of_ble_eq_true rfl) dX1_copy_9 rfl rfl rfl (fun a9 u9 e9 => ?_)
  obtain ⟨q9_6, q9_7, q9_8, q9_9, q9_10, q9_11, e91, rfl⟩ := e9
  have e92 := e91.symm
  subst e92
  refine v_ws (ws' := (LW D b0 b1 b2 b3 b4 b5 n n4 cols rows kd thr bt tm rea gr vl so dy cg ++ LW D q9_6 q9_7 q9_8 q9_9 q9_10 q9_11 z9.2.2.2.2.2.2.2.1 z9.2.2.2.2.2.2.2.2.2.1 z9.1 z9.2.1 z9.2.2.1 z9.2.2.2.1 z9.2.2.2.2.1 z9.2.2.2.2.2.1 z9.2.2.2.2.2.2.1 z9.2.2.2.2.2.2.2.2.1 z9.2.2.2.2.2.2.2.2.2.2.1 z9.2.2.2.2.2.2.2.2.2.2.2.1 z9.2.2.2.2.2.2.2.2.2.2.2.2.1 z9.2.2.2.2.2.2.2.2.2.2.2.2.2)) [0, 1, 2, 3, 4, 5, 6, 7, 8, 9, 10, 11] (by decide) rfl ?_
  refine v_astore_n 13 [(1, .ref q9_6), (0, .ref b0)] X dX1_copy_12 rfl rfl (by decide) rfl ?_
  refine v_aload_n 14 X 0 dX1_copy_13 rfl rfl rfl ?_
  refine v_aload_n 15 X 1 dX1_copy_14 rfl rfl rfl ?_
  refine v_get 18 X in_X1 0 5 rfl rfl (by decide) q148 rfl rfl dX1_copy_15 rfl ?_
  refine v_put 21 (LW D b0 b1 b2 b3 b4 b5 n n4 cols rows kd thr bt tm rea gr vl so dy cg ++ LW D q9_6 q9_7 q9_8 q9_9 q9_10 q9_11 z9.2.2.2.2.2.2.2.1 z9.2.2.2.2.2.2.2.2.2.1 z9.1 z9.2.1 z9.2.2.1 z9.2.2.2.1 z9.2.2.2.2.1 tm z9.2.2.2.2.2.2.1 z9.2.2.2.2.2.2.2.2.1 z9.2.2.2.2.2.2.2.2.2.2.1 z9.2.2.2.2.2.2.2.2.2.2.2.1 z9.2.2.2.2.2.2.2.2.2.2.2.2.1 z9.2.2.2.2.2.2.2.2.2.2.2.2.2) X in_X1 tyX1_ok nmX1 6 5 rfl rfl (by decide) q148 rfl rfl rfl rfl rfl (Nat.le_of_ble_eq_true rfl) dX1_copy_18 rfl rfl ?_
  refine v_aload_n 22 X 1 dX1_copy_21 rfl rfl rfl ?_
  refine v_get 25 X in_X1 0 7 rfl rfl (by decide) q152 rfl rfl dX1_copy_22 rfl ?_
  refine v_iconst (v := 0) 26 X dX1_copy_25 rfl ki_0 ?_
  refine v_aload_n 27 X 0 dX1_copy_26 rfl rfl rfl ?_
  refine v_get 30 X in_X1 6 7 rfl rfl (by decide) q152 rfl rfl dX1_copy_27 rfl ?_
  refine v_iconst (v := 0) 31 X dX1_copy_30 rfl ki_0 ?_
  refine v_aload_n 32 X 1 dX1_copy_31 rfl rfl rfl ?_
  refine v_get 35 X in_X1 0 7 rfl rfl (by decide) q152 rfl rfl dX1_copy_32 rfl ?_
  refine v_alen 36 X 1 0 rfl rfl rfl dX1_copy_35 rfl ?_
  obtain ⟨z36, hz36, hF⟩ := ob hF
  refine v_cpy 39 (LW D b0 b1 b2 b3 b4 b5 n n4 cols rows kd thr bt tm rea gr vl so dy cg ++ LW D q9_6 q9_7 q9_8 q9_9 q9_10 q9_11 z9.2.2.2.2.2.2.2.1 z9.2.2.2.2.2.2.2.2.2.1 z9.1 z9.2.1 z9.2.2.1 z9.2.2.2.1 z9.2.2.2.2.1 tm z9.2.2.2.2.2.2.1 z36 z9.2.2.2.2.2.2.2.2.2.2.1 z9.2.2.2.2.2.2.2.2.2.2.2.1 z9.2.2.2.2.2.2.2.2.2.2.2.2.1 z9.2.2.2.2.2.2.2.2.2.2.2.2.2) X 1 7 0 hz36 (fun _ _ => rfl) rfl rfl rfl rfl q361 (Nat.le_of_ble_eq_true rfl) (Nat.le_of_ble_eq_true rfl) dX1_copy_36 rfl rfl ?_
  refine v_aload_n 40 X 1 dX1_copy_39 rfl rfl rfl ?_
  refine v_get 43 X in_X1 0 8 rfl rfl (by decide) q155 rfl rfl dX1_copy_40 rfl ?_
  refine v_iconst (v := 0) 44 X dX1_copy_43 rfl ki_0 ?_
  refine v_aload_n 45 X 0 dX1_copy_44 rfl rfl rfl ?_
  refine v_get 48 X in_X1 6 8 rfl rfl (by decide) q155 rfl rfl dX1_copy_45 rfl ?_
  refine v_iconst (v := 0) 49 X dX1_copy_48 rfl ki_0 ?_
  refine v_aload_n 50 X 1 dX1_copy_49 rfl rfl rfl ?_
  refine v_get 53 X in_X1 0 8 rfl rfl (by decide) q155 rfl rfl dX1_copy_50 rfl ?_
  refine v_alen 54 X 2 4 rfl rfl rfl dX1_copy_53 rfl ?_
  obtain ⟨z54, hz54, hF⟩ := ob hF
  refine v_cpyV 57 (LW D b0 b1 b2 b3 b4 b5 n n4 cols rows kd thr bt tm rea gr vl so dy cg ++ LW D q9_6 q9_7 q9_8 q9_9 q9_10 q9_11 z9.2.2.2.2.2.2.2.1 z9.2.2.2.2.2.2.2.2.2.1 z9.1 z9.2.1 z9.2.2.1 z9.2.2.2.1 z9.2.2.2.2.1 tm z9.2.2.2.2.2.2.1 z36 z54 z9.2.2.2.2.2.2.2.2.2.2.2.1 z9.2.2.2.2.2.2.2.2.2.2.2.2.1 z9.2.2.2.2.2.2.2.2.2.2.2.2.2) X hAm 2 8 hz54 rfl rfl q361 (Nat.le_of_ble_eq_true rfl) (Nat.le_of_ble_eq_true rfl) dX1_copy_54 rfl rfl ?_
  refine v_aload_n 58 X 1 dX1_copy_57 rfl rfl rfl ?_
  refine v_get 61 X in_X1 0 9 rfl rfl (by decide) q158 rfl rfl dX1_copy_58 rfl ?_
  refine v_iconst (v := 0) 62 X dX1_copy_61 rfl ki_0 ?_
  refine v_aload_n 63 X 0 dX1_copy_62 rfl rfl rfl ?_
  refine v_get 66 X in_X1 6 9 rfl rfl (by decide) q158 rfl rfl dX1_copy_63 rfl ?_
  refine v_iconst (v := 0) 67 X dX1_copy_66 rfl ki_0 ?_
  refine v_aload_n 68 X 1 dX1_copy_67 rfl rfl rfl ?_
  refine v_get 71 X in_X1 0 9 rfl rfl (by decide) q158 rfl rfl dX1_copy_68 rfl ?_
  refine v_alen 72 X 3 0 rfl rfl rfl dX1_copy_71 rfl ?_
  obtain ⟨z72, hz72, hF⟩ := ob hF
  refine v_cpy 75 (LW D b0 b1 b2 b3 b4 b5 n n4 cols rows kd thr bt tm rea gr vl so dy cg ++ LW D q9_6 q9_7 q9_8 q9_9 q9_10 q9_11 z9.2.2.2.2.2.2.2.1 z9.2.2.2.2.2.2.2.2.2.1 z9.1 z9.2.1 z9.2.2.1 z9.2.2.2.1 z9.2.2.2.2.1 tm z9.2.2.2.2.2.2.1 z36 z54 z72 z9.2.2.2.2.2.2.2.2.2.2.2.2.1 z9.2.2.2.2.2.2.2.2.2.2.2.2.2) X 3 9 0 hz72 (fun _ _ => rfl) rfl rfl rfl rfl q361 (Nat.le_of_ble_eq_true rfl) (Nat.le_of_ble_eq_true rfl) dX1_copy_72 rfl rfl ?_
  refine v_aload_n 76 X 1 dX1_copy_75 rfl rfl rfl ?_
  refine v_get 79 X in_X1 0 10 rfl rfl (by decide) q161 rfl rfl dX1_copy_76 rfl ?_
  refine v_iconst (v := 0) 80 X dX1_copy_79 rfl ki_0 ?_
  refine v_aload_n 81 X 0 dX1_copy_80 rfl rfl rfl ?_
  refine v_get 84 X in_X1 6 10 rfl rfl (by decide) q161 rfl rfl dX1_copy_81 rfl ?_
  refine v_iconst (v := 0) 85 X dX1_copy_84 rfl ki_0 ?_
  refine v_aload_n 86 X 1 dX1_copy_85 rfl rfl rfl ?_
  refine v_get 89 X in_X1 0 10 rfl rfl (by decide) q161 rfl rfl dX1_copy_86 rfl ?_
  refine v_alen 90 X 4 0 rfl rfl rfl dX1_copy_89 rfl ?_
  obtain ⟨z90, hz90, hF⟩ := ob hF
  refine v_cpy 93 (LW D b0 b1 b2 b3 b4 b5 n n4 cols rows kd thr bt tm rea gr vl so dy cg ++ LW D q9_6 q9_7 q9_8 q9_9 q9_10 q9_11 z9.2.2.2.2.2.2.2.1 z9.2.2.2.2.2.2.2.2.2.1 z9.1 z9.2.1 z9.2.2.1 z9.2.2.2.1 z9.2.2.2.2.1 tm z9.2.2.2.2.2.2.1 z36 z54 z72 z90 z9.2.2.2.2.2.2.2.2.2.2.2.2.2) X 4 10 0 hz90 (fun _ _ => rfl) rfl rfl rfl rfl q361 (Nat.le_of_ble_eq_true rfl) (Nat.le_of_ble_eq_true rfl) dX1_copy_90 rfl rfl ?_
  refine v_aload_n 94 X 1 dX1_copy_93 rfl rfl rfl ?_
  refine v_get 97 X in_X1 0 11 rfl rfl (by decide) q163 rfl rfl dX1_copy_94 rfl ?_
  refine v_iconst (v := 0) 98 X dX1_copy_97 rfl ki_0 ?_
  refine v_aload_n 99 X 0 dX1_copy_98 rfl rfl rfl ?_
  refine v_get 102 X in_X1 6 11 rfl rfl (by decide) q163 rfl rfl dX1_copy_99 rfl ?_
  refine v_iconst (v := 0) 103 X dX1_copy_102 rfl ki_0 ?_
  refine v_aload_n 104 X 1 dX1_copy_103 rfl rfl rfl ?_
  refine v_get 107 X in_X1 0 11 rfl rfl (by decide) q163 rfl rfl dX1_copy_104 rfl ?_
  refine v_alen 108 X 5 1 rfl rfl rfl dX1_copy_107 rfl ?_
  obtain ⟨z108, hz108, hF⟩ := ob hF
  refine v_cpy 111 (LW D b0 b1 b2 b3 b4 b5 n n4 cols rows kd thr bt tm rea gr vl so dy cg ++ LW D q9_6 q9_7 q9_8 q9_9 q9_10 q9_11 z9.2.2.2.2.2.2.2.1 z9.2.2.2.2.2.2.2.2.2.1 z9.1 z9.2.1 z9.2.2.1 z9.2.2.2.1 z9.2.2.2.2.1 tm z9.2.2.2.2.2.2.1 z36 z54 z72 z90 z108) X 5 11 1 (cpyZ_s hz108).1 (cpyZ_s hz108).2 rfl rfl rfl rfl q361 (Nat.le_of_ble_eq_true rfl) (Nat.le_of_ble_eq_true rfl) dX1_copy_108 rfl rfl ?_
  refine v_aload_n 112 X 0 dX1_copy_111 rfl rfl rfl ?_
  obtain rfl := Option.some.inj hF
  refine v_aret (post := (fun r : Int32 × Int32 × Nat × Int32 × Int32 × Int32 × Int32 × Nat × (Nat → Int32) × Nat × (Nat → Nat) × (Nat → Int32) × (Nat → Int32) × (Nat → Int32) => (fun a1 u => ∃ qa6 qa7 qa8 qa9 qa10 qa11 : Nat, a1 = qa6 ∧ u = (LW D b0 b1 b2 b3 b4 b5 n n4 cols rows kd thr bt tm rea gr vl so dy cg ++ LW D qa6 qa7 qa8 qa9 qa10 qa11 r.2.2.2.2.2.2.2.1 r.2.2.2.2.2.2.2.2.2.1 r.1 r.2.1 r.2.2.1 r.2.2.2.1 r.2.2.2.2.1 r.2.2.2.2.2.1 r.2.2.2.2.2.2.1 r.2.2.2.2.2.2.2.2.1 r.2.2.2.2.2.2.2.2.2.2.1 r.2.2.2.2.2.2.2.2.2.2.2.1 r.2.2.2.2.2.2.2.2.2.2.2.2.1 r.2.2.2.2.2.2.2.2.2.2.2.2.2))) (z9.1, z9.2.1, z9.2.2.1, z9.2.2.2.1, z9.2.2.2.2.1, tm, z9.2.2.2.2.2.2.1, z9.2.2.2.2.2.2.2.1, z36, z9.2.2.2.2.2.2.2.2.2.1, z54, z72, z90, z108)) X hr (Or.inl ⟨_, rfl⟩) ?_ ?_ ?_ dX1_copy_112
  · exact ⟨q9_6, q9_7, q9_8, q9_9, q9_10, q9_11, rfl, rfl⟩
  · exact Nat.le_of_ble_eq_true rfl
  · exact Nat.le_of_ble_eq_true rfl
theorem w_X1_lambda_mark_8 (v0 : Nat) (v1 : Int32) (r : Int32) (hF : L_lambda_mark_8 v0 = some r) : CTi l yX1_lambda_mark_8 cX1_lambda_mark_8 2 (Option.some Jvm.ClassFile.FieldType.boolean) rmX1_lambda_mark_8 D ([]) [.ref (adV D v0), .int v1] (AMB D) (fun r1 u => r1 = r ∧ u = ([])) := by
  refine m_i (by decide) (Nat.le_of_ble_eq_true rfl) ?_
  intro p e s m args below meth c A B
  obtain ⟨X, hr, hAm, -, hnm, hnmd⟩ := B
  replace X : CX p s m args meth c D A cX1_lambda_mark_8 2 "DyeLattice$Lattice" := X
  refine v_lv (lv' := [(0, .ref (adV D v0)), (1, .int v1)]) [0, 1] rfl ?_
  unfold L_lambda_mark_8 at hF
  refine v_aload_n 1 X 0 dX1_lambda_mark_8_0 rfl rfl rfl ?_
  refine v_getV 4 X hAm 1 (by decide) (by rfl) q1014 dX1_lambda_mark_8_1 rfl ?_
  obtain ⟨z4, hz4, hF⟩ := ob hF
  refine v_acmpV_eq 7 11 X hAm hz4 dX1_lambda_mark_8_4 rfl (by decide) (fun h4 => ?_) (fun h4 => ?_)
  · replace hF := ifp h4 hF
    refine v_iconst (v := 0) 12 X dX1_lambda_mark_8_11 rfl ki_0 ?_
    obtain rfl := Option.some.inj hF
    exact v_zret X hr rfl ⟨rfl, rfl⟩ (Nat.le_of_ble_eq_true rfl) (Nat.le_of_ble_eq_true rfl) dX1_lambda_mark_8_12
  · replace hF := ifn h4 hF
    refine v_iconst (v := 1) 8 X dX1_lambda_mark_8_7 rfl ki_1 ?_
    refine v_goto 12 X dX1_lambda_mark_8_8 (by decide) ?_
    obtain rfl := Option.some.inj hF
    exact v_zret X hr rfl ⟨rfl, rfl⟩ (Nat.le_of_ble_eq_true rfl) (Nat.le_of_ble_eq_true rfl) dX1_lambda_mark_8_12
theorem w_X1_lambda_reached_0 (v0 : Nat) (v1 : Int32) (r : Int32) (hF : L_lambda_reached_0 v0 v1 = some r) : CTi l yX1_lambda_reached_0 cX1_lambda_reached_0 2 (Option.some Jvm.ClassFile.FieldType.boolean) rmX1_lambda_reached_0 D ([]) [.ref (adV D v0), .int v1] (AMB D) (fun r1 u => r1 = r ∧ u = ([])) := by
  refine m_i (by decide) (Nat.le_of_ble_eq_true rfl) ?_
  intro p e s m args below meth c A B
  obtain ⟨X, hr, hAm, -, hnm, hnmd⟩ := B
  replace X : CX p s m args meth c D A cX1_lambda_reached_0 2 "DyeLattice$Lattice" := X
  refine v_lv (lv' := [(0, .ref (adV D v0)), (1, .int v1)]) [0, 1] rfl ?_
  unfold L_lambda_reached_0 at hF
  refine v_aload_n 1 X 0 dX1_lambda_reached_0_0 rfl rfl rfl ?_
  refine v_iload_n 2 X 1 dX1_lambda_reached_0_1 rfl rfl rfl ?_
  refine v_iconst (v := 1) 3 X dX1_lambda_reached_0_2 rfl ki_1 ?_
  obtain ⟨z3, hz3, hF⟩ := ob hF
  refine v_lets 6 X hAm hz3 q947 ⟨Nat.le_of_ble_eq_true rfl, Nat.le_of_ble_eq_true rfl⟩ ⟨(Nat.le_of_ble_eq_true rfl), (Nat.le_of_ble_eq_true rfl)⟩ rfl (Nat.le_of_ble_eq_true rfl) dX1_lambda_reached_0_3 rfl ?_
  obtain ⟨z6, hz6, hF⟩ := ob hF
  refine v_topi (zck_s hz6).1 ?_
  obtain rfl := Option.some.inj hF
  exact v_zret X hr (zck_s hz6).2.1 ⟨rfl, rfl⟩ (Nat.le_of_ble_eq_true rfl) (Nat.le_of_ble_eq_true rfl) dX1_lambda_reached_0_6
theorem w_X1_lambda_hasWay_3 (v0 : Int32) (v1 : Int32) (r : Int32) (hF : L_lambda_hasWay_3 v0 v1 = some r) : CTi l yX1_lambda_hasWay_3 cX1_lambda_hasWay_3 2 (Option.some Jvm.ClassFile.FieldType.boolean) rmX1_lambda_hasWay_3 D ([]) [.int v0, .int v1] (AMB D) (fun r1 u => r1 = r ∧ u = ([])) := by
  refine m_i (by decide) (Nat.le_of_ble_eq_true rfl) ?_
  intro p e s m args below meth c A B
  obtain ⟨X, hr, hAm, -, hnm, hnmd⟩ := B
  replace X : CX p s m args meth c D A cX1_lambda_hasWay_3 2 "DyeLattice$Lattice" := X
  refine v_lv (lv' := [(0, .int v0), (1, .int v1)]) [0, 1] rfl ?_
  unfold L_lambda_hasWay_3 at hF
  refine v_iload_n 1 X 1 dX1_lambda_hasWay_3_0 rfl rfl rfl ?_
  refine v_iload_n 2 X 0 dX1_lambda_hasWay_3_1 rfl rfl rfl ?_
  refine v_icmp_ne 5 9 X dX1_lambda_hasWay_3_2 rfl (by decide) (fun h2 => ?_) (fun h2 => ?_)
  · replace hF := ifn h2 hF
    refine v_iconst (v := 0) 10 X dX1_lambda_hasWay_3_9 rfl ki_0 ?_
    obtain rfl := Option.some.inj hF
    exact v_zret X hr rfl ⟨rfl, rfl⟩ (Nat.le_of_ble_eq_true rfl) (Nat.le_of_ble_eq_true rfl) dX1_lambda_hasWay_3_10
  · replace hF := ifp h2 hF
    refine v_iconst (v := 1) 6 X dX1_lambda_hasWay_3_5 rfl ki_1 ?_
    refine v_goto 10 X dX1_lambda_hasWay_3_6 (by decide) ?_
    obtain rfl := Option.some.inj hF
    exact v_zret X hr rfl ⟨rfl, rfl⟩ (Nat.le_of_ble_eq_true rfl) (Nat.le_of_ble_eq_true rfl) dX1_lambda_hasWay_3_10
theorem w_X1_flood_a_14 (X : CX p s m args meth c D A cX1_flood 10 "DyeLattice$Lattice") (hAm : AMB D A s) (hl0 : LamO (D.1 306) [.ref b0, .int k0, .int k1] t1 A s.heap) (hl1 : LamO (D.1 304) [] (D.2 204 4) A s.heap) {q4 : Nat} {cb sb : Nat} (hcb : cb ≤ rmX1_flood_a.cells) (hsb : sb ≤ rmX1_flood_a.slots) : ∀ (fu : Nat) (x : Int32 × Int32 × (Nat → Int32)) (o : (Int32 × (Nat → Int32))), loopN (fun x => L_flood_14 n mk x.1 x.2.1 x.2.2) fu x = some o → (V p l e rmX1_flood_a s m args below meth c D A 10 Q ([(bm, .inl (D.1 101, n, .inl mk))] ++ LW D b0 b1 b2 b3 b4 b5 n n4 cols rows kd thr bt tm rea gr vl so dy cg ++ [(q4, .inl (D.1 100, n, .inl o.2))]) cb sb 46 [(0, .ref b0), (1, .ref bm), (2, .ref t1), (3, .ref (D.2 204 4)), (4, .ref q4), (5, .int o.1)] []) → V p l e rmX1_flood_a s m args below meth c D A 10 Q ([(bm, .inl (D.1 101, n, .inl mk))] ++ LW D b0 b1 b2 b3 b4 b5 n n4 cols rows kd thr bt tm rea gr vl so dy cg ++ [(q4, .inl (D.1 100, n, .inl x.2.2))]) cb sb 14 [(0, .ref b0), (1, .ref bm), (2, .ref t1), (3, .ref (D.2 204 4)), (4, .ref q4), (5, .int x.1), (6, .int x.2.1)] [] := by
  refine v_loop (fun (x : Int32 × Int32 × (Nat → Int32)) => V p l e rmX1_flood_a s m args below meth c D A 10 Q ([(bm, .inl (D.1 101, n, .inl mk))] ++ LW D b0 b1 b2 b3 b4 b5 n n4 cols rows kd thr bt tm rea gr vl so dy cg ++ [(q4, .inl (D.1 100, n, .inl x.2.2))]) cb sb 14 [(0, .ref b0), (1, .ref bm), (2, .ref t1), (3, .ref (D.2 204 4)), (4, .ref q4), (5, .int x.1), (6, .int x.2.1)] []) (fun (o : (Int32 × (Nat → Int32))) => V p l e rmX1_flood_a s m args below meth c D A 10 Q ([(bm, .inl (D.1 101, n, .inl mk))] ++ LW D b0 b1 b2 b3 b4 b5 n n4 cols rows kd thr bt tm rea gr vl so dy cg ++ [(q4, .inl (D.1 100, n, .inl o.2))]) cb sb 46 [(0, .ref b0), (1, .ref bm), (2, .ref t1), (3, .ref (D.2 204 4)), (4, .ref q4), (5, .int o.1)] []) ?_
  rintro ⟨v5, v6, kn4⟩ r hF hI hO
  replace hF : L_flood_14 n mk v5 v6 kn4 = some r := hF
  show V p l e rmX1_flood_a s m args below meth c D A 10 Q ([(bm, .inl (D.1 101, n, .inl mk))] ++ LW D b0 b1 b2 b3 b4 b5 n n4 cols rows kd thr bt tm rea gr vl so dy cg ++ [(q4, .inl (D.1 100, n, .inl kn4))]) cb sb 14 [(0, .ref b0), (1, .ref bm), (2, .ref t1), (3, .ref (D.2 204 4)), (4, .ref q4), (5, .int v5), (6, .int v6)] []
  unfold L_flood_14 at hF
  refine v_iload 16 X 6 dX1_flood_14 rfl rfl ?_
  refine v_aload_n 17 X 0 dX1_flood_16 rfl rfl rfl ?_
  have hz17 : L_cells n = some (nI n) := rfl
  refine vc_Vi (wr := ([(bm, .inl (D.1 101, n, .inl mk)), (q4, .inl (D.1 100, n, .inl kn4))])) 20 cb sb X 0 [] [1, 2, 3, 4, 5, 6] [0, 7] (LW D b0 b1 b2 b3 b4 b5 n n4 cols rows kd thr bt tm rea gr vl so dy cg) rfl rfl (by decide) (by decide) (by decide) (w_X1_cells _ hz17) q394 q345 q346 q85 q347 hdX1_cells 1 rfl rfl (pass_amb hAm) ⟨Nat.le_of_ble_eq_true rfl, Nat.le_of_ble_eq_true rfl⟩ ⟨(by exact hcb), (by exact hsb)⟩ rfl rfl (Nat.le_of_ble_eq_true rfl) dX1_flood_17 rfl (by show cb + 0 = cb + 0; omega) (by show sb + 0 = sb + 0; omega) (fun r17 u17 e17 => ?_)
  obtain ⟨e171, rfl⟩ := e17
  have e172 := e171.symm
  subst e172
  refine v_ws (ws' := ([(bm, .inl (D.1 101, n, .inl mk)), (q4, .inl (D.1 100, n, .inl kn4))] ++ LW D b0 b1 b2 b3 b4 b5 n n4 cols rows kd thr bt tm rea gr vl so dy cg)) [0, 1, 2, 3, 4, 5, 6, 7] (by decide) rfl ?_
  refine v_icmp_ge 23 46 X dX1_flood_20 rfl (by decide) (fun h20 => ?_) (fun h20 => ?_)
  · replace hF := ifp h20 hF
    obtain rfl := Option.some.inj hF
    refine v_ws (ws' := ([(bm, .inl (D.1 101, n, .inl mk))] ++ LW D b0 b1 b2 b3 b4 b5 n n4 cols rows kd thr bt tm rea gr vl so dy cg ++ [(q4, .inl (D.1 100, n, .inl kn4))])) [0, 2, 3, 4, 5, 6, 7, 1] (by decide) rfl ?_
    exact v_lv [0, 1, 2, 3, 4, 5] rfl ((hO _ rfl))
  · replace hF := ifn h20 hF
    refine v_aload_n 24 X 1 dX1_flood_23 rfl rfl rfl ?_
    refine v_iload 26 X 6 dX1_flood_24 rfl rfl ?_
    obtain ⟨z26, hz26, hF⟩ := ob hF
    refine v_zald 27 X 0 hz26 rfl dX1_flood_26 rfl ?_
    refine v_if_eq 30 40 X dX1_flood_27 rfl (by decide) (fun h27 => ?_) (fun h27 => ?_)
    · replace hF := ifp h27 hF
      refine v_iinc (v := (v6 + 1)) 43 [(6, .int (v6 + 1)), (0, .ref b0), (1, .ref bm), (2, .ref t1), (3, .ref (D.2 204 4)), (4, .ref q4), (5, .int v5)] X 6 dX1_flood_40 rfl rfl (by rfl) (by decide) rfl ?_
      refine v_goto 14 X dX1_flood_43 (by decide) ?_
      obtain rfl := Option.some.inj hF
      refine v_ws (ws' := ([(bm, .inl (D.1 101, n, .inl mk))] ++ LW D b0 b1 b2 b3 b4 b5 n n4 cols rows kd thr bt tm rea gr vl so dy cg ++ [(q4, .inl (D.1 100, n, .inl kn4))])) [0, 2, 3, 4, 5, 6, 7, 1] (by decide) rfl ?_
      exact v_lv [1, 2, 3, 4, 5, 6, 0] rfl (hI _ rfl)
    · replace hF := ifn h27 hF
      refine v_aload 32 X 4 dX1_flood_30 rfl rfl ?_
      refine v_iload 34 X 5 dX1_flood_32 rfl rfl ?_
      refine v_iload 36 X 6 dX1_flood_34 rfl rfl ?_
      obtain ⟨z36, hz36, hF⟩ := ob hF
      refine v_iast 37 ([(bm, .inl (D.1 101, n, .inl mk)), (q4, .inl (D.1 100, n, .inl z36))] ++ LW D b0 b1 b2 b3 b4 b5 n n4 cols rows kd thr bt tm rea gr vl so dy cg) X 1 hz36 rfl dX1_flood_36 rfl rfl ?_
      refine v_iinc (v := (v5 + 1)) 40 [(5, .int (v5 + 1)), (0, .ref b0), (1, .ref bm), (2, .ref t1), (3, .ref (D.2 204 4)), (4, .ref q4), (6, .int v6)] X 5 dX1_flood_37 rfl rfl (by rfl) (by decide) rfl ?_
      refine v_iinc (v := (v6 + 1)) 43 [(6, .int (v6 + 1)), (5, .int (v5 + 1)), (0, .ref b0), (1, .ref bm), (2, .ref t1), (3, .ref (D.2 204 4)), (4, .ref q4)] X 6 dX1_flood_40 rfl rfl (by rfl) (by decide) rfl ?_
      refine v_goto 14 X dX1_flood_43 (by decide) ?_
      obtain rfl := Option.some.inj hF
      refine v_ws (ws' := ([(bm, .inl (D.1 101, n, .inl mk))] ++ LW D b0 b1 b2 b3 b4 b5 n n4 cols rows kd thr bt tm rea gr vl so dy cg ++ [(q4, .inl (D.1 100, n, .inl z36))])) [0, 2, 3, 4, 5, 6, 7, 1] (by decide) rfl ?_
      exact v_lv [2, 3, 4, 5, 6, 1, 0] rfl (hI _ rfl)
theorem w_X1_flood_a_59_j149 (X : CX p s m args meth c D A cX1_flood 10 "DyeLattice$Lattice") (hAm : AMB D A s) (hl0 : LamO (D.1 306) [.ref b0, .int k0, .int k1] t1 A s.heap) (hl1 : LamO (D.1 304) [] (D.2 204 4) A s.heap) {cb sb : Nat} {q4 : Nat} (v5 : Int32) (v6 : Int32) (v7 : Int32) (kn4 : (Nat → Int32)) (hcb : cb ≤ rmX1_flood_a.cells) (hsb : sb ≤ rmX1_flood_a.slots) {r : (Int32 × Int32 × (Nat → Int32) × (Nat → Int32)) ⊕ (Int32 × (Nat → Int32) × (Nat → Int32))} (hI : ∀ y, r = .inl y → V p l e rmX1_flood_a s m args below meth c D A 10 Q ([(bm, .inl (D.1 101, n, .inl y.2.2.1)), (q4, .inl (D.1 100, n, .inl y.2.2.2))] ++ LW D b0 b1 b2 b3 b4 b5 n n4 cols rows kd thr bt tm rea gr vl so dy cg) cb sb 59 [(0, .ref b0), (1, .ref bm), (2, .ref t1), (3, .ref (D.2 204 4)), (4, .ref q4), (5, .int y.1), (6, .int v6), (7, .int y.2.1)] []) (hO : ∀ y, r = .inr y → (V p l e rmX1_flood_a s m args below meth c D A 10 Q ([(bm, .inl (D.1 101, n, .inl y.2.1)), (q4, .inl (D.1 100, n, .inl y.2.2))] ++ LW D b0 b1 b2 b3 b4 b5 n n4 cols rows kd thr bt tm rea gr vl so dy cg) cb sb 230 [(0, .ref b0), (1, .ref bm), (2, .ref t1), (3, .ref (D.2 204 4)), (4, .ref q4), (5, .int y.1), (6, .int v6)] [])) (hF : L_flood_59_j149 cols rows n n4 vl (fun x => L_lambda_spans_2 n gr k0 k1 x) (fun x y => L_lambda_reached_0 x y) v5 v6 v7 kn4 mk = some r) : V p l e rmX1_flood_a s m args below meth c D A 10 Q ([(bm, .inl (D.1 101, n, .inl mk)), (q4, .inl (D.1 100, n, .inl kn4))] ++ LW D b0 b1 b2 b3 b4 b5 n n4 cols rows kd thr bt tm rea gr vl so dy cg) cb sb 149 [(0, .ref b0), (1, .ref bm), (2, .ref t1), (3, .ref (D.2 204 4)), (4, .ref q4), (5, .int v5), (6, .int v6), (7, .int v7)] [] := by
  unfold L_flood_59_j149 at hF
  refine v_aload_n 150 X 0 dX1_flood_149 rfl rfl rfl ?_
  refine v_aload 152 X 4 dX1_flood_150 rfl rfl ?_
  refine v_iload 154 X 6 dX1_flood_152 rfl rfl ?_
  obtain ⟨z154, hz154, hF⟩ := ob hF
  refine v_iald 155 X 1 hz154 rfl dX1_flood_154 rfl ?_
  refine v_iload 157 X 7 dX1_flood_155 rfl rfl ?_
  obtain ⟨z157, hz157, hF⟩ := ob hF
  refine vc_Vi (wr := ([(bm, .inl (D.1 101, n, .inl mk)), (q4, .inl (D.1 100, n, .inl kn4))])) 160 cb sb X 2 [.int z154, .int v7] [2, 3, 4, 5, 6, 7] [0, 1] (LW D b0 b1 b2 b3 b4 b5 n n4 cols rows kd thr bt tm rea gr vl so dy cg) rfl rfl (by decide) (by decide) (by decide) (w_X1_first z154 v7 _ hz157) q943 q945 qs19 q85 q946 hdX1_first 2 rfl rfl (pass_amb hAm) ⟨Nat.le_of_ble_eq_true rfl, Nat.le_of_ble_eq_true rfl⟩ ⟨(by exact hcb), (by exact hsb)⟩ rfl rfl (Nat.le_of_ble_eq_true rfl) dX1_flood_157 rfl (by show cb + 0 = cb + 0; omega) (by show sb + 0 = sb + 0; omega) (fun r157 u157 e157 => ?_)
  obtain ⟨e1571, rfl⟩ := e157
  have e1572 := e1571.symm
  subst e1572
  refine v_ws (ws' := ([(bm, .inl (D.1 101, n, .inl mk)), (q4, .inl (D.1 100, n, .inl kn4))] ++ LW D b0 b1 b2 b3 b4 b5 n n4 cols rows kd thr bt tm rea gr vl so dy cg)) [0, 1, 2, 3, 4, 5, 6, 7] (by decide) rfl ?_
  refine v_istore 162 [(9, .int z157), (0, .ref b0), (1, .ref bm), (2, .ref t1), (3, .ref (D.2 204 4)), (4, .ref q4), (5, .int v5), (6, .int v6), (7, .int v7)] X dX1_flood_160 rfl (by decide) rfl ?_
  refine v_iload 164 X 0 dX1_flood_162 rfl rfl ?_
  refine v_bipush (v := (-9)) 166 X dX1_flood_164 rfl kb_m9 ?_
  refine v_icmp_eq 169 224 X dX1_flood_166 rfl (by decide) (fun h166 => ?_) (fun h166 => ?_)
  · replace hF := ifp h166 hF
    refine v_iinc (v := (v7 + 1)) 227 [(7, .int (v7 + 1)), (9, .int z157), (0, .ref b0), (1, .ref bm), (2, .ref t1), (3, .ref (D.2 204 4)), (4, .ref q4), (5, .int v5), (6, .int v6)] X 8 dX1_flood_224 rfl rfl (by rfl) (by decide) rfl ?_
    refine v_goto 59 X dX1_flood_227 (by decide) ?_
    obtain rfl := Option.some.inj hF
    exact v_lv [2, 3, 4, 5, 6, 7, 8, 0] rfl (hI _ rfl)
  · replace hF := ifn h166 hF
    refine v_aload_n 170 X 2 dX1_flood_169 rfl rfl rfl ?_
    refine v_iload 172 X 0 dX1_flood_170 rfl rfl ?_
    obtain ⟨z172, hz172, hF⟩ := ob hF
    refine v_zald 173 X 0 hz172 rfl dX1_flood_172 rfl ?_
    refine v_if_ne 176 224 X dX1_flood_173 rfl (by decide) (fun h173 => ?_) (fun h173 => ?_)
    · replace hF := ifn h173 hF
      refine v_iinc (v := (v7 + 1)) 227 [(7, .int (v7 + 1)), (9, .int z157), (0, .ref b0), (1, .ref bm), (2, .ref t1), (3, .ref (D.2 204 4)), (4, .ref q4), (5, .int v5), (6, .int v6)] X 8 dX1_flood_224 rfl rfl (by rfl) (by decide) rfl ?_
      refine v_goto 59 X dX1_flood_227 (by decide) ?_
      obtain rfl := Option.some.inj hF
      exact v_lv [2, 3, 4, 5, 6, 7, 8, 0] rfl (hI _ rfl)
    · replace hF := ifp h173 hF
      refine v_aload_n 177 X 3 dX1_flood_176 rfl rfl rfl ?_
      refine v_iload 179 X 0 dX1_flood_177 rfl rfl ?_
      obtain ⟨z179, hz179, hF⟩ := ob hF
      obtain ⟨hz179, hnz179⟩ := tz_s hz179
      replace hz179 : L_lambda_spans_2 n gr k0 k1 z157 = some z179 := hz179
      refine v_icI (wr := ([(bm, .inl (D.1 101, n, .inl mk)), (q4, .inl (D.1 100, n, .inl kn4))])) 184 X hAm 0 6 (by decide) (by decide) (σ := sg6) rfl rfl rfl (by decide +kernel) rfl rfl (by decide) sok6 fd6_13 hl0 (y := yX1_lambda_spans_2) rfl rfl (by decide +kernel) [.int k0, .int k1, .int z157] [.int z157] [2, 3, 4, 5, 6, 7] [0, 1] (LW D b0 b1 b2 b3 b4 b5 n n4 cols rows kd thr bt tm rea gr vl so dy cg) rfl rfl (by decide) (by decide) (by decide) (w_X1_lambda_spans_2 k0 k1 z157 _ hz179) (fbI3 fd6_0 fd6_1 fd6_4 fd6_5 fd6_8 fd6_9 fd6_12 fd6_13 fd6_16) hnz179 (ic_link dX1_flood_179 q1021) q1107 qs31 2 rfl rfl q85 q1108 ⟨by decide, by decide⟩ hdX1_lambda_spans_2.2.2.2 ifl0 ⟨Nat.le_of_ble_eq_true rfl, Nat.le_of_ble_eq_true rfl⟩ ⟨(by exact hcb), (by exact hsb)⟩ rfl (Nat.le_of_ble_eq_true rfl) dX1_flood_179 rfl ?_
      refine v_ws (ws' := ([(bm, .inl (D.1 101, n, .inl mk)), (q4, .inl (D.1 100, n, .inl kn4))] ++ LW D b0 b1 b2 b3 b4 b5 n n4 cols rows kd thr bt tm rea gr vl so dy cg)) [0, 1, 2, 3, 4, 5, 6, 7] (by decide) rfl ?_
      refine v_if_eq 187 224 X dX1_flood_184 rfl (by decide) (fun h184 => ?_) (fun h184 => ?_)
      · replace hF := ifp h184 hF
        refine v_iinc (v := (v7 + 1)) 227 [(7, .int (v7 + 1)), (9, .int z157), (0, .ref b0), (1, .ref bm), (2, .ref t1), (3, .ref (D.2 204 4)), (4, .ref q4), (5, .int v5), (6, .int v6)] X 8 dX1_flood_224 rfl rfl (by rfl) (by decide) rfl ?_
        refine v_goto 59 X dX1_flood_227 (by decide) ?_
        obtain rfl := Option.some.inj hF
        exact v_lv [2, 3, 4, 5, 6, 7, 8, 0] rfl (hI _ rfl)
      · replace hF := ifn h184 hF
        refine v_aload_n 188 X 4 dX1_flood_187 rfl rfl rfl ?_
        refine v_aload_n 189 X 1 dX1_flood_188 rfl rfl rfl ?_
        refine v_get 192 X in_X1 2 8 rfl rfl (by decide) q155 rfl rfl dX1_flood_189 rfl ?_
        refine v_iconst (v := 4) 193 X dX1_flood_192 rfl ki_4 ?_
        refine v_iload 195 X 0 dX1_flood_193 rfl rfl ?_
        refine v_imul 196 X dX1_flood_195 rfl ?_
        refine v_iload 198 X 8 dX1_flood_196 rfl rfl ?_
        refine v_iadd 199 X dX1_flood_198 rfl ?_
        obtain ⟨z199, hz199, hF⟩ := ob hF
        refine v_aldV 200 X 4 hz199 rfl dX1_flood_199 rfl ?_
        refine v_iconst (v := 0) 201 X dX1_flood_200 rfl ki_0 ?_
        obtain ⟨z201, hz201, hF⟩ := ob hF
        obtain ⟨hz201, hnz201⟩ := tz_s hz201
        replace hz201 : L_lambda_reached_0 z199 0 = some z201 := hz201
        refine v_icS (wr := ([(bm, .inl (D.1 101, n, .inl mk)), (q4, .inl (D.1 100, n, .inl kn4))] ++ LW D b0 b1 b2 b3 b4 b5 n n4 cols rows kd thr bt tm rea gr vl so dy cg)) 206 X hAm 1 4 (by decide) (by decide) (σ := sg4) rfl rfl rfl (by decide +kernel) rfl rfl (by decide) sok4 fd4_2 (lamC hAm 4 (by decide) (by decide)) (y := yX1_lambda_reached_0) rfl rfl (by decide +kernel) [.ref (adV D z199), .int 0] [.ref (adV D z199), .int 0] [] [0, 1, 2, 3, 4, 5, 6, 7] ([] : va_W) rfl rfl (by decide) (by decide) (by decide) (w_X1_lambda_reached_0 z199 0 _ hz201) (fbS0 fd4_0 fd4_1 fd4_2 fd4_5) hnz201 (ic_link dX1_flood_201 q1025) q1075 q85 q1076 ⟨by decide, by decide⟩ hdX1_lambda_reached_0.2.2 ifl1 ⟨Nat.le_of_ble_eq_true rfl, Nat.le_of_ble_eq_true rfl⟩ ⟨(by exact hcb), (by exact hsb)⟩ rfl (Nat.le_of_ble_eq_true rfl) dX1_flood_201 rfl ?_
        refine v_ws (ws' := ([(bm, .inl (D.1 101, n, .inl mk)), (q4, .inl (D.1 100, n, .inl kn4))] ++ LW D b0 b1 b2 b3 b4 b5 n n4 cols rows kd thr bt tm rea gr vl so dy cg)) [0, 1, 2, 3, 4, 5, 6, 7] (by decide) rfl ?_
        refine v_if_eq 209 224 X dX1_flood_206 rfl (by decide) (fun h206 => ?_) (fun h206 => ?_)
        · replace hF := ifp h206 hF
          refine v_iinc (v := (v7 + 1)) 227 [(7, .int (v7 + 1)), (9, .int z157), (0, .ref b0), (1, .ref bm), (2, .ref t1), (3, .ref (D.2 204 4)), (4, .ref q4), (5, .int v5), (6, .int v6)] X 8 dX1_flood_224 rfl rfl (by rfl) (by decide) rfl ?_
          refine v_goto 59 X dX1_flood_227 (by decide) ?_
          obtain rfl := Option.some.inj hF
          exact v_lv [2, 3, 4, 5, 6, 7, 8, 0] rfl (hI _ rfl)
        · replace hF := ifn h206 hF
          refine v_aload_n 210 X 2 dX1_flood_209 rfl rfl rfl ?_
          refine v_iload 212 X 0 dX1_flood_210 rfl rfl ?_
          refine v_iconst (v := 1) 213 X dX1_flood_212 rfl ki_1 ?_
          obtain ⟨z213, hz213, hF⟩ := ob hF
          refine v_zast 214 ([(bm, .inl (D.1 101, n, .inl z213)), (q4, .inl (D.1 100, n, .inl kn4))] ++ LW D b0 b1 b2 b3 b4 b5 n n4 cols rows kd thr bt tm rea gr vl so dy cg) X 0 hz213 rfl dX1_flood_213 rfl rfl ?_
          refine v_aload 216 X 5 dX1_flood_214 rfl rfl ?_
          refine v_iload 218 X 6 dX1_flood_216 rfl rfl ?_
          refine v_iload 220 X 0 dX1_flood_218 rfl rfl ?_
          obtain ⟨z220, hz220, hF⟩ := ob hF
          refine v_iast 221 ([(bm, .inl (D.1 101, n, .inl z213)), (q4, .inl (D.1 100, n, .inl z220))] ++ LW D b0 b1 b2 b3 b4 b5 n n4 cols rows kd thr bt tm rea gr vl so dy cg) X 1 hz220 rfl dX1_flood_220 rfl rfl ?_
          refine v_iinc (v := (v5 + 1)) 224 [(5, .int (v5 + 1)), (9, .int z157), (0, .ref b0), (1, .ref bm), (2, .ref t1), (3, .ref (D.2 204 4)), (4, .ref q4), (6, .int v6), (7, .int v7)] X 6 dX1_flood_221 rfl rfl (by rfl) (by decide) rfl ?_
          refine v_iinc (v := (v7 + 1)) 227 [(7, .int (v7 + 1)), (5, .int (v5 + 1)), (9, .int z157), (0, .ref b0), (1, .ref bm), (2, .ref t1), (3, .ref (D.2 204 4)), (4, .ref q4), (6, .int v6)] X 8 dX1_flood_224 rfl rfl (by rfl) (by decide) rfl ?_
          refine v_goto 59 X dX1_flood_227 (by decide) ?_
          obtain rfl := Option.some.inj hF
          exact v_lv [3, 4, 5, 6, 7, 1, 8, 0] rfl (hI _ rfl)
theorem w_X1_flood_a_59 (X : CX p s m args meth c D A cX1_flood 10 "DyeLattice$Lattice") (hAm : AMB D A s) (hl0 : LamO (D.1 306) [.ref b0, .int k0, .int k1] t1 A s.heap) (hl1 : LamO (D.1 304) [] (D.2 204 4) A s.heap) {q4 : Nat} {cb sb : Nat} (hcb : cb ≤ rmX1_flood_a.cells) (hsb : sb ≤ rmX1_flood_a.slots) (v6 : Int32) : ∀ (fu : Nat) (x : Int32 × Int32 × (Nat → Int32) × (Nat → Int32)) (o : (Int32 × (Nat → Int32) × (Nat → Int32))), loopN (fun x => L_flood_59 v6 cols rows kd n n4 vl (fun x => L_lambda_spans_2 n gr k0 k1 x) (fun x y => L_lambda_reached_0 x y) x.1 x.2.1 x.2.2.1 x.2.2.2) fu x = some o → (V p l e rmX1_flood_a s m args below meth c D A 10 Q ([(bm, .inl (D.1 101, n, .inl o.2.1)), (q4, .inl (D.1 100, n, .inl o.2.2))] ++ LW D b0 b1 b2 b3 b4 b5 n n4 cols rows kd thr bt tm rea gr vl so dy cg) cb sb 230 [(0, .ref b0), (1, .ref bm), (2, .ref t1), (3, .ref (D.2 204 4)), (4, .ref q4), (5, .int o.1), (6, .int v6)] []) → V p l e rmX1_flood_a s m args below meth c D A 10 Q ([(bm, .inl (D.1 101, n, .inl x.2.2.1)), (q4, .inl (D.1 100, n, .inl x.2.2.2))] ++ LW D b0 b1 b2 b3 b4 b5 n n4 cols rows kd thr bt tm rea gr vl so dy cg) cb sb 59 [(0, .ref b0), (1, .ref bm), (2, .ref t1), (3, .ref (D.2 204 4)), (4, .ref q4), (5, .int x.1), (6, .int v6), (7, .int x.2.1)] [] := by
  refine v_loop (fun (x : Int32 × Int32 × (Nat → Int32) × (Nat → Int32)) => V p l e rmX1_flood_a s m args below meth c D A 10 Q ([(bm, .inl (D.1 101, n, .inl x.2.2.1)), (q4, .inl (D.1 100, n, .inl x.2.2.2))] ++ LW D b0 b1 b2 b3 b4 b5 n n4 cols rows kd thr bt tm rea gr vl so dy cg) cb sb 59 [(0, .ref b0), (1, .ref bm), (2, .ref t1), (3, .ref (D.2 204 4)), (4, .ref q4), (5, .int x.1), (6, .int v6), (7, .int x.2.1)] []) (fun (o : (Int32 × (Nat → Int32) × (Nat → Int32))) => V p l e rmX1_flood_a s m args below meth c D A 10 Q ([(bm, .inl (D.1 101, n, .inl o.2.1)), (q4, .inl (D.1 100, n, .inl o.2.2))] ++ LW D b0 b1 b2 b3 b4 b5 n n4 cols rows kd thr bt tm rea gr vl so dy cg) cb sb 230 [(0, .ref b0), (1, .ref bm), (2, .ref t1), (3, .ref (D.2 204 4)), (4, .ref q4), (5, .int o.1), (6, .int v6)] []) ?_
  rintro ⟨v5, v7, mk, kn4⟩ r hF hI hO
  replace hF : L_flood_59 v6 cols rows kd n n4 vl (fun x => L_lambda_spans_2 n gr k0 k1 x) (fun x y => L_lambda_reached_0 x y) v5 v7 mk kn4 = some r := hF
  show V p l e rmX1_flood_a s m args below meth c D A 10 Q ([(bm, .inl (D.1 101, n, .inl mk)), (q4, .inl (D.1 100, n, .inl kn4))] ++ LW D b0 b1 b2 b3 b4 b5 n n4 cols rows kd thr bt tm rea gr vl so dy cg) cb sb 59 [(0, .ref b0), (1, .ref bm), (2, .ref t1), (3, .ref (D.2 204 4)), (4, .ref q4), (5, .int v5), (6, .int v6), (7, .int v7)] []
  unfold L_flood_59 at hF
  refine v_iload 61 X 7 dX1_flood_59 rfl rfl ?_
  refine v_aload_n 62 X 0 dX1_flood_61 rfl rfl rfl ?_
  refine v_get 65 X in_X1 2 2 rfl rfl (by decide) q141 rfl rfl dX1_flood_62 rfl ?_
  obtain ⟨z65, hz65, hF⟩ := ob hF
  refine v_dir 68 X hAm hz65 q1579 dX1_flood_65 rfl ?_
  refine v_icmp_ge 71 230 X dX1_flood_68 rfl (by decide) (fun h68 => ?_) (fun h68 => ?_)
  · replace hF := ifp h68 hF
    obtain rfl := Option.some.inj hF
    exact v_lv [0, 1, 2, 3, 4, 5, 6] rfl ((hO _ rfl))
  · replace hF := ifn h68 hF
    refine v_aload_n 72 X 0 dX1_flood_71 rfl rfl rfl ?_
    refine v_aload 74 X 4 dX1_flood_72 rfl rfl ?_
    refine v_iload 76 X 6 dX1_flood_74 rfl rfl ?_
    obtain ⟨z76, hz76, hF⟩ := ob hF
    refine v_iald 77 X 1 hz76 rfl dX1_flood_76 rfl ?_
    refine v_iload 79 X 7 dX1_flood_77 rfl rfl ?_
    obtain ⟨z79, hz79, hF⟩ := ob hF
    refine vc_Vi (wr := ([(bm, .inl (D.1 101, n, .inl mk)), (q4, .inl (D.1 100, n, .inl kn4))])) 82 cb sb X 2 [.int z76, .int v7] [2, 3, 4, 5, 6, 7] [0, 1] (LW D b0 b1 b2 b3 b4 b5 n n4 cols rows kd thr bt tm rea gr vl so dy cg) rfl rfl (by decide) (by decide) (by decide) (w_X1_second z76 v7 _ hz79) q396 q397 q398 q85 q399 hdX1_second 2 rfl rfl (pass_amb hAm) ⟨Nat.le_of_ble_eq_true rfl, Nat.le_of_ble_eq_true rfl⟩ ⟨(by exact hcb), (by exact hsb)⟩ rfl rfl (Nat.le_of_ble_eq_true rfl) dX1_flood_79 rfl (by show cb + 0 = cb + 0; omega) (by show sb + 0 = sb + 0; omega) (fun r79 u79 e79 => ?_)
    obtain ⟨e791, rfl⟩ := e79
    have e792 := e791.symm
    subst e792
    refine v_ws (ws' := ([(bm, .inl (D.1 101, n, .inl mk)), (q4, .inl (D.1 100, n, .inl kn4))] ++ LW D b0 b1 b2 b3 b4 b5 n n4 cols rows kd thr bt tm rea gr vl so dy cg)) [0, 1, 2, 3, 4, 5, 6, 7] (by decide) rfl ?_
    refine v_istore 84 [(8, .int z79), (0, .ref b0), (1, .ref bm), (2, .ref t1), (3, .ref (D.2 204 4)), (4, .ref q4), (5, .int v5), (6, .int v6), (7, .int v7)] X dX1_flood_82 rfl (by decide) rfl ?_
    refine v_iload 86 X 0 dX1_flood_84 rfl rfl ?_
    refine v_bipush (v := (-9)) 88 X dX1_flood_86 rfl kb_m9 ?_
    refine v_icmp_eq 91 149 X dX1_flood_88 rfl (by decide) (fun h88 => ?_) (fun h88 => ?_)
    · replace hF := ifp h88 hF
      exact v_lv [1, 2, 3, 4, 5, 6, 7, 8] rfl (w_X1_flood_a_59_j149 X hAm hl0 hl1 v5 v6 v7 kn4 hcb hsb hI hO hF)
    · replace hF := ifn h88 hF
      refine v_aload_n 92 X 2 dX1_flood_91 rfl rfl rfl ?_
      refine v_iload 94 X 0 dX1_flood_92 rfl rfl ?_
      obtain ⟨z94, hz94, hF⟩ := ob hF
      refine v_zald 95 X 0 hz94 rfl dX1_flood_94 rfl ?_
      refine v_if_ne 98 149 X dX1_flood_95 rfl (by decide) (fun h95 => ?_) (fun h95 => ?_)
      · replace hF := ifn h95 hF
        exact v_lv [1, 2, 3, 4, 5, 6, 7, 8] rfl (w_X1_flood_a_59_j149 X hAm hl0 hl1 v5 v6 v7 kn4 hcb hsb hI hO hF)
      · replace hF := ifp h95 hF
        refine v_aload_n 99 X 3 dX1_flood_98 rfl rfl rfl ?_
        refine v_iload 101 X 0 dX1_flood_99 rfl rfl ?_
        obtain ⟨z101, hz101, hF⟩ := ob hF
        obtain ⟨hz101, hnz101⟩ := tz_s hz101
        replace hz101 : L_lambda_spans_2 n gr k0 k1 z79 = some z101 := hz101
        refine v_icI (wr := ([(bm, .inl (D.1 101, n, .inl mk)), (q4, .inl (D.1 100, n, .inl kn4))])) 106 X hAm 0 6 (by decide) (by decide) (σ := sg6) rfl rfl rfl (by decide +kernel) rfl rfl (by decide) sok6 fd6_13 hl0 (y := yX1_lambda_spans_2) rfl rfl (by decide +kernel) [.int k0, .int k1, .int z79] [.int z79] [2, 3, 4, 5, 6, 7] [0, 1] (LW D b0 b1 b2 b3 b4 b5 n n4 cols rows kd thr bt tm rea gr vl so dy cg) rfl rfl (by decide) (by decide) (by decide) (w_X1_lambda_spans_2 k0 k1 z79 _ hz101) (fbI3 fd6_0 fd6_1 fd6_4 fd6_5 fd6_8 fd6_9 fd6_12 fd6_13 fd6_16) hnz101 (ic_link dX1_flood_101 q1021) q1107 qs31 2 rfl rfl q85 q1108 ⟨by decide, by decide⟩ hdX1_lambda_spans_2.2.2.2 ifl0 ⟨Nat.le_of_ble_eq_true rfl, Nat.le_of_ble_eq_true rfl⟩ ⟨(by exact hcb), (by exact hsb)⟩ rfl (Nat.le_of_ble_eq_true rfl) dX1_flood_101 rfl ?_
        refine v_ws (ws' := ([(bm, .inl (D.1 101, n, .inl mk)), (q4, .inl (D.1 100, n, .inl kn4))] ++ LW D b0 b1 b2 b3 b4 b5 n n4 cols rows kd thr bt tm rea gr vl so dy cg)) [0, 1, 2, 3, 4, 5, 6, 7] (by decide) rfl ?_
        refine v_if_eq 109 149 X dX1_flood_106 rfl (by decide) (fun h106 => ?_) (fun h106 => ?_)
        · replace hF := ifp h106 hF
          exact v_lv [1, 2, 3, 4, 5, 6, 7, 8] rfl (w_X1_flood_a_59_j149 X hAm hl0 hl1 v5 v6 v7 kn4 hcb hsb hI hO hF)
        · replace hF := ifn h106 hF
          refine v_aload_n 110 X 4 dX1_flood_109 rfl rfl rfl ?_
          refine v_aload_n 111 X 1 dX1_flood_110 rfl rfl rfl ?_
          refine v_get 114 X in_X1 2 8 rfl rfl (by decide) q155 rfl rfl dX1_flood_111 rfl ?_
          refine v_iconst (v := 4) 115 X dX1_flood_114 rfl ki_4 ?_
          refine v_aload 117 X 5 dX1_flood_115 rfl rfl ?_
          refine v_iload 119 X 7 dX1_flood_117 rfl rfl ?_
          obtain ⟨z119, hz119, hF⟩ := ob hF
          refine v_iald 120 X 1 hz119 rfl dX1_flood_119 rfl ?_
          refine v_imul 121 X dX1_flood_120 rfl ?_
          refine v_iload 123 X 8 dX1_flood_121 rfl rfl ?_
          refine v_iadd 124 X dX1_flood_123 rfl ?_
          obtain ⟨z124, hz124, hF⟩ := ob hF
          refine v_aldV 125 X 4 hz124 rfl dX1_flood_124 rfl ?_
          refine v_iconst (v := 1) 126 X dX1_flood_125 rfl ki_1 ?_
          obtain ⟨z126, hz126, hF⟩ := ob hF
          obtain ⟨hz126, hnz126⟩ := tz_s hz126
          replace hz126 : L_lambda_reached_0 z124 1 = some z126 := hz126
          refine v_icS (wr := ([(bm, .inl (D.1 101, n, .inl mk)), (q4, .inl (D.1 100, n, .inl kn4))] ++ LW D b0 b1 b2 b3 b4 b5 n n4 cols rows kd thr bt tm rea gr vl so dy cg)) 131 X hAm 1 4 (by decide) (by decide) (σ := sg4) rfl rfl rfl (by decide +kernel) rfl rfl (by decide) sok4 fd4_2 (lamC hAm 4 (by decide) (by decide)) (y := yX1_lambda_reached_0) rfl rfl (by decide +kernel) [.ref (adV D z124), .int 1] [.ref (adV D z124), .int 1] [] [0, 1, 2, 3, 4, 5, 6, 7] ([] : va_W) rfl rfl (by decide) (by decide) (by decide) (w_X1_lambda_reached_0 z124 1 _ hz126) (fbS0 fd4_0 fd4_1 fd4_2 fd4_5) hnz126 (ic_link dX1_flood_126 q1025) q1075 q85 q1076 ⟨by decide, by decide⟩ hdX1_lambda_reached_0.2.2 ifl1 ⟨Nat.le_of_ble_eq_true rfl, Nat.le_of_ble_eq_true rfl⟩ ⟨(by exact hcb), (by exact hsb)⟩ rfl (Nat.le_of_ble_eq_true rfl) dX1_flood_126 rfl ?_
          refine v_ws (ws' := ([(bm, .inl (D.1 101, n, .inl mk)), (q4, .inl (D.1 100, n, .inl kn4))] ++ LW D b0 b1 b2 b3 b4 b5 n n4 cols rows kd thr bt tm rea gr vl so dy cg)) [0, 1, 2, 3, 4, 5, 6, 7] (by decide) rfl ?_
          refine v_if_eq 134 149 X dX1_flood_131 rfl (by decide) (fun h131 => ?_) (fun h131 => ?_)
          · replace hF := ifp h131 hF
            exact v_lv [1, 2, 3, 4, 5, 6, 7, 8] rfl (w_X1_flood_a_59_j149 X hAm hl0 hl1 v5 v6 v7 kn4 hcb hsb hI hO hF)
          · replace hF := ifn h131 hF
            refine v_aload_n 135 X 2 dX1_flood_134 rfl rfl rfl ?_
            refine v_iload 137 X 0 dX1_flood_135 rfl rfl ?_
            refine v_iconst (v := 1) 138 X dX1_flood_137 rfl ki_1 ?_
            obtain ⟨z138, hz138, hF⟩ := ob hF
            refine v_zast 139 ([(bm, .inl (D.1 101, n, .inl z138)), (q4, .inl (D.1 100, n, .inl kn4))] ++ LW D b0 b1 b2 b3 b4 b5 n n4 cols rows kd thr bt tm rea gr vl so dy cg) X 0 hz138 rfl dX1_flood_138 rfl rfl ?_
            refine v_aload 141 X 5 dX1_flood_139 rfl rfl ?_
            refine v_iload 143 X 6 dX1_flood_141 rfl rfl ?_
            refine v_iload 145 X 0 dX1_flood_143 rfl rfl ?_
            obtain ⟨z145, hz145, hF⟩ := ob hF
            refine v_iast 146 ([(bm, .inl (D.1 101, n, .inl z138)), (q4, .inl (D.1 100, n, .inl z145))] ++ LW D b0 b1 b2 b3 b4 b5 n n4 cols rows kd thr bt tm rea gr vl so dy cg) X 1 hz145 rfl dX1_flood_145 rfl rfl ?_
            refine v_iinc (v := (v5 + 1)) 149 [(5, .int (v5 + 1)), (8, .int z79), (0, .ref b0), (1, .ref bm), (2, .ref t1), (3, .ref (D.2 204 4)), (4, .ref q4), (6, .int v6), (7, .int v7)] X 6 dX1_flood_146 rfl rfl (by rfl) (by decide) rfl ?_
            exact v_lv [2, 3, 4, 5, 6, 0, 7, 8] rfl (w_X1_flood_a_59_j149 X hAm hl0 hl1 (v5 + 1) v6 v7 z145 hcb hsb hI hO hF)
theorem w_X1_flood_a_49 (X : CX p s m args meth c D A cX1_flood 10 "DyeLattice$Lattice") (hAm : AMB D A s) (hl0 : LamO (D.1 306) [.ref b0, .int k0, .int k1] t1 A s.heap) (hl1 : LamO (D.1 304) [] (D.2 204 4) A s.heap) {q4 : Nat} {cb sb : Nat} (hcb : cb ≤ rmX1_flood_a.cells) (hsb : sb ≤ rmX1_flood_a.slots) : ∀ (fu : Nat) (x : Int32 × Int32 × (Nat → Int32) × (Nat → Int32)) (o : ((Nat → Int32) × (Nat → Int32))), loopN (fun x => L_flood_49 cols rows kd n n4 vl (fun x => L_lambda_spans_2 n gr k0 k1 x) (fun x y => L_lambda_reached_0 x y) x.1 x.2.1 x.2.2.1 x.2.2.2) fu x = some o → (V p l e rmX1_flood_a s m args below meth c D A 10 Q ([(bm, .inl (D.1 101, n, .inl o.1)), (q4, .inl (D.1 100, n, .inl o.2))] ++ LW D b0 b1 b2 b3 b4 b5 n n4 cols rows kd thr bt tm rea gr vl so dy cg) cb sb 236 [] []) → V p l e rmX1_flood_a s m args below meth c D A 10 Q ([(bm, .inl (D.1 101, n, .inl x.2.2.1)), (q4, .inl (D.1 100, n, .inl x.2.2.2))] ++ LW D b0 b1 b2 b3 b4 b5 n n4 cols rows kd thr bt tm rea gr vl so dy cg) cb sb 49 [(0, .ref b0), (1, .ref bm), (2, .ref t1), (3, .ref (D.2 204 4)), (4, .ref q4), (5, .int x.1), (6, .int x.2.1)] [] := by
  refine v_loop (fun (x : Int32 × Int32 × (Nat → Int32) × (Nat → Int32)) => V p l e rmX1_flood_a s m args below meth c D A 10 Q ([(bm, .inl (D.1 101, n, .inl x.2.2.1)), (q4, .inl (D.1 100, n, .inl x.2.2.2))] ++ LW D b0 b1 b2 b3 b4 b5 n n4 cols rows kd thr bt tm rea gr vl so dy cg) cb sb 49 [(0, .ref b0), (1, .ref bm), (2, .ref t1), (3, .ref (D.2 204 4)), (4, .ref q4), (5, .int x.1), (6, .int x.2.1)] []) (fun (o : ((Nat → Int32) × (Nat → Int32))) => V p l e rmX1_flood_a s m args below meth c D A 10 Q ([(bm, .inl (D.1 101, n, .inl o.1)), (q4, .inl (D.1 100, n, .inl o.2))] ++ LW D b0 b1 b2 b3 b4 b5 n n4 cols rows kd thr bt tm rea gr vl so dy cg) cb sb 236 [] []) ?_
  rintro ⟨v5, v6, mk, kn4⟩ r hF hI hO
  replace hF : L_flood_49 cols rows kd n n4 vl (fun x => L_lambda_spans_2 n gr k0 k1 x) (fun x y => L_lambda_reached_0 x y) v5 v6 mk kn4 = some r := hF
  show V p l e rmX1_flood_a s m args below meth c D A 10 Q ([(bm, .inl (D.1 101, n, .inl mk)), (q4, .inl (D.1 100, n, .inl kn4))] ++ LW D b0 b1 b2 b3 b4 b5 n n4 cols rows kd thr bt tm rea gr vl so dy cg) cb sb 49 [(0, .ref b0), (1, .ref bm), (2, .ref t1), (3, .ref (D.2 204 4)), (4, .ref q4), (5, .int v5), (6, .int v6)] []
  unfold L_flood_49 at hF
  refine v_iload 51 X 6 dX1_flood_49 rfl rfl ?_
  refine v_iload 53 X 5 dX1_flood_51 rfl rfl ?_
  refine v_icmp_ge 56 236 X dX1_flood_53 rfl (by decide) (fun h53 => ?_) (fun h53 => ?_)
  · replace hF := ifp h53 hF
    obtain rfl := Option.some.inj hF
    exact v_lv [] rfl ((hO _ rfl))
  · replace hF := ifn h53 hF
    refine v_iconst (v := 0) 57 X dX1_flood_56 rfl ki_0 ?_
    refine v_istore 59 [(7, .int 0), (0, .ref b0), (1, .ref bm), (2, .ref t1), (3, .ref (D.2 204 4)), (4, .ref q4), (5, .int v5), (6, .int v6)] X dX1_flood_57 rfl (by decide) rfl ?_
    obtain ⟨z59, hz59, hF⟩ := ob hF
    refine v_lv [1, 2, 3, 4, 5, 6, 7, 0] rfl (w_X1_flood_a_59 X hAm hl0 hl1 (by exact hcb) (by exact hsb) v6 _ (v5, 0, mk, kn4) _ hz59 ?_)
    refine v_iinc (v := (v6 + 1)) 233 [(6, .int (v6 + 1)), (0, .ref b0), (1, .ref bm), (2, .ref t1), (3, .ref (D.2 204 4)), (4, .ref q4), (5, .int z59.1)] X 6 dX1_flood_230 rfl rfl (by rfl) (by decide) rfl ?_
    refine v_goto 49 X dX1_flood_233 (by decide) ?_
    obtain rfl := Option.some.inj hF
    exact v_lv [1, 2, 3, 4, 5, 6, 0] rfl (hI _ rfl)
theorem w_X1_flood_a (r : (Nat → Int32)) (hF : L_flood cols rows kd n n4 vl mk (fun x => L_lambda_spans_2 n gr k0 k1 x) (fun x y => L_lambda_reached_0 x y) = some r) : CTv l yX1_flood cX1_flood 10 (Option.none : Option Jvm.ClassFile.FieldType) rmX1_flood_a D (LW D b0 b1 b2 b3 b4 b5 n n4 cols rows kd thr bt tm rea gr vl so dy cg ++ [(bm, .inl (D.1 101, n, .inl mk))]) [.ref b0, .ref bm, .ref t1, .ref (D.2 204 4)] (AML D [(t1, D.1 306, [.ref b0, .int k0, .int k1]), ((D.2 204 4), D.1 304, [])]) (fun u => u = (LW D b0 b1 b2 b3 b4 b5 n n4 cols rows kd thr bt tm rea gr vl so dy cg ++ [(bm, .inl (D.1 101, n, .inl r))])) := by
  refine m_v (by decide) (Nat.le_of_ble_eq_true rfl) ?_
  intro p e s m args below meth c A B
  obtain ⟨X, hr, hAm, -, hnm, hnmd⟩ := B
  obtain ⟨hAm, hL⟩ := hAm
  have hl0 : LamO (D.1 306) [.ref b0, .int k0, .int k1] t1 A s.heap := hL _ (List.Mem.head _)
  have hl1 : LamO (D.1 304) [] (D.2 204 4) A s.heap := hL _ (List.Mem.tail _ (List.Mem.head _))
  replace X : CX p s m args meth c D A cX1_flood 10 "DyeLattice$Lattice" := X
  refine v_lv (lv' := [(0, .ref b0), (1, .ref bm), (2, .ref t1), (3, .ref (D.2 204 4))]) [0, 1, 2, 3] rfl ?_
  unfold L_flood at hF
  refine v_aload_n 1 X 0 dX1_flood_0 rfl rfl rfl ?_
  have hz1 : L_cells n = some (nI n) := rfl
  refine vc_Vi (wr := ([(bm, .inl (D.1 101, n, .inl mk))])) 4 0 0 X 0 [] [0, 1, 2, 3, 4, 5] [6] (LW D b0 b1 b2 b3 b4 b5 n n4 cols rows kd thr bt tm rea gr vl so dy cg) rfl rfl (by decide) (by decide) (by decide) (w_X1_cells _ hz1) q394 q345 q346 q85 q347 hdX1_cells 0 rfl rfl (pass_amb hAm) ⟨Nat.le_of_ble_eq_true rfl, Nat.le_of_ble_eq_true rfl⟩ ⟨(Nat.le_of_ble_eq_true rfl), (Nat.le_of_ble_eq_true rfl)⟩ rfl rfl (Nat.le_of_ble_eq_true rfl) dX1_flood_1 rfl rfl rfl (fun r1 u1 e1 => ?_)
  obtain ⟨e11, rfl⟩ := e1
  have e12 := e11.symm
  subst e12
  refine v_ws (ws' := ([(bm, .inl (D.1 101, n, .inl mk))] ++ LW D b0 b1 b2 b3 b4 b5 n n4 cols rows kd thr bt tm rea gr vl so dy cg)) [0, 1, 2, 3, 4, 5, 6] (by decide) rfl ?_
  obtain ⟨z4, hz4, hF⟩ := ob hF
  refine v_newa (atype := .int) (mx := 80) (t0 := 0) (ty := .int) 6 1 80 X (lenN_s (Nat.le_of_ble_eq_true rfl) hz4) q190 rfl rfl (fun _ h1 h2 => ra_prim rfl rfl h1 h2) rfl (Nat.le_of_ble_eq_true rfl) (Nat.le_of_ble_eq_true rfl) (Nat.le_of_ble_eq_true rfl) dX1_flood_4 rfl rfl rfl (fun q4 => ?_)
  refine v_ws (ws' := ([(bm, .inl (D.1 101, n, .inl mk))] ++ LW D b0 b1 b2 b3 b4 b5 n n4 cols rows kd thr bt tm rea gr vl so dy cg ++ [(q4, .inl (D.1 100, n, .inl (fun _ => 0)))])) [0, 1, 2, 3, 4, 5, 6, 7] (by decide) rfl ?_
  refine v_astore 8 [(4, .ref q4), (0, .ref b0), (1, .ref bm), (2, .ref t1), (3, .ref (D.2 204 4))] X dX1_flood_6 rfl (by decide) rfl ?_
  refine v_iconst (v := 0) 9 X dX1_flood_8 rfl ki_0 ?_
  refine v_istore 11 [(5, .int 0), (4, .ref q4), (0, .ref b0), (1, .ref bm), (2, .ref t1), (3, .ref (D.2 204 4))] X dX1_flood_9 rfl (by decide) rfl ?_
  refine v_iconst (v := 0) 12 X dX1_flood_11 rfl ki_0 ?_
  refine v_istore 14 [(6, .int 0), (5, .int 0), (4, .ref q4), (0, .ref b0), (1, .ref bm), (2, .ref t1), (3, .ref (D.2 204 4))] X dX1_flood_12 rfl (by decide) rfl ?_
  obtain ⟨z14, hz14, hF⟩ := ob hF
  refine v_lv [3, 4, 5, 6, 2, 1, 0] rfl (w_X1_flood_a_14 X hAm hl0 hl1 (Nat.le_of_ble_eq_true rfl) (Nat.le_of_ble_eq_true rfl) _ (0, 0, (fun _ => 0)) _ hz14 ?_)
  refine v_iconst (v := 0) 47 X dX1_flood_46 rfl ki_0 ?_
  refine v_istore 49 [(6, .int 0), (0, .ref b0), (1, .ref bm), (2, .ref t1), (3, .ref (D.2 204 4)), (4, .ref q4), (5, .int z14.1)] X dX1_flood_47 rfl (by decide) rfl ?_
  obtain ⟨z49, hz49, hF⟩ := ob hF
  refine v_ws (ws' := ([(bm, .inl (D.1 101, n, .inl mk)), (q4, .inl (D.1 100, n, .inl z14.2))] ++ LW D b0 b1 b2 b3 b4 b5 n n4 cols rows kd thr bt tm rea gr vl so dy cg)) [0, 7, 1, 2, 3, 4, 5, 6] (by decide) rfl ?_
  refine v_lv [1, 2, 3, 4, 5, 6, 0] rfl (w_X1_flood_a_49 X hAm hl0 hl1 (Nat.le_of_ble_eq_true rfl) (Nat.le_of_ble_eq_true rfl) _ (z14.1, 0, mk, z14.2) _ hz49 ?_)
  obtain rfl := Option.some.inj hF
  refine v_ws (ws' := (LW D b0 b1 b2 b3 b4 b5 n n4 cols rows kd thr bt tm rea gr vl so dy cg ++ [(bm, .inl (D.1 101, n, .inl z49.1))])) [2, 3, 4, 5, 6, 7, 0] (by decide) rfl ?_
  exact v_vret X hr rfl (Nat.le_of_ble_eq_true rfl) (Nat.le_of_ble_eq_true rfl) dX1_flood_236
end
