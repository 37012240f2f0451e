set_option maxRecDepth 100000
set_option maxHeartbeats 4000000
section
variable {p : Program} {l : Launch} {e : Env} {s : State} {m : MethodId} {args : Array Value} {below : List Frame} {meth : Method} {c : Code} {D : va_G} {A : Nat → Prop} {Q : State → Prop} {ws : va_W} {av nb : Nat} {byt : Nat → Int32} {ml cnt : Int32} {t1 t2 bm bc a0 hq tx he ne b0u : Nat} {el : Nat → Option Nat} {hd tl : Int32} {hs : List Nat} {fst fsu : List Value} {k0 k1 k2 : Int32} {mk clu : Nat → Int32} {b0 b1 b2 b3 b4 b5 n n4 kd : Nat} {cols rows thr bt tm rea : Int32} {gr so dy cg : Nat → Int32} {vl : Nat → Nat}
theorem w_J3_init (v1 : Int32) (r : Int32 × Nat × (Nat → Int32)) (hF : J3_init v1 = some r) : CTv l yJ3_init cJ3_init 2 (Option.none : Option Jvm.ClassFile.FieldType) rmJ3_init D ([(tx, .inr (9, [.null, .int 0, .int 0, .int 0]))]) [.ref tx, .int v1] (AMB D) (fun u => ∃ qa1 : Nat, u = ([(tx, .inr (9, [.ref qa1, .int r.1, .int 0, .int 0])), (qa1, .inl (D.1 102, r.2.1, .inl r.2.2))])) := by
  refine m_v (by decide) (Nat.le_of_ble_eq_true rfl) ?_
  intro p e s m args below meth c A B
  obtain ⟨X, hr, hAm, -, hnm, hnmd⟩ := B
  replace X : CX p s m args meth c D A cJ3_init 2 "java/lang/AbstractStringBuilder" := X
  refine v_lv (lv' := [(0, .ref tx), (1, .int v1)]) [0, 1] rfl ?_
  unfold J3_init at hF
  refine v_aload_n 1 X 0 dJ3_init_0 rfl rfl rfl ?_
  refine v_objInit 4 X q221 (Nat.le_of_ble_eq_true rfl) (Nat.le_of_ble_eq_true rfl) dJ3_init_1 rfl ?_
  refine v_getZ 7 X hAm.1.2.1 q222 dJ3_init_4 rfl ?_
  refine v_if_eq 10 25 X dJ3_init_7 rfl (by decide) (fun h7 => ?_) (fun h7 => ?_)
  · exact absurd h7 (by decide)
  · refine v_aload_n 11 X 0 dJ3_init_10 rfl rfl rfl ?_
    refine v_iload_n 12 X 1 dJ3_init_11 rfl rfl rfl ?_
    obtain ⟨z12, hz12, hF⟩ := ob hF
    refine v_newa (atype := .byte) (mx := 16) (t0 := 2) (ty := .byte) 14 1 16 X hz12 q244 rfl rfl (fun _ h1 h2 => ra_prim rfl rfl h1 h2) rfl (Nat.le_of_ble_eq_true rfl) (Nat.le_of_ble_eq_true rfl) (Nat.le_of_ble_eq_true rfl) dJ3_init_12 rfl rfl rfl (fun q12 => ?_)
    refine v_ws (ws' := ([(tx, .inr (9, [.null, .int 0, .int 0, .int 0])), (q12, .inl (D.1 102, z12, .inl (fun _ => 0)))])) [0, 1] (by decide) rfl ?_
    refine v_put 17 ([(tx, .inr (9, [.ref q12, .int 0, .int 0, .int 0])), (q12, .inl (D.1 102, z12, .inl (fun _ => 0)))]) X in_J4 tyJ4_ok nmJ4 0 0 rfl rfl (by decide) q231 rfl rfl rfl rfl rfl (Nat.le_of_ble_eq_true rfl) dJ3_init_14 rfl rfl ?_
    refine v_aload_n 18 X 0 dJ3_init_17 rfl rfl rfl ?_
    refine v_iconst (v := 0) 19 X dJ3_init_18 rfl ki_0 ?_
    refine v_put 22 ([(tx, .inr (9, [.ref q12, .int 0, .int 0, .int 0])), (q12, .inl (D.1 102, z12, .inl (fun _ => 0)))]) X in_J4 tyJ4_ok nmJ4 0 1 rfl rfl (by decide) q232 rfl rfl rfl rfl rfl (Nat.le_of_ble_eq_true rfl) dJ3_init_19 rfl rfl ?_
    refine v_goto 38 X dJ3_init_22 (by decide) ?_
    obtain rfl := Option.some.inj hF
    exact v_vret X hr ⟨q12, rfl⟩ (Nat.le_of_ble_eq_true rfl) (Nat.le_of_ble_eq_true rfl) dJ3_init_38
theorem w_J4_init (r : Int32 × Nat × (Nat → Int32)) (hF : J4_init = some r) : CTv l yJ4_init cJ4_init 1 (Option.none : Option Jvm.ClassFile.FieldType) rmJ4_init D ([(tx, .inr (9, [.null, .int 0, .int 0, .int 0]))]) [.ref tx] (AMB D) (fun u => ∃ qa1 : Nat, u = ([(tx, .inr (9, [.ref qa1, .int r.1, .int 0, .int 0])), (qa1, .inl (D.1 102, r.2.1, .inl r.2.2))])) := by
  refine m_v (by decide) (Nat.le_of_ble_eq_true rfl) ?_
  intro p e s m args below meth c A B
  obtain ⟨X, hr, hAm, -, hnm, hnmd⟩ := B
  replace X : CX p s m args meth c D A cJ4_init 1 "java/lang/StringBuilder" := X
  refine v_lv (lv' := [(0, .ref tx)]) [0] rfl ?_
  unfold J4_init at hF
  refine v_aload_n 1 X 0 dJ4_init_0 rfl rfl rfl ?_
  refine v_bipush (v := 16) 3 X dJ4_init_1 rfl kb_16 ?_
  obtain ⟨z3, hz3, hF⟩ := ob hF
  refine vc_Iv (wr := ([] : va_W)) 6 1 16 X 1 [.int 16] [0] [] ([(tx, .inr (9, [.null, .int 0, .int 0, .int 0]))]) rfl rfl (by decide) (by decide) (by decide) (w_J3_init 16 _ hz3) q218 q219 rfl q91 q220 hdJ3_init.2 (pass_amb hAm) ⟨Nat.le_of_ble_eq_true rfl, Nat.le_of_ble_eq_true rfl⟩ ⟨(Nat.le_of_ble_eq_true rfl), (Nat.le_of_ble_eq_true rfl)⟩ rfl rfl (Nat.le_of_ble_eq_true rfl) dJ4_init_3 rfl rfl rfl (fun u3 e3 => ?_)
  obtain ⟨q3_1, rfl⟩ := e3
  refine v_ws (ws' := ([(tx, .inr (9, [.ref q3_1, .int z3.1, .int 0, .int 0])), (q3_1, .inl (D.1 102, z3.2.1, .inl z3.2.2))])) [0, 1] (by decide) rfl ?_
  obtain rfl := Option.some.inj hF
  exact v_vret X hr ⟨q3_1, rfl⟩ (Nat.le_of_ble_eq_true rfl) (Nat.le_of_ble_eq_true rfl) dJ4_init_6
theorem w_J10_newLength (ws : va_W) (v0 : Int32) (v1 : Int32) (v2 : Int32) (r : Int32) (hF : J10_newLength v0 v1 v2 = some r) : CTi l yJ10_newLength cJ10_newLength 4 (Option.some Jvm.ClassFile.FieldType.int) rmJ10_newLength D ws [.int v0, .int v1, .int v2] (NoX) (fun r1 u => r1 = r ∧ u = ws) := by
  refine m_i (by decide) (Nat.le_of_ble_eq_true rfl) ?_
  intro p e s m args below meth c A B
  obtain ⟨X, hr, hAm, -, hnm, hnmd⟩ := B
  replace X : CX p s m args meth c D A cJ10_newLength 4 "jdk/internal/util/ArraysSupport" := X
  refine v_lv (lv' := [(0, .int v0), (1, .int v1), (2, .int v2)]) [0, 1, 2] rfl ?_
  unfold J10_newLength at hF
  refine v_iload_n 1 X 0 dJ10_newLength_0 rfl rfl rfl ?_
  refine v_iload_n 2 X 1 dJ10_newLength_1 rfl rfl rfl ?_
  refine v_iload_n 3 X 2 dJ10_newLength_2 rfl rfl rfl ?_
  refine v_mmax 6 X q522 (Nat.le_of_ble_eq_true rfl) (Nat.le_of_ble_eq_true rfl) (Nat.le_of_ble_eq_true rfl) (Nat.le_of_ble_eq_true rfl) dJ10_newLength_3 rfl ?_
  refine v_iadd 7 X dJ10_newLength_6 rfl ?_
  refine v_istore_n 8 [(3, .int (v0 + (if v1 < v2 then v2 else v1))), (0, .int v0), (1, .int v1), (2, .int v2)] X dJ10_newLength_7 rfl rfl (by decide) rfl ?_
  refine v_iconst (v := 0) 9 X dJ10_newLength_8 rfl ki_0 ?_
  refine v_iload_n 10 X 0 dJ10_newLength_9 rfl rfl rfl ?_
  refine v_icmp_ge 13 21 X dJ10_newLength_10 rfl (by decide) (fun h10 => ?_) (fun h10 => ?_)
  · replace hF := ifp h10 hF
    cases hF
  · replace hF := ifn h10 hF
    refine v_iload_n 14 X 0 dJ10_newLength_13 rfl rfl rfl ?_
    refine v_ldc 16 X q525 dJ10_newLength_14 rfl ?_
    refine v_icmp_gt 19 21 X dJ10_newLength_16 rfl (by decide) (fun h16 => ?_) (fun h16 => ?_)
    · replace hF := ifp h16 hF
      cases hF
    · replace hF := ifn h16 hF
      refine v_iload_n 20 X 0 dJ10_newLength_19 rfl rfl rfl ?_
      obtain rfl := Option.some.inj hF
      exact v_iret X hr ⟨rfl, rfl⟩ (Nat.le_of_ble_eq_true rfl) (Nat.le_of_ble_eq_true rfl) dJ10_newLength_20
theorem w_J11_canEncode (ws : va_W) (v0 : Int32) (r : Int32) (hF : J11_canEncode v0 = some r) : CTi l yJ11_canEncode cJ11_canEncode 1 (Option.some Jvm.ClassFile.FieldType.boolean) rmJ11_canEncode D ws [.int v0] (NoX) (fun r1 u => r1 = r ∧ u = ws) := by
  refine m_i (by decide) (Nat.le_of_ble_eq_true rfl) ?_
  intro p e s m args below meth c A B
  obtain ⟨X, hr, hAm, -, hnm, hnmd⟩ := B
  replace X : CX p s m args meth c D A cJ11_canEncode 1 "java/lang/StringLatin1" := X
  refine v_lv (lv' := [(0, .int v0)]) [0] rfl ?_
  unfold J11_canEncode at hF
  refine v_iload_n 1 X 0 dJ11_canEncode_0 rfl rfl rfl ?_
  refine v_sipush (v := 255) 4 X dJ11_canEncode_1 rfl ks_255 ?_
  refine v_icmp_gt 7 11 X dJ11_canEncode_4 rfl (by decide) (fun h4 => ?_) (fun h4 => ?_)
  · replace hF := ifp h4 hF
    refine v_iconst (v := 0) 12 X dJ11_canEncode_11 rfl ki_0 ?_
    obtain rfl := Option.some.inj hF
    exact v_zret X hr rfl ⟨rfl, rfl⟩ (Nat.le_of_ble_eq_true rfl) (Nat.le_of_ble_eq_true rfl) dJ11_canEncode_12
  · replace hF := ifn h4 hF
    refine v_iconst (v := 1) 8 X dJ11_canEncode_7 rfl ki_1 ?_
    refine v_goto 12 X dJ11_canEncode_8 (by decide) ?_
    obtain rfl := Option.some.inj hF
    exact v_zret X hr rfl ⟨rfl, rfl⟩ (Nat.le_of_ble_eq_true rfl) (Nat.le_of_ble_eq_true rfl) dJ11_canEncode_12
theorem w_J12_checkIndex (ws : va_W) (v0 : Int32) (v1 : Int32) (v2 : Option Nat) (r : Int32) (hF : J12_checkIndex v0 v1 = some r) : CTi l yJ12_checkIndex cJ12_checkIndex 3 (Option.some Jvm.ClassFile.FieldType.int) rmJ12_checkIndex D ws [.int v0, .int v1, va_rf v2] (NoX) (fun r1 u => r1 = r ∧ u = ws) := by
  refine m_i (by decide) (by cases v2 <;> exact Nat.le_of_ble_eq_true rfl) ?_
  intro p e s m args below meth c A B
  obtain ⟨X, hr, hAm, -, hnm, hnmd⟩ := B
  replace X : CX p s m args meth c D A cJ12_checkIndex 3 "jdk/internal/util/Preconditions" := X
  refine v_lv (lv' := [(0, .int v0), (1, .int v1), (2, va_rf v2)]) [0, 1, 2] rfl ?_
  unfold J12_checkIndex at hF
  refine v_iload_n 1 X 0 dJ12_checkIndex_0 rfl rfl rfl ?_
  refine v_if_lt 4 9 X dJ12_checkIndex_1 rfl (by decide) (fun h1 => ?_) (fun h1 => ?_)
  · replace hF := ifp h1 hF
    cases hF
  · replace hF := ifn h1 hF
    refine v_iload_n 5 X 0 dJ12_checkIndex_4 rfl rfl rfl ?_
    refine v_iload_n 6 X 1 dJ12_checkIndex_5 rfl rfl rfl ?_
    refine v_icmp_lt 9 16 X dJ12_checkIndex_6 rfl (by decide) (fun h6 => ?_) (fun h6 => ?_)
    · replace hF := ifp h6 hF
      refine v_iload_n 17 X 0 dJ12_checkIndex_16 rfl rfl rfl ?_
      obtain rfl := Option.some.inj hF
      exact v_iret X hr ⟨rfl, rfl⟩ (Nat.le_of_ble_eq_true rfl) (Nat.le_of_ble_eq_true rfl) dJ12_checkIndex_17
    · replace hF := ifn h6 hF
      cases hF
theorem w_J5_checkIndex (v0 : Int32) (v1 : Int32) (r : Unit) (hF : J5_checkIndex v0 v1 = some r) : CTv l yJ5_checkIndex cJ5_checkIndex 2 (Option.none : Option Jvm.ClassFile.FieldType) rmJ5_checkIndex D ([]) [.int v0, .int v1] (AMB D) (fun u => u = ([])) := by
  refine m_v (by decide) (Nat.le_of_ble_eq_true rfl) ?_
  intro p e s m args below meth c A B
  obtain ⟨X, hr, hAm, -, hnm, hnmd⟩ := B
  replace X : CX p s m args meth c D A cJ5_checkIndex 2 "java/lang/String" := X
  refine v_lv (lv' := [(0, .int v0), (1, .int v1)]) [0, 1] rfl ?_
  unfold J5_checkIndex at hF
  refine v_iload_n 1 X 0 dJ5_checkIndex_0 rfl rfl rfl ?_
  refine v_iload_n 2 X 1 dJ5_checkIndex_1 rfl rfl rfl ?_
  refine v_getZ 5 X hAm.1.2.2.1 q565 dJ5_checkIndex_2 rfl ?_
  obtain ⟨z5, hz5, hF⟩ := ob hF
  refine v_mSi 8 X 3 [.int v0, .int v1, va_rf (otN D 0)] (w_J12_checkIndex ([]) v0 v1 (otN D 0) _ hz5) q588 q589 q102 q590 hdJ12_checkIndex pass_no ⟨rfl, rfl⟩ ⟨Nat.le_of_ble_eq_true rfl, Nat.le_of_ble_eq_true rfl⟩ ⟨(Nat.le_of_ble_eq_true rfl), (Nat.le_of_ble_eq_true rfl)⟩ rfl rfl (Nat.le_of_ble_eq_true rfl) dJ5_checkIndex_5 rfl ?_
  refine v_pop 9 X dJ5_checkIndex_8 rfl rfl ?_
  obtain rfl := Option.some.inj hF
  exact v_vret X hr rfl (Nat.le_of_ble_eq_true rfl) (Nat.le_of_ble_eq_true rfl) dJ5_checkIndex_9
theorem w_J7_copyOf_3 (v1 : Int32) (r : Nat × (Nat → Int32)) (hF : J7_copyOf_3 nb byt v1 = some r) : CTr l yJ7_copyOf_3 cJ7_copyOf_3 3 (Option.some (Jvm.ClassFile.FieldType.array Jvm.ClassFile.FieldType.byte)) rmJ7_copyOf_3 D ([(av, .inl (D.1 102, nb, .inl byt))]) [.ref av, .int v1] (AMB D) (fun a1 u => ∃ qa1 : Nat, a1 = qa1 ∧ u = ([(av, .inl (D.1 102, nb, .inl byt)), (qa1, .inl (D.1 102, r.1, .inl r.2))])) := by
  refine m_r (by decide) (Nat.le_of_ble_eq_true rfl) ?_
  intro p e s m args below meth c A B
  obtain ⟨X, hr, hAm, -, hnm, hnmd⟩ := B
  replace X : CX p s m args meth c D A cJ7_copyOf_3 3 "java/util/Arrays" := X
  refine v_lv (lv' := [(0, .ref av), (1, .int v1)]) [0, 1] rfl ?_
  unfold J7_copyOf_3 at hF
  refine v_iload_n 1 X 1 dJ7_copyOf_3_0 rfl rfl rfl ?_
  refine v_aload_n 2 X 0 dJ7_copyOf_3_1 rfl rfl rfl ?_
  refine v_alen 3 X 0 2 rfl rfl rfl dJ7_copyOf_3_2 rfl ?_
  refine v_icmp_ne 6 14 X dJ7_copyOf_3_3 rfl (by decide) (fun h3 => ?_) (fun h3 => ?_)
  · replace hF := ifn h3 hF
    refine v_iload_n 15 X 1 dJ7_copyOf_3_14 rfl rfl rfl ?_
    obtain ⟨z15, hz15, hF⟩ := ob hF
    refine v_newa (atype := .byte) (mx := 142) (t0 := 2) (ty := .byte) 17 1 142 X hz15 q244 rfl rfl (fun _ h1 h2 => ra_prim rfl rfl h1 h2) rfl (Nat.le_of_ble_eq_true rfl) (Nat.le_of_ble_eq_true rfl) (Nat.le_of_ble_eq_true rfl) dJ7_copyOf_3_15 rfl rfl rfl (fun q15 => ?_)
    refine v_ws (ws' := ([(av, .inl (D.1 102, nb, .inl byt)), (q15, .inl (D.1 102, z15, .inl (fun _ => 0)))])) [0, 1] (by decide) rfl ?_
    refine v_astore_n 18 [(2, .ref q15), (0, .ref av), (1, .int v1)] X dJ7_copyOf_3_17 rfl rfl (by decide) rfl ?_
    refine v_aload_n 19 X 1 dJ7_copyOf_3_18 rfl rfl rfl ?_
    refine v_iconst (v := 0) 20 X dJ7_copyOf_3_19 rfl ki_0 ?_
    refine v_aload_n 21 X 0 dJ7_copyOf_3_20 rfl rfl rfl ?_
    refine v_iconst (v := 0) 22 X dJ7_copyOf_3_21 rfl ki_0 ?_
    refine v_aload_n 23 X 1 dJ7_copyOf_3_22 rfl rfl rfl ?_
    refine v_alen 24 X 0 2 rfl rfl rfl dJ7_copyOf_3_23 rfl ?_
    refine v_iload_n 25 X 2 dJ7_copyOf_3_24 rfl rfl rfl ?_
    refine v_mmin 28 X q337 (Nat.le_of_ble_eq_true rfl) (Nat.le_of_ble_eq_true rfl) (Nat.le_of_ble_eq_true rfl) (Nat.le_of_ble_eq_true rfl) dJ7_copyOf_3_25 rfl ?_
    obtain ⟨z28, hz28, hF⟩ := ob hF
    refine v_cpy 31 ([(av, .inl (D.1 102, nb, .inl byt)), (q15, .inl (D.1 102, z15, .inl z28))]) X 0 1 2 (cpyB_s hz28).1 (cpyB_s hz28).2 rfl rfl rfl rfl q340 (Nat.le_of_ble_eq_true rfl) (Nat.le_of_ble_eq_true rfl) dJ7_copyOf_3_28 rfl rfl ?_
    refine v_aload_n 32 X 0 dJ7_copyOf_3_31 rfl rfl rfl ?_
    obtain rfl := Option.some.inj hF
    refine v_aret (post := (fun r : Nat × (Nat → Int32) => (fun a1 u => ∃ qa1 : Nat, a1 = qa1 ∧ u = ([(av, .inl (D.1 102, nb, .inl byt)), (qa1, .inl (D.1 102, r.1, .inl r.2))]))) (z15, z28)) X hr (Or.inr ⟨_, rfl⟩) ?_ ?_ ?_ dJ7_copyOf_3_32
    · exact ⟨q15, rfl, rfl⟩
    · exact Nat.le_of_ble_eq_true rfl
    · exact Nat.le_of_ble_eq_true rfl
  · replace hF := ifp h3 hF
    cases hF
theorem w_J3_newCapacity (v1 : Int32) (r : Int32) (hF : J3_newCapacity nb v1 = some r) : CTi l yJ3_newCapacity cJ3_newCapacity 6 (Option.some Jvm.ClassFile.FieldType.int) rmJ3_newCapacity D ([(tx, .inr (9, [.ref av, .int 0, .int ml, .int cnt])), (av, .inl (D.1 102, nb, .inl byt))]) [.ref tx, .int v1] (AMB D) (fun r1 u => r1 = r ∧ u = ([(tx, .inr (9, [.ref av, .int 0, .int ml, .int cnt])), (av, .inl (D.1 102, nb, .inl byt))])) := by
  refine m_i (by decide) (Nat.le_of_ble_eq_true rfl) ?_
  intro p e s m args below meth c A B
  obtain ⟨X, hr, hAm, -, hnm, hnmd⟩ := B
  replace X : CX p s m args meth c D A cJ3_newCapacity 6 "java/lang/AbstractStringBuilder" := X
  refine v_lv (lv' := [(0, .ref tx), (1, .int v1)]) [0, 1] rfl ?_
  unfold J3_newCapacity at hF
  refine v_aload_n 1 X 0 dJ3_newCapacity_0 rfl rfl rfl ?_
  refine v_get 4 X in_J4 0 0 rfl rfl (by decide) q231 rfl rfl dJ3_newCapacity_1 rfl ?_
  refine v_alen 5 X 1 2 rfl rfl rfl dJ3_newCapacity_4 rfl ?_
  refine v_istore_n 6 [(2, .int (nI nb)), (0, .ref tx), (1, .int v1)] X dJ3_newCapacity_5 rfl rfl (by decide) rfl ?_
  refine v_iload_n 7 X 2 dJ3_newCapacity_6 rfl rfl rfl ?_
  refine v_aload_n 8 X 1 dJ3_newCapacity_7 rfl rfl rfl ?_
  refine v_get 11 X in_J4 0 1 rfl rfl (by decide) q232 rfl rfl dJ3_newCapacity_8 rfl ?_
  refine v_ishl 12 X dJ3_newCapacity_11 rfl ?_
  refine v_istore_n 13 [(3, .int (v1 <<< (0 &&& 31))), (2, .int (nI nb)), (0, .ref tx), (1, .int v1)] X dJ3_newCapacity_12 rfl rfl (by decide) rfl ?_
  refine v_iload_n 14 X 0 dJ3_newCapacity_13 rfl rfl rfl ?_
  refine v_iload_n 15 X 1 dJ3_newCapacity_14 rfl rfl rfl ?_
  refine v_isub 16 X dJ3_newCapacity_15 rfl ?_
  refine v_istore 18 [(4, .int ((v1 <<< (0 &&& 31)) - (nI nb))), (3, .int (v1 <<< (0 &&& 31))), (2, .int (nI nb)), (0, .ref tx), (1, .int v1)] X dJ3_newCapacity_16 rfl (by decide) rfl ?_
  refine v_iload_n 19 X 2 dJ3_newCapacity_18 rfl rfl rfl ?_
  refine v_iload 21 X 0 dJ3_newCapacity_19 rfl rfl ?_
  refine v_iload_n 22 X 2 dJ3_newCapacity_21 rfl rfl rfl ?_
  refine v_iconst (v := 2) 23 X dJ3_newCapacity_22 rfl ki_2 ?_
  refine v_aload_n 24 X 3 dJ3_newCapacity_23 rfl rfl rfl ?_
  refine v_get 27 X in_J4 0 1 rfl rfl (by decide) q232 rfl rfl dJ3_newCapacity_24 rfl ?_
  refine v_ishl 28 X dJ3_newCapacity_27 rfl ?_
  refine v_iadd 29 X dJ3_newCapacity_28 rfl ?_
  obtain ⟨z29, hz29, hF⟩ := ob hF
  refine v_mSi 32 X 3 [.int (nI nb), .int ((v1 <<< (0 &&& 31)) - (nI nb)), .int ((nI nb) + ((2 : Int32) <<< (0 &&& 31)))] (w_J10_newLength ([(tx, .inr (9, [.ref av, .int 0, .int ml, .int cnt])), (av, .inl (D.1 102, nb, .inl byt))]) (nI nb) ((v1 <<< (0 &&& 31)) - (nI nb)) ((nI nb) + ((2 : Int32) <<< (0 &&& 31))) _ hz29) q519 q520 q100 q521 hdJ10_newLength pass_no ⟨rfl, rfl⟩ ⟨Nat.le_of_ble_eq_true rfl, Nat.le_of_ble_eq_true rfl⟩ ⟨(Nat.le_of_ble_eq_true rfl), (Nat.le_of_ble_eq_true rfl)⟩ rfl rfl (Nat.le_of_ble_eq_true rfl) dJ3_newCapacity_29 rfl ?_
  refine v_istore 34 [(5, .int z29), (4, .int ((v1 <<< (0 &&& 31)) - (nI nb))), (3, .int (v1 <<< (0 &&& 31))), (2, .int (nI nb)), (0, .ref tx), (1, .int v1)] X dJ3_newCapacity_32 rfl (by decide) rfl ?_
  refine v_iload 36 X 0 dJ3_newCapacity_34 rfl rfl ?_
  refine v_ldc 38 X q529 dJ3_newCapacity_36 rfl ?_
  refine v_icmp_ne 41 51 X dJ3_newCapacity_38 rfl (by decide) (fun h38 => ?_) (fun h38 => ?_)
  · replace hF := ifn h38 hF
    refine v_iload 53 X 0 dJ3_newCapacity_51 rfl rfl ?_
    refine v_aload_n 54 X 4 dJ3_newCapacity_53 rfl rfl rfl ?_
    refine v_get 57 X in_J4 0 1 rfl rfl (by decide) q232 rfl rfl dJ3_newCapacity_54 rfl ?_
    refine v_ishr 58 X dJ3_newCapacity_57 rfl ?_
    obtain rfl := Option.some.inj hF
    exact v_iret X hr ⟨rfl, rfl⟩ (Nat.le_of_ble_eq_true rfl) (Nat.le_of_ble_eq_true rfl) dJ3_newCapacity_58
  · replace hF := ifp h38 hF
    cases hF
theorem w_J3_ensureCapacityInternal (v1 : Int32) (r : Nat × (Nat → Int32)) (hF : J3_ensureCapacityInternal nb byt v1 = some r) : CTv l yJ3_ensureCapacityInternal cJ3_ensureCapacityInternal 3 (Option.none : Option Jvm.ClassFile.FieldType) rmJ3_ensureCapacityInternal D ([(tx, .inr (9, [.ref av, .int 0, .int ml, .int cnt])), (av, .inl (D.1 102, nb, .inl byt))]) [.ref tx, .int v1] (AMB D) (fun u => ∃ qa1 : Nat, u = ([(tx, .inr (9, [.ref qa1, .int 0, .int ml, .int cnt])), (qa1, .inl (D.1 102, r.1, .inl r.2))])) := by
  refine m_v (by decide) (Nat.le_of_ble_eq_true rfl) ?_
  intro p e s m args below meth c A B
  obtain ⟨X, hr, hAm, -, hnm, hnmd⟩ := B
  replace X : CX p s m args meth c D A cJ3_ensureCapacityInternal 3 "java/lang/AbstractStringBuilder" := X
  refine v_lv (lv' := [(0, .ref tx), (1, .int v1)]) [0, 1] rfl ?_
  unfold J3_ensureCapacityInternal at hF
  refine v_aload_n 1 X 0 dJ3_ensureCapacityInternal_0 rfl rfl rfl ?_
  refine v_get 4 X in_J4 0 0 rfl rfl (by decide) q231 rfl rfl dJ3_ensureCapacityInternal_1 rfl ?_
  refine v_alen 5 X 1 2 rfl rfl rfl dJ3_ensureCapacityInternal_4 rfl ?_
  refine v_aload_n 6 X 0 dJ3_ensureCapacityInternal_5 rfl rfl rfl ?_
  refine v_get 9 X in_J4 0 1 rfl rfl (by decide) q232 rfl rfl dJ3_ensureCapacityInternal_6 rfl ?_
  refine v_ishr 10 X dJ3_ensureCapacityInternal_9 rfl ?_
  refine v_istore_n 11 [(2, .int ((nI nb) >>> (0 &&& 31))), (0, .ref tx), (1, .int v1)] X dJ3_ensureCapacityInternal_10 rfl rfl (by decide) rfl ?_
  refine v_iload_n 12 X 2 dJ3_ensureCapacityInternal_11 rfl rfl rfl ?_
  refine v_iload_n 13 X 0 dJ3_ensureCapacityInternal_12 rfl rfl rfl ?_
  refine v_isub 14 X dJ3_ensureCapacityInternal_13 rfl ?_
  refine v_if_le 17 38 X dJ3_ensureCapacityInternal_14 rfl (by decide) (fun h14 => ?_) (fun h14 => ?_)
  · replace hF := ifp h14 hF
    obtain rfl := Option.some.inj hF
    exact v_vret X hr ⟨av, rfl⟩ (Nat.le_of_ble_eq_true rfl) (Nat.le_of_ble_eq_true rfl) dJ3_ensureCapacityInternal_38
  · replace hF := ifn h14 hF
    refine v_aload_n 18 X 1 dJ3_ensureCapacityInternal_17 rfl rfl rfl ?_
    refine v_aload_n 19 X 1 dJ3_ensureCapacityInternal_18 rfl rfl rfl ?_
    refine v_get 22 X in_J4 0 0 rfl rfl (by decide) q231 rfl rfl dJ3_ensureCapacityInternal_19 rfl ?_
    refine v_aload_n 23 X 1 dJ3_ensureCapacityInternal_22 rfl rfl rfl ?_
    refine v_iload_n 24 X 2 dJ3_ensureCapacityInternal_23 rfl rfl rfl ?_
    obtain ⟨z24, hz24, hF⟩ := ob hF
    refine vc_Pi (wr := ([] : va_W)) 27 0 0 X 1 [.int v1] [0, 1] [] ([(tx, .inr (9, [.ref av, .int 0, .int ml, .int cnt])), (av, .inl (D.1 102, nb, .inl byt))]) rfl rfl (by decide) (by decide) (by decide) (w_J3_newCapacity v1 _ hz24) q515 q1539 (sel_priv (X.hts _ q214) (X.hts _ q1539) (hAm.use q516 rfl rfl) (X.hts _ q517)) q517 q91 q518 hdJ3_newCapacity.2 0 rfl rfl (pass_amb hAm) ⟨Nat.le_of_ble_eq_true rfl, Nat.le_of_ble_eq_true rfl⟩ ⟨(Nat.le_of_ble_eq_true rfl), (Nat.le_of_ble_eq_true rfl)⟩ rfl rfl (Nat.le_of_ble_eq_true rfl) dJ3_ensureCapacityInternal_24 rfl rfl rfl (fun r24 u24 e24 => ?_)
    obtain ⟨e241, rfl⟩ := e24
    have e242 := e241.symm
    subst e242
    refine v_ws (ws' := ([(tx, .inr (9, [.ref av, .int 0, .int ml, .int cnt])), (av, .inl (D.1 102, nb, .inl byt))])) [0, 1] (by decide) rfl ?_
    refine v_aload_n 28 X 1 dJ3_ensureCapacityInternal_27 rfl rfl rfl ?_
    refine v_get 31 X in_J4 0 1 rfl rfl (by decide) q232 rfl rfl dJ3_ensureCapacityInternal_28 rfl ?_
    refine v_ishl 32 X dJ3_ensureCapacityInternal_31 rfl ?_
    obtain ⟨z32, hz32, hF⟩ := ob hF
    refine vc_Sr (wr := ([(tx, .inr (9, [.ref av, .int 0, .int ml, .int cnt]))])) 35 1 142 X 2 [.ref av, .int (z24 <<< (0 &&& 31))] [1] [0] ([(av, .inl (D.1 102, nb, .inl byt))]) rfl rfl (by decide) (by decide) (by decide) (w_J7_copyOf_3 (z24 <<< (0 &&& 31)) _ hz32) q530 q531 q96 q532 hdJ7_copyOf_3 (pass_amb hAm) ⟨Nat.le_of_ble_eq_true rfl, Nat.le_of_ble_eq_true rfl⟩ ⟨(Nat.le_of_ble_eq_true rfl), (Nat.le_of_ble_eq_true rfl)⟩ rfl rfl (Nat.le_of_ble_eq_true rfl) dJ3_ensureCapacityInternal_32 rfl rfl rfl (fun a32 u32 e32 => ?_)
    obtain ⟨q32_1, e321, rfl⟩ := e32
    have e322 := e321.symm
    subst e322
    refine v_ws (ws' := ([(tx, .inr (9, [.ref av, .int 0, .int ml, .int cnt])), (av, .inl (D.1 102, nb, .inl byt)), (q32_1, .inl (D.1 102, z32.1, .inl z32.2))])) [0, 1, 2] (by decide) rfl ?_
    refine v_put 38 ([(tx, .inr (9, [.ref q32_1, .int 0, .int ml, .int cnt])), (av, .inl (D.1 102, nb, .inl byt)), (q32_1, .inl (D.1 102, z32.1, .inl z32.2))]) X in_J4 tyJ4_ok nmJ4 0 0 rfl rfl (by decide) q231 rfl rfl rfl rfl rfl (Nat.le_of_ble_eq_true rfl) dJ3_ensureCapacityInternal_35 rfl rfl ?_
    obtain rfl := Option.some.inj hF
    refine v_ws (ws' := ([(tx, .inr (9, [.ref q32_1, .int 0, .int ml, .int cnt])), (q32_1, .inl (D.1 102, z32.1, .inl z32.2))])) [0, 2] (by decide) rfl ?_
    exact v_vret X hr ⟨q32_1, rfl⟩ (Nat.le_of_ble_eq_true rfl) (Nat.le_of_ble_eq_true rfl) dJ3_ensureCapacityInternal_38
theorem w_J3_isLatin1 (r : Int32) (hF : J3_isLatin1 = some r) : CTi l yJ3_isLatin1 cJ3_isLatin1 1 (Option.some Jvm.ClassFile.FieldType.boolean) rmJ3_isLatin1 D ([(tx, .inr (9, [.ref av, .int 0, .int ml, .int cnt])), (av, .inl (D.1 102, nb, .inl byt))]) [.ref tx] (AMB D) (fun r1 u => r1 = r ∧ u = ([(tx, .inr (9, [.ref av, .int 0, .int ml, .int cnt])), (av, .inl (D.1 102, nb, .inl byt))])) := by
  refine m_i (by decide) (Nat.le_of_ble_eq_true rfl) ?_
  intro p e s m args below meth c A B
  obtain ⟨X, hr, hAm, -, hnm, hnmd⟩ := B
  replace X : CX p s m args meth c D A cJ3_isLatin1 1 "java/lang/AbstractStringBuilder" := X
  refine v_lv (lv' := [(0, .ref tx)]) [0] rfl ?_
  unfold J3_isLatin1 at hF
  refine v_getZ 3 X hAm.1.2.1 q222 dJ3_isLatin1_0 rfl ?_
  refine v_if_eq 6 17 X dJ3_isLatin1_3 rfl (by decide) (fun h3 => ?_) (fun h3 => ?_)
  · exact absurd h3 (by decide)
  · refine v_aload_n 7 X 0 dJ3_isLatin1_6 rfl rfl rfl ?_
    refine v_get 10 X in_J4 0 1 rfl rfl (by decide) q232 rfl rfl dJ3_isLatin1_7 rfl ?_
    refine v_if_ne 13 17 X dJ3_isLatin1_10 rfl (by decide) (fun h10 => ?_) (fun h10 => ?_)
    · exact absurd (by decide) h10
    · refine v_iconst (v := 1) 14 X dJ3_isLatin1_13 rfl ki_1 ?_
      refine v_goto 18 X dJ3_isLatin1_14 (by decide) ?_
      obtain rfl := Option.some.inj hF
      exact v_zret X hr rfl ⟨rfl, rfl⟩ (Nat.le_of_ble_eq_true rfl) (Nat.le_of_ble_eq_true rfl) dJ3_isLatin1_18
theorem w_J3_length (r : Int32) (hF : J3_length cnt = some r) : CTi l yJ3_length cJ3_length 1 (Option.some Jvm.ClassFile.FieldType.int) rmJ3_length D ([(tx, .inr (9, [.ref av, .int 0, .int ml, .int cnt])), (av, .inl (D.1 102, nb, .inl byt))]) [.ref tx] (AMB D) (fun r1 u => r1 = r ∧ u = ([(tx, .inr (9, [.ref av, .int 0, .int ml, .int cnt])), (av, .inl (D.1 102, nb, .inl byt))])) := by
  refine m_i (by decide) (Nat.le_of_ble_eq_true rfl) ?_
  intro p e s m args below meth c A B
  obtain ⟨X, hr, hAm, -, hnm, hnmd⟩ := B
  replace X : CX p s m args meth c D A cJ3_length 1 "java/lang/AbstractStringBuilder" := X
  refine v_lv (lv' := [(0, .ref tx)]) [0] rfl ?_
  unfold J3_length at hF
  refine v_aload_n 1 X 0 dJ3_length_0 rfl rfl rfl ?_
  refine v_get 4 X in_J4 0 3 rfl rfl (by decide) q234 rfl rfl dJ3_length_1 rfl ?_
  obtain rfl := Option.some.inj hF
  exact v_iret X hr ⟨rfl, rfl⟩ (Nat.le_of_ble_eq_true rfl) (Nat.le_of_ble_eq_true rfl) dJ3_length_4
theorem w_J3_append (v1 : Int32) (r : Int32 × Nat × (Nat → Int32)) (hF : J3_append nb byt cnt v1 = some r) : CTr l yJ3_append cJ3_append 2 (Option.some (Jvm.ClassFile.FieldType.object "java/lang/AbstractStringBuilder")) rmJ3_append D ([(tx, .inr (9, [.ref av, .int 0, .int ml, .int cnt])), (av, .inl (D.1 102, nb, .inl byt))]) [.ref tx, .int v1] (AMB D) (fun a1 u => ∃ qa1 : Nat, a1 = tx ∧ u = ([(tx, .inr (9, [.ref qa1, .int 0, .int ml, .int r.1])), (qa1, .inl (D.1 102, r.2.1, .inl r.2.2))])) := by
  refine m_r (by decide) (Nat.le_of_ble_eq_true rfl) ?_
  intro p e s m args below meth c A B
  obtain ⟨X, hr, hAm, -, hnm, hnmd⟩ := B
  replace X : CX p s m args meth c D A cJ3_append 2 "java/lang/AbstractStringBuilder" := X
  refine v_lv (lv' := [(0, .ref tx), (1, .int v1)]) [0, 1] rfl ?_
  unfold J3_append at hF
  refine v_aload_n 1 X 0 dJ3_append_0 rfl rfl rfl ?_
  refine v_aload_n 2 X 0 dJ3_append_1 rfl rfl rfl ?_
  refine v_get 5 X in_J4 0 3 rfl rfl (by decide) q234 rfl rfl dJ3_append_2 rfl ?_
  refine v_iconst (v := 1) 6 X dJ3_append_5 rfl ki_1 ?_
  refine v_iadd 7 X dJ3_append_6 rfl ?_
  obtain ⟨z7, hz7, hF⟩ := ob hF
  refine vc_Pv (wr := ([] : va_W)) 10 1 142 X 1 [.int (cnt + 1)] [0, 1] [] ([(tx, .inr (9, [.ref av, .int 0, .int ml, .int cnt])), (av, .inl (D.1 102, nb, .inl byt))]) rfl rfl (by decide) (by decide) (by decide) (w_J3_ensureCapacityInternal (cnt + 1) _ hz7) q511 q1538 (sel_priv (X.hts _ q214) (X.hts _ q1538) (hAm.use q512 rfl rfl) (X.hts _ q513)) q513 q91 q514 hdJ3_ensureCapacityInternal.2 0 rfl rfl (pass_amb hAm) ⟨Nat.le_of_ble_eq_true rfl, Nat.le_of_ble_eq_true rfl⟩ ⟨(Nat.le_of_ble_eq_true rfl), (Nat.le_of_ble_eq_true rfl)⟩ rfl rfl (Nat.le_of_ble_eq_true rfl) dJ3_append_7 rfl rfl rfl (fun u7 e7 => ?_)
  obtain ⟨q7_1, rfl⟩ := e7
  refine v_ws (ws' := ([(tx, .inr (9, [.ref q7_1, .int 0, .int ml, .int cnt])), (q7_1, .inl (D.1 102, z7.1, .inl z7.2))])) [0, 1] (by decide) rfl ?_
  refine v_aload_n 11 X 0 dJ3_append_10 rfl rfl rfl ?_
  obtain ⟨z11, hz11, hF⟩ := ob hF
  refine vc_Pi (wr := ([] : va_W)) 14 1 142 X 0 [] [0, 1] [] ([(tx, .inr (9, [.ref q7_1, .int 0, .int ml, .int cnt])), (q7_1, .inl (D.1 102, z7.1, .inl z7.2))]) rfl rfl (by decide) (by decide) (by decide) (w_J3_isLatin1 _ hz11) q538 q540 (X.hts _ q541) q539 q91 q542 hdJ3_isLatin1.2 0 rfl rfl (pass_amb hAm) ⟨Nat.le_of_ble_eq_true rfl, Nat.le_of_ble_eq_true rfl⟩ ⟨(Nat.le_of_ble_eq_true rfl), (Nat.le_of_ble_eq_true rfl)⟩ rfl rfl (Nat.le_of_ble_eq_true rfl) dJ3_append_11 rfl rfl rfl (fun r11 u11 e11 => ?_)
  obtain ⟨e111, rfl⟩ := e11
  have e112 := e111.symm
  subst e112
  refine v_ws (ws' := ([(tx, .inr (9, [.ref q7_1, .int 0, .int ml, .int cnt])), (q7_1, .inl (D.1 102, z7.1, .inl z7.2))])) [0, 1] (by decide) rfl ?_
  refine v_if_eq 17 45 X dJ3_append_14 rfl (by decide) (fun h14 => ?_) (fun h14 => ?_)
  · replace hF := ifp h14 hF
    cases hF
  · replace hF := ifn h14 hF
    refine v_iload_n 18 X 1 dJ3_append_17 rfl rfl rfl ?_
    obtain ⟨z18, hz18, hF⟩ := ob hF
    refine v_mSi 21 X 1 [.int v1] (w_J11_canEncode ([(tx, .inr (9, [.ref q7_1, .int 0, .int ml, .int cnt])), (q7_1, .inl (D.1 102, z7.1, .inl z7.2))]) v1 _ hz18) q543 q544 q101 q545 hdJ11_canEncode pass_no ⟨rfl, rfl⟩ ⟨Nat.le_of_ble_eq_true rfl, Nat.le_of_ble_eq_true rfl⟩ ⟨(Nat.le_of_ble_eq_true rfl), (Nat.le_of_ble_eq_true rfl)⟩ rfl rfl (Nat.le_of_ble_eq_true rfl) dJ3_append_18 rfl ?_
    refine v_if_eq 24 45 X dJ3_append_21 rfl (by decide) (fun h21 => ?_) (fun h21 => ?_)
    · replace hF := ifp h21 hF
      cases hF
    · replace hF := ifn h21 hF
      refine v_aload_n 25 X 0 dJ3_append_24 rfl rfl rfl ?_
      refine v_get 28 X in_J4 0 0 rfl rfl (by decide) q231 rfl rfl dJ3_append_25 rfl ?_
      refine v_aload_n 29 X 0 dJ3_append_28 rfl rfl rfl ?_
      refine v_dup 30 X dJ3_append_29 rfl rfl ?_
      refine v_get 33 X in_J4 0 3 rfl rfl (by decide) q234 rfl rfl dJ3_append_30 rfl ?_
      refine v_dup_x1 34 X dJ3_append_33 rfl rfl rfl ?_
      refine v_iconst (v := 1) 35 X dJ3_append_34 rfl ki_1 ?_
      refine v_iadd 36 X dJ3_append_35 rfl ?_
      refine v_put 39 ([(tx, .inr (9, [.ref q7_1, .int 0, .int ml, .int (cnt + 1)])), (q7_1, .inl (D.1 102, z7.1, .inl z7.2))]) X in_J4 tyJ4_ok nmJ4 0 3 rfl rfl (by decide) q234 rfl rfl rfl rfl rfl (Nat.le_of_ble_eq_true rfl) dJ3_append_36 rfl rfl ?_
      refine v_iload_n 40 X 1 dJ3_append_39 rfl rfl rfl ?_
      refine v_i2b 41 X dJ3_append_40 rfl ?_
      obtain ⟨z41, hz41, hF⟩ := ob hF
      refine v_bast 42 ([(tx, .inr (9, [.ref q7_1, .int 0, .int ml, .int (cnt + 1)])), (q7_1, .inl (D.1 102, z7.1, .inl z41))]) X 1 hz41 rfl dJ3_append_41 rfl rfl ?_
      refine v_goto 75 X dJ3_append_42 (by decide) ?_
      refine v_aload_n 76 X 0 dJ3_append_75 rfl rfl rfl ?_
      obtain rfl := Option.some.inj hF
      refine v_aret (post := (fun r : Int32 × Nat × (Nat → Int32) => (fun a1 u => ∃ qa1 : Nat, a1 = tx ∧ u = ([(tx, .inr (9, [.ref qa1, .int 0, .int ml, .int r.1])), (qa1, .inl (D.1 102, r.2.1, .inl r.2.2))]))) ((cnt + 1), z7.1, z41)) X hr (Or.inl ⟨_, rfl⟩) ?_ ?_ ?_ dJ3_append_76
      · exact ⟨q7_1, rfl, rfl⟩
      · exact Nat.le_of_ble_eq_true rfl
      · exact Nat.le_of_ble_eq_true rfl
theorem w_J3_charAt (v1 : Int32) (r : Int32) (hF : J3_charAt nb byt cnt v1 = some r) : CTi l yJ3_charAt cJ3_charAt 5 (Option.some Jvm.ClassFile.FieldType.char) rmJ3_charAt D ([(tx, .inr (9, [.ref av, .int 0, .int ml, .int cnt])), (av, .inl (D.1 102, nb, .inl byt))]) [.ref tx, .int v1] (AMB D) (fun r1 u => r1 = r ∧ u = ([(tx, .inr (9, [.ref av, .int 0, .int ml, .int cnt])), (av, .inl (D.1 102, nb, .inl byt))])) := by
  refine m_i (by decide) (Nat.le_of_ble_eq_true rfl) ?_
  intro p e s m args below meth c A B
  obtain ⟨X, hr, hAm, -, hnm, hnmd⟩ := B
  replace X : CX p s m args meth c D A cJ3_charAt 5 "java/lang/AbstractStringBuilder" := X
  refine v_lv (lv' := [(0, .ref tx), (1, .int v1)]) [0, 1] rfl ?_
  unfold J3_charAt at hF
  refine v_aload_n 1 X 0 dJ3_charAt_0 rfl rfl rfl ?_
  refine v_get 4 X in_J4 0 1 rfl rfl (by decide) q232 rfl rfl dJ3_charAt_1 rfl ?_
  refine v_istore_n 5 [(2, .int 0), (0, .ref tx), (1, .int v1)] X dJ3_charAt_4 rfl rfl (by decide) rfl ?_
  refine v_aload_n 6 X 1 dJ3_charAt_5 rfl rfl rfl ?_
  refine v_get 9 X in_J4 0 0 rfl rfl (by decide) q231 rfl rfl dJ3_charAt_6 rfl ?_
  refine v_astore_n 10 [(3, .ref av), (2, .int 0), (0, .ref tx), (1, .int v1)] X dJ3_charAt_9 rfl rfl (by decide) rfl ?_
  refine v_aload_n 11 X 2 dJ3_charAt_10 rfl rfl rfl ?_
  refine v_get 14 X in_J4 0 3 rfl rfl (by decide) q234 rfl rfl dJ3_charAt_11 rfl ?_
  refine v_aload_n 15 X 0 dJ3_charAt_14 rfl rfl rfl ?_
  refine v_alen 16 X 1 2 rfl rfl rfl dJ3_charAt_15 rfl ?_
  refine v_iload_n 17 X 1 dJ3_charAt_16 rfl rfl rfl ?_
  refine v_ishr 18 X dJ3_charAt_17 rfl ?_
  refine v_mmin 21 X q679 (Nat.le_of_ble_eq_true rfl) (Nat.le_of_ble_eq_true rfl) (Nat.le_of_ble_eq_true rfl) (Nat.le_of_ble_eq_true rfl) dJ3_charAt_18 rfl ?_
  obtain ⟨z21, hz21, hF⟩ := ob hF
  refine v_topi (Option.some.inj hz21) ?_
  refine v_istore 23 [(4, .int z21), (3, .ref av), (2, .int 0), (0, .ref tx), (1, .int v1)] X dJ3_charAt_21 rfl (by decide) rfl ?_
  refine v_iload_n 24 X 4 dJ3_charAt_23 rfl rfl rfl ?_
  refine v_iload 26 X 0 dJ3_charAt_24 rfl rfl ?_
  obtain ⟨z26, hz26, hF⟩ := ob hF
  refine vc_Sv (wr := ([(tx, .inr (9, [.ref av, .int 0, .int ml, .int cnt])), (av, .inl (D.1 102, nb, .inl byt))])) 29 0 0 X 2 [.int v1, .int z21] [] [0, 1] ([] : va_W) rfl rfl (by decide) (by decide) (by decide) (w_J5_checkIndex v1 z21 _ hz26) q680 q586 q93 q587 hdJ5_checkIndex (pass_amb hAm) ⟨Nat.le_of_ble_eq_true rfl, Nat.le_of_ble_eq_true rfl⟩ ⟨(Nat.le_of_ble_eq_true rfl), (Nat.le_of_ble_eq_true rfl)⟩ rfl rfl (Nat.le_of_ble_eq_true rfl) dJ3_charAt_26 rfl rfl rfl (fun u26 e26 => ?_)
  subst e26
  refine v_ws (ws' := ([(tx, .inr (9, [.ref av, .int 0, .int ml, .int cnt])), (av, .inl (D.1 102, nb, .inl byt))])) [0, 1] (by decide) rfl ?_
  refine v_iload_n 30 X 2 dJ3_charAt_29 rfl rfl rfl ?_
  refine v_if_ne 33 42 X dJ3_charAt_30 rfl (by decide) (fun h30 => ?_) (fun h30 => ?_)
  · exact absurd (by decide) h30
  · refine v_aload_n 34 X 1 dJ3_charAt_33 rfl rfl rfl ?_
    refine v_iload_n 35 X 4 dJ3_charAt_34 rfl rfl rfl ?_
    obtain ⟨z35, hz35, hF⟩ := ob hF
    refine v_bald 36 X 1 hz35 rfl dJ3_charAt_35 rfl ?_
    refine v_sipush (v := 255) 39 X dJ3_charAt_36 rfl ks_255 ?_
    refine v_iand 40 X dJ3_charAt_39 rfl ?_
    refine v_i2c 41 X dJ3_charAt_40 rfl ?_
    obtain ⟨z41, hz41, hF⟩ := ob hF
    refine v_topi (cck_s hz41).1 ?_
    obtain rfl := Option.some.inj hF
    exact v_zret X hr (cck_s hz41).2.1 ⟨rfl, rfl⟩ (Nat.le_of_ble_eq_true rfl) (Nat.le_of_ble_eq_true rfl) dJ3_charAt_41
theorem w_J3_setLength (v1 : Int32) (r : Int32 × Int32 × Nat × (Nat → Int32)) (hF : J3_setLength nb byt ml cnt v1 = some r) : CTv l yJ3_setLength cJ3_setLength 2 (Option.none : Option Jvm.ClassFile.FieldType) rmJ3_setLength D ([(tx, .inr (9, [.ref av, .int 0, .int ml, .int cnt])), (av, .inl (D.1 102, nb, .inl byt))]) [.ref tx, .int v1] (AMB D) (fun u => ∃ qa1 : Nat, u = ([(tx, .inr (9, [.ref qa1, .int 0, .int r.1, .int r.2.1])), (qa1, .inl (D.1 102, r.2.2.1, .inl r.2.2.2))])) := by
  refine m_v (by decide) (Nat.le_of_ble_eq_true rfl) ?_
  intro p e s m args below meth c A B
  obtain ⟨X, hr, hAm, -, hnm, hnmd⟩ := B
  replace X : CX p s m args meth c D A cJ3_setLength 2 "java/lang/AbstractStringBuilder" := X
  refine v_lv (lv' := [(0, .ref tx), (1, .int v1)]) [0, 1] rfl ?_
  unfold J3_setLength at hF
  refine v_iload_n 1 X 1 dJ3_setLength_0 rfl rfl rfl ?_
  refine v_if_ge 4 13 X dJ3_setLength_1 rfl (by decide) (fun h1 => ?_) (fun h1 => ?_)
  · replace hF := ifp h1 hF
    refine v_aload_n 14 X 0 dJ3_setLength_13 rfl rfl rfl ?_
    refine v_iload_n 15 X 1 dJ3_setLength_14 rfl rfl rfl ?_
    obtain ⟨z15, hz15, hF⟩ := ob hF
    refine vc_Pv (wr := ([] : va_W)) 18 1 142 X 1 [.int v1] [0, 1] [] ([(tx, .inr (9, [.ref av, .int 0, .int ml, .int cnt])), (av, .inl (D.1 102, nb, .inl byt))]) rfl rfl (by decide) (by decide) (by decide) (w_J3_ensureCapacityInternal v1 _ hz15) q511 q1538 (sel_priv (X.hts _ q214) (X.hts _ q1538) (hAm.use q512 rfl rfl) (X.hts _ q513)) q513 q91 q514 hdJ3_ensureCapacityInternal.2 0 rfl rfl (pass_amb hAm) ⟨Nat.le_of_ble_eq_true rfl, Nat.le_of_ble_eq_true rfl⟩ ⟨(Nat.le_of_ble_eq_true rfl), (Nat.le_of_ble_eq_true rfl)⟩ rfl rfl (Nat.le_of_ble_eq_true rfl) dJ3_setLength_15 rfl rfl rfl (fun u15 e15 => ?_)
    obtain ⟨q15_1, rfl⟩ := e15
    refine v_ws (ws' := ([(tx, .inr (9, [.ref q15_1, .int 0, .int ml, .int cnt])), (q15_1, .inl (D.1 102, z15.1, .inl z15.2))])) [0, 1] (by decide) rfl ?_
    refine v_aload_n 19 X 0 dJ3_setLength_18 rfl rfl rfl ?_
    refine v_get 22 X in_J4 0 3 rfl rfl (by decide) q234 rfl rfl dJ3_setLength_19 rfl ?_
    refine v_iload_n 23 X 1 dJ3_setLength_22 rfl rfl rfl ?_
    refine v_icmp_ge 26 63 X dJ3_setLength_23 rfl (by decide) (fun h23 => ?_) (fun h23 => ?_)
    · replace hF := ifp h23 hF
      refine v_aload_n 64 X 0 dJ3_setLength_63 rfl rfl rfl ?_
      refine v_get 67 X in_J4 0 3 rfl rfl (by decide) q234 rfl rfl dJ3_setLength_64 rfl ?_
      refine v_iload_n 68 X 1 dJ3_setLength_67 rfl rfl rfl ?_
      refine v_icmp_le 71 76 X dJ3_setLength_68 rfl (by decide) (fun h68 => ?_) (fun h68 => ?_)
      · replace hF := ifp h68 hF
        refine v_aload_n 77 X 0 dJ3_setLength_76 rfl rfl rfl ?_
        refine v_iload_n 78 X 1 dJ3_setLength_77 rfl rfl rfl ?_
        refine v_put 81 ([(tx, .inr (9, [.ref q15_1, .int 0, .int ml, .int v1])), (q15_1, .inl (D.1 102, z15.1, .inl z15.2))]) X in_J4 tyJ4_ok nmJ4 0 3 rfl rfl (by decide) q234 rfl rfl rfl rfl rfl (Nat.le_of_ble_eq_true rfl) dJ3_setLength_78 rfl rfl ?_
        obtain rfl := Option.some.inj hF
        exact v_vret X hr ⟨q15_1, rfl⟩ (Nat.le_of_ble_eq_true rfl) (Nat.le_of_ble_eq_true rfl) dJ3_setLength_81
      · replace hF := ifn h68 hF
        refine v_aload_n 72 X 0 dJ3_setLength_71 rfl rfl rfl ?_
        refine v_iconst (v := 1) 73 X dJ3_setLength_72 rfl ki_1 ?_
        refine v_put 76 ([(tx, .inr (9, [.ref q15_1, .int 0, .int 1, .int cnt])), (q15_1, .inl (D.1 102, z15.1, .inl z15.2))]) X in_J4 tyJ4_ok nmJ4 0 2 rfl rfl (by decide) q233 rfl rfl rfl rfl rfl (Nat.le_of_ble_eq_true rfl) dJ3_setLength_73 rfl rfl ?_
        refine v_aload_n 77 X 0 dJ3_setLength_76 rfl rfl rfl ?_
        refine v_iload_n 78 X 1 dJ3_setLength_77 rfl rfl rfl ?_
        refine v_put 81 ([(tx, .inr (9, [.ref q15_1, .int 0, .int 1, .int v1])), (q15_1, .inl (D.1 102, z15.1, .inl z15.2))]) X in_J4 tyJ4_ok nmJ4 0 3 rfl rfl (by decide) q234 rfl rfl rfl rfl rfl (Nat.le_of_ble_eq_true rfl) dJ3_setLength_78 rfl rfl ?_
        obtain rfl := Option.some.inj hF
        exact v_vret X hr ⟨q15_1, rfl⟩ (Nat.le_of_ble_eq_true rfl) (Nat.le_of_ble_eq_true rfl) dJ3_setLength_81
    · replace hF := ifn h23 hF
      cases hF
  · replace hF := ifn h1 hF
    cases hF
theorem w_J4_length (r : Int32) (hF : J4_length cnt = some r) : CTi l yJ4_length cJ4_length 1 (Option.some Jvm.ClassFile.FieldType.int) rmJ4_length D ([(tx, .inr (9, [.ref av, .int 0, .int ml, .int cnt])), (av, .inl (D.1 102, nb, .inl byt))]) [.ref tx] (AMB D) (fun r1 u => r1 = r ∧ u = ([(tx, .inr (9, [.ref av, .int 0, .int ml, .int cnt])), (av, .inl (D.1 102, nb, .inl byt))])) := by
  refine m_i (by decide) (Nat.le_of_ble_eq_true rfl) ?_
  intro p e s m args below meth c A B
  obtain ⟨X, hr, hAm, -, hnm, hnmd⟩ := B
  replace X : CX p s m args meth c D A cJ4_length 1 "java/lang/StringBuilder" := X
  refine v_lv (lv' := [(0, .ref tx)]) [0] rfl ?_
  unfold J4_length at hF
  refine v_aload_n 1 X 0 dJ4_length_0 rfl rfl rfl ?_
  obtain ⟨z1, hz1, hF⟩ := ob hF
  refine vc_Bi (wr := ([] : va_W)) 4 0 0 X 0 [] [0, 1] [] ([(tx, .inr (9, [.ref av, .int 0, .int ml, .int cnt])), (av, .inl (D.1 102, nb, .inl byt))]) rfl rfl (by decide) (by decide) (by decide) (w_J3_length _ hz1) q214 q501 q1536 q243 q502 q91 q503 ⟨by decide, hdJ3_length.2.2.2⟩ 0 rfl rfl (pass_amb hAm) ⟨Nat.le_of_ble_eq_true rfl, Nat.le_of_ble_eq_true rfl⟩ ⟨(Nat.le_of_ble_eq_true rfl), (Nat.le_of_ble_eq_true rfl)⟩ rfl rfl (Nat.le_of_ble_eq_true rfl) dJ4_length_1 rfl rfl rfl (fun r1 u1 e1 => ?_)
  obtain ⟨e11, rfl⟩ := e1
  have e12 := e11.symm
  subst e12
  refine v_ws (ws' := ([(tx, .inr (9, [.ref av, .int 0, .int ml, .int cnt])), (av, .inl (D.1 102, nb, .inl byt))])) [0, 1] (by decide) rfl ?_
  obtain rfl := Option.some.inj hF
  exact v_iret X hr ⟨rfl, rfl⟩ (Nat.le_of_ble_eq_true rfl) (Nat.le_of_ble_eq_true rfl) dJ4_length_4
theorem w_J4_append (v1 : Int32) (r : Int32 × Nat × (Nat → Int32)) (hF : J4_append nb byt cnt v1 = some r) : CTr l yJ4_append cJ4_append 2 (Option.some (Jvm.ClassFile.FieldType.object "java/lang/StringBuilder")) rmJ4_append D ([(tx, .inr (9, [.ref av, .int 0, .int ml, .int cnt])), (av, .inl (D.1 102, nb, .inl byt))]) [.ref tx, .int v1] (AMB D) (fun a1 u => ∃ qa1 : Nat, a1 = tx ∧ u = ([(tx, .inr (9, [.ref qa1, .int 0, .int ml, .int r.1])), (qa1, .inl (D.1 102, r.2.1, .inl r.2.2))])) := by
  refine m_r (by decide) (Nat.le_of_ble_eq_true rfl) ?_
  intro p e s m args below meth c A B
  obtain ⟨X, hr, hAm, -, hnm, hnmd⟩ := B
  replace X : CX p s m args meth c D A cJ4_append 2 "java/lang/StringBuilder" := X
  refine v_lv (lv' := [(0, .ref tx), (1, .int v1)]) [0, 1] rfl ?_
  unfold J4_append at hF
  refine v_aload_n 1 X 0 dJ4_append_0 rfl rfl rfl ?_
  refine v_iload_n 2 X 1 dJ4_append_1 rfl rfl rfl ?_
  obtain ⟨z2, hz2, hF⟩ := ob hF
  refine vc_Br (wr := ([] : va_W)) 5 1 142 X 1 [.int v1] [0, 1] [] ([(tx, .inr (9, [.ref av, .int 0, .int ml, .int cnt])), (av, .inl (D.1 102, nb, .inl byt))]) rfl rfl (by decide) (by decide) (by decide) (w_J3_append v1 _ hz2) q214 q508 q1537 q243 q509 q91 q510 ⟨by decide, hdJ3_append.2.2.2⟩ 0 rfl rfl (pass_amb hAm) ⟨Nat.le_of_ble_eq_true rfl, Nat.le_of_ble_eq_true rfl⟩ ⟨(Nat.le_of_ble_eq_true rfl), (Nat.le_of_ble_eq_true rfl)⟩ rfl rfl (Nat.le_of_ble_eq_true rfl) dJ4_append_2 rfl rfl rfl (fun a2 u2 e2 => ?_)
  obtain ⟨q2_1, e21, rfl⟩ := e2
  have e22 := e21.symm
  subst e22
  refine v_ws (ws' := ([(tx, .inr (9, [.ref q2_1, .int 0, .int ml, .int z2.1])), (q2_1, .inl (D.1 102, z2.2.1, .inl z2.2.2))])) [0, 1] (by decide) rfl ?_
  refine v_pop 6 X dJ4_append_5 rfl rfl ?_
  refine v_aload_n 7 X 0 dJ4_append_6 rfl rfl rfl ?_
  obtain rfl := Option.some.inj hF
  refine v_aret (post := (fun r : Int32 × Nat × (Nat → Int32) => (fun a1 u => ∃ qa1 : Nat, a1 = tx ∧ u = ([(tx, .inr (9, [.ref qa1, .int 0, .int ml, .int r.1])), (qa1, .inl (D.1 102, r.2.1, .inl r.2.2))]))) (z2.1, z2.2.1, z2.2.2)) X hr (Or.inl ⟨_, rfl⟩) ?_ ?_ ?_ dJ4_append_7
  · exact ⟨q2_1, rfl, rfl⟩
  · exact Nat.le_of_ble_eq_true rfl
  · exact Nat.le_of_ble_eq_true rfl
theorem w_J4_charAt (v1 : Int32) (r : Int32) (hF : J4_charAt nb byt cnt v1 = some r) : CTi l yJ4_charAt cJ4_charAt 2 (Option.some Jvm.ClassFile.FieldType.char) rmJ4_charAt D ([(tx, .inr (9, [.ref av, .int 0, .int ml, .int cnt])), (av, .inl (D.1 102, nb, .inl byt))]) [.ref tx, .int v1] (AMB D) (fun r1 u => r1 = r ∧ u = ([(tx, .inr (9, [.ref av, .int 0, .int ml, .int cnt])), (av, .inl (D.1 102, nb, .inl byt))])) := by
  refine m_i (by decide) (Nat.le_of_ble_eq_true rfl) ?_
  intro p e s m args below meth c A B
  obtain ⟨X, hr, hAm, -, hnm, hnmd⟩ := B
  replace X : CX p s m args meth c D A cJ4_charAt 2 "java/lang/StringBuilder" := X
  refine v_lv (lv' := [(0, .ref tx), (1, .int v1)]) [0, 1] rfl ?_
  unfold J4_charAt at hF
  refine v_aload_n 1 X 0 dJ4_charAt_0 rfl rfl rfl ?_
  refine v_iload_n 2 X 1 dJ4_charAt_1 rfl rfl rfl ?_
  obtain ⟨z2, hz2, hF⟩ := ob hF
  refine vc_Bi (wr := ([] : va_W)) 5 0 0 X 1 [.int v1] [0, 1] [] ([(tx, .inr (9, [.ref av, .int 0, .int ml, .int cnt])), (av, .inl (D.1 102, nb, .inl byt))]) rfl rfl (by decide) (by decide) (by decide) (w_J3_charAt v1 _ hz2) q214 q676 q1542 q243 q677 q91 q678 ⟨by decide, hdJ3_charAt.2.2.2⟩ 0 rfl rfl (pass_amb hAm) ⟨Nat.le_of_ble_eq_true rfl, Nat.le_of_ble_eq_true rfl⟩ ⟨(Nat.le_of_ble_eq_true rfl), (Nat.le_of_ble_eq_true rfl)⟩ rfl rfl (Nat.le_of_ble_eq_true rfl) dJ4_charAt_2 rfl rfl rfl (fun r2 u2 e2 => ?_)
  obtain ⟨e21, rfl⟩ := e2
  have e22 := e21.symm
  subst e22
  refine v_ws (ws' := ([(tx, .inr (9, [.ref av, .int 0, .int ml, .int cnt])), (av, .inl (D.1 102, nb, .inl byt))])) [0, 1] (by decide) rfl ?_
  obtain ⟨z5, hz5, hF⟩ := ob hF
  refine v_topi (cck_s hz5).1 ?_
  obtain rfl := Option.some.inj hF
  exact v_zret X hr (cck_s hz5).2.1 ⟨rfl, rfl⟩ (Nat.le_of_ble_eq_true rfl) (Nat.le_of_ble_eq_true rfl) dJ4_charAt_5
theorem w_J4_setLength (v1 : Int32) (r : Int32 × Int32 × Nat × (Nat → Int32)) (hF : J4_setLength nb byt ml cnt v1 = some r) : CTv l yJ4_setLength cJ4_setLength 2 (Option.none : Option Jvm.ClassFile.FieldType) rmJ4_setLength D ([(tx, .inr (9, [.ref av, .int 0, .int ml, .int cnt])), (av, .inl (D.1 102, nb, .inl byt))]) [.ref tx, .int v1] (AMB D) (fun u => ∃ qa1 : Nat, u = ([(tx, .inr (9, [.ref qa1, .int 0, .int r.1, .int r.2.1])), (qa1, .inl (D.1 102, r.2.2.1, .inl r.2.2.2))])) := by
  refine m_v (by decide) (Nat.le_of_ble_eq_true rfl) ?_
  intro p e s m args below meth c A B
  obtain ⟨X, hr, hAm, -, hnm, hnmd⟩ := B
  replace X : CX p s m args meth c D A cJ4_setLength 2 "java/lang/StringBuilder" := X
  refine v_lv (lv' := [(0, .ref tx), (1, .int v1)]) [0, 1] rfl ?_
  unfold J4_setLength at hF
  refine v_aload_n 1 X 0 dJ4_setLength_0 rfl rfl rfl ?_
  refine v_iload_n 2 X 1 dJ4_setLength_1 rfl rfl rfl ?_
  obtain ⟨z2, hz2, hF⟩ := ob hF
  refine vc_Bv (wr := ([] : va_W)) 5 1 142 X 1 [.int v1] [0, 1] [] ([(tx, .inr (9, [.ref av, .int 0, .int ml, .int cnt])), (av, .inl (D.1 102, nb, .inl byt))]) rfl rfl (by decide) (by decide) (by decide) (w_J3_setLength v1 _ hz2) q214 q599 q1541 q243 q600 q91 q601 ⟨by decide, hdJ3_setLength.2.2.2⟩ 0 rfl rfl (pass_amb hAm) ⟨Nat.le_of_ble_eq_true rfl, Nat.le_of_ble_eq_true rfl⟩ ⟨(Nat.le_of_ble_eq_true rfl), (Nat.le_of_ble_eq_true rfl)⟩ rfl rfl (Nat.le_of_ble_eq_true rfl) dJ4_setLength_2 rfl rfl rfl (fun u2 e2 => ?_)
  obtain ⟨q2_1, rfl⟩ := e2
  refine v_ws (ws' := ([(tx, .inr (9, [.ref q2_1, .int 0, .int z2.1, .int z2.2.1])), (q2_1, .inl (D.1 102, z2.2.2.1, .inl z2.2.2.2))])) [0, 1] (by decide) rfl ?_
  obtain rfl := Option.some.inj hF
  exact v_vret X hr ⟨q2_1, rfl⟩ (Nat.le_of_ble_eq_true rfl) (Nat.le_of_ble_eq_true rfl) dJ4_setLength_5
theorem w_X0_append (v1 : Int32) (r : Int32 × Int32 × Nat × (Nat → Int32)) (hF : C_append nb byt cnt v1 = some r) : CTi l yX0_append cX0_append 2 (Option.some Jvm.ClassFile.FieldType.int) rmX0_append D ([(a0, .inr (0, [.ref b0, .ref hq, .ref tx])), (tx, .inr (9, [.ref av, .int 0, .int ml, .int cnt])), (av, .inl (D.1 102, nb, .inl byt))]) [.ref a0, .int v1] (AMB D) (fun r1 u => ∃ qa2 : Nat, r1 = r.1 ∧ u = ([(a0, .inr (0, [.ref b0, .ref hq, .ref tx])), (tx, .inr (9, [.ref qa2, .int 0, .int ml, .int r.2.1])), (qa2, .inl (D.1 102, r.2.2.1, .inl r.2.2.2))])) := by
  refine m_i (by decide) (Nat.le_of_ble_eq_true rfl) ?_
  intro p e s m args below meth c A B
  obtain ⟨X, hr, hAm, -, hnm, hnmd⟩ := B
  replace X : CX p s m args meth c D A cX0_append 2 "DyeLattice" := X
  refine v_lv (lv' := [(0, .ref a0), (1, .int v1)]) [0, 1] rfl ?_
  unfold C_append at hF
  refine v_iload_n 1 X 1 dX0_append_0 rfl rfl rfl ?_
  refine v_iconst (v := 1) 2 X dX0_append_1 rfl ki_1 ?_
  refine v_sipush (v := 255) 5 X dX0_append_2 rfl ks_255 ?_
  obtain ⟨z5, hz5, hF⟩ := ob hF
  refine v_mSi 8 X 3 [.int v1, .int 1, .int 255] (w_X0_isBetween ([(a0, .inr (0, [.ref b0, .ref hq, .ref tx])), (tx, .inr (9, [.ref av, .int 0, .int ml, .int cnt])), (av, .inl (D.1 102, nb, .inl byt))]) v1 1 255 _ hz5) q260 q261 q84 q262 hdX0_isBetween pass_no ⟨rfl, rfl⟩ ⟨Nat.le_of_ble_eq_true rfl, Nat.le_of_ble_eq_true rfl⟩ ⟨(Nat.le_of_ble_eq_true rfl), (Nat.le_of_ble_eq_true rfl)⟩ rfl rfl (Nat.le_of_ble_eq_true rfl) dX0_append_5 rfl ?_
  refine v_if_ne 11 13 X dX0_append_8 rfl (by decide) (fun h8 => ?_) (fun h8 => ?_)
  · replace hF := ifn h8 hF
    refine v_aload_n 14 X 0 dX0_append_13 rfl rfl rfl ?_
    refine v_get 17 X in_X0 0 2 rfl rfl (by decide) q248 rfl rfl dX0_append_14 rfl ?_
    obtain ⟨z17, hz17, hF⟩ := ob hF
    refine vc_Vi (wr := ([(a0, .inr (0, [.ref b0, .ref hq, .ref tx]))])) 20 0 0 X 0 [] [1, 2] [0] ([(tx, .inr (9, [.ref av, .int 0, .int ml, .int cnt])), (av, .inl (D.1 102, nb, .inl byt))]) rfl rfl (by decide) (by decide) (by decide) (w_J4_length _ hz17) q497 q498 q499 q92 q500 hdJ4_length 1 rfl rfl (pass_amb hAm) ⟨Nat.le_of_ble_eq_true rfl, Nat.le_of_ble_eq_true rfl⟩ ⟨(Nat.le_of_ble_eq_true rfl), (Nat.le_of_ble_eq_true rfl)⟩ rfl rfl (Nat.le_of_ble_eq_true rfl) dX0_append_17 rfl rfl rfl (fun r17 u17 e17 => ?_)
    obtain ⟨e171, rfl⟩ := e17
    have e172 := e171.symm
    subst e172
    refine v_ws (ws' := ([(a0, .inr (0, [.ref b0, .ref hq, .ref tx])), (tx, .inr (9, [.ref av, .int 0, .int ml, .int cnt])), (av, .inl (D.1 102, nb, .inl byt))])) [0, 1, 2] (by decide) rfl ?_
    refine v_bipush (v := 120) 22 X dX0_append_20 rfl kb_120 ?_
    refine v_icmp_ne 25 28 X dX0_append_22 rfl (by decide) (fun h22 => ?_) (fun h22 => ?_)
    · replace hF := ifn h22 hF
      refine v_aload_n 29 X 0 dX0_append_28 rfl rfl rfl ?_
      refine v_get 32 X in_X0 0 2 rfl rfl (by decide) q248 rfl rfl dX0_append_29 rfl ?_
      refine v_iload_n 33 X 1 dX0_append_32 rfl rfl rfl ?_
      refine v_i2c 34 X dX0_append_33 rfl ?_
      obtain ⟨z34, hz34, hF⟩ := ob hF
      refine vc_Vr (wr := ([(a0, .inr (0, [.ref b0, .ref hq, .ref tx]))])) 37 1 142 X 1 [.int ((Int32.toUInt32 v1 % 65536).toInt32)] [1, 2] [0] ([(tx, .inr (9, [.ref av, .int 0, .int ml, .int cnt])), (av, .inl (D.1 102, nb, .inl byt))]) rfl rfl (by decide) (by decide) (by decide) (w_J4_append ((Int32.toUInt32 v1 % 65536).toInt32) _ hz34) q504 q505 q506 q92 q507 hdJ4_append 1 rfl rfl (pass_amb hAm) ⟨Nat.le_of_ble_eq_true rfl, Nat.le_of_ble_eq_true rfl⟩ ⟨(Nat.le_of_ble_eq_true rfl), (Nat.le_of_ble_eq_true rfl)⟩ rfl rfl (Nat.le_of_ble_eq_true rfl) dX0_append_34 rfl rfl rfl (fun a34 u34 e34 => ?_)
      obtain ⟨q34_1, e341, rfl⟩ := e34
      have e342 := e341.symm
      subst e342
      refine v_ws (ws' := ([(a0, .inr (0, [.ref b0, .ref hq, .ref tx])), (tx, .inr (9, [.ref q34_1, .int 0, .int ml, .int z34.1])), (q34_1, .inl (D.1 102, z34.2.1, .inl z34.2.2))])) [0, 1, 2] (by decide) rfl ?_
      refine v_pop 38 X dX0_append_37 rfl rfl ?_
      refine v_aload_n 39 X 0 dX0_append_38 rfl rfl rfl ?_
      refine v_get 42 X in_X0 0 2 rfl rfl (by decide) q248 rfl rfl dX0_append_39 rfl ?_
      obtain ⟨z42, hz42, hF⟩ := ob hF
      refine vc_Vi (wr := ([(a0, .inr (0, [.ref b0, .ref hq, .ref tx]))])) 45 1 142 X 0 [] [1, 2] [0] ([(tx, .inr (9, [.ref q34_1, .int 0, .int ml, .int z34.1])), (q34_1, .inl (D.1 102, z34.2.1, .inl z34.2.2))]) rfl rfl (by decide) (by decide) (by decide) (w_J4_length _ hz42) q497 q498 q499 q92 q500 hdJ4_length 1 rfl rfl (pass_amb hAm) ⟨Nat.le_of_ble_eq_true rfl, Nat.le_of_ble_eq_true rfl⟩ ⟨(Nat.le_of_ble_eq_true rfl), (Nat.le_of_ble_eq_true rfl)⟩ rfl rfl (Nat.le_of_ble_eq_true rfl) dX0_append_42 rfl rfl rfl (fun r42 u42 e42 => ?_)
      obtain ⟨e421, rfl⟩ := e42
      have e422 := e421.symm
      subst e422
      refine v_ws (ws' := ([(a0, .inr (0, [.ref b0, .ref hq, .ref tx])), (tx, .inr (9, [.ref q34_1, .int 0, .int ml, .int z34.1])), (q34_1, .inl (D.1 102, z34.2.1, .inl z34.2.2))])) [0, 1, 2] (by decide) rfl ?_
      obtain rfl := Option.some.inj hF
      exact v_iret X hr ⟨q34_1, rfl, rfl⟩ (Nat.le_of_ble_eq_true rfl) (Nat.le_of_ble_eq_true rfl) dX0_append_45
    · replace hF := ifp h22 hF
      refine v_bipush (v := (-3)) 27 X dX0_append_25 rfl kb_m3 ?_
      obtain rfl := Option.some.inj hF
      exact v_iret X hr ⟨av, rfl, rfl⟩ (Nat.le_of_ble_eq_true rfl) (Nat.le_of_ble_eq_true rfl) dX0_append_27
  · replace hF := ifp h8 hF
    refine v_iconst (v := (-1)) 12 X dX0_append_11 rfl ki_m1 ?_
    obtain rfl := Option.some.inj hF
    exact v_iret X hr ⟨av, rfl, rfl⟩ (Nat.le_of_ble_eq_true rfl) (Nat.le_of_ble_eq_true rfl) dX0_append_12
theorem w_X0_clearText (r : Int32 × Int32 × Int32 × Nat × (Nat → Int32)) (hF : C_clearText nb byt ml cnt = some r) : CTi l yX0_clearText cX0_clearText 2 (Option.some Jvm.ClassFile.FieldType.int) rmX0_clearText D ([(a0, .inr (0, [.ref b0, .ref hq, .ref tx])), (tx, .inr (9, [.ref av, .int 0, .int ml, .int cnt])), (av, .inl (D.1 102, nb, .inl byt))]) [.ref a0] (AMB D) (fun r1 u => ∃ qa2 : Nat, r1 = r.1 ∧ u = ([(a0, .inr (0, [.ref b0, .ref hq, .ref tx])), (tx, .inr (9, [.ref qa2, .int 0, .int r.2.1, .int r.2.2.1])), (qa2, .inl (D.1 102, r.2.2.2.1, .inl r.2.2.2.2))])) := by
  refine m_i (by decide) (Nat.le_of_ble_eq_true rfl) ?_
  intro p e s m args below meth c A B
  obtain ⟨X, hr, hAm, -, hnm, hnmd⟩ := B
  replace X : CX p s m args meth c D A cX0_clearText 2 "DyeLattice" := X
  refine v_lv (lv' := [(0, .ref a0)]) [0] rfl ?_
  unfold C_clearText at hF
  refine v_aload_n 1 X 0 dX0_clearText_0 rfl rfl rfl ?_
  refine v_get 4 X in_X0 0 2 rfl rfl (by decide) q248 rfl rfl dX0_clearText_1 rfl ?_
  obtain ⟨z4, hz4, hF⟩ := ob hF
  refine vc_Vi (wr := ([(a0, .inr (0, [.ref b0, .ref hq, .ref tx]))])) 7 0 0 X 0 [] [1, 2] [0] ([(tx, .inr (9, [.ref av, .int 0, .int ml, .int cnt])), (av, .inl (D.1 102, nb, .inl byt))]) rfl rfl (by decide) (by decide) (by decide) (w_J4_length _ hz4) q497 q498 q499 q92 q500 hdJ4_length 1 rfl rfl (pass_amb hAm) ⟨Nat.le_of_ble_eq_true rfl, Nat.le_of_ble_eq_true rfl⟩ ⟨(Nat.le_of_ble_eq_true rfl), (Nat.le_of_ble_eq_true rfl)⟩ rfl rfl (Nat.le_of_ble_eq_true rfl) dX0_clearText_4 rfl rfl rfl (fun r4 u4 e4 => ?_)
  obtain ⟨e41, rfl⟩ := e4
  have e42 := e41.symm
  subst e42
  refine v_ws (ws' := ([(a0, .inr (0, [.ref b0, .ref hq, .ref tx])), (tx, .inr (9, [.ref av, .int 0, .int ml, .int cnt])), (av, .inl (D.1 102, nb, .inl byt))])) [0, 1, 2] (by decide) rfl ?_
  refine v_istore_n 8 [(1, .int z4), (0, .ref a0)] X dX0_clearText_7 rfl rfl (by decide) rfl ?_
  refine v_aload_n 9 X 1 dX0_clearText_8 rfl rfl rfl ?_
  refine v_get 12 X in_X0 0 2 rfl rfl (by decide) q248 rfl rfl dX0_clearText_9 rfl ?_
  refine v_iconst (v := 0) 13 X dX0_clearText_12 rfl ki_0 ?_
  obtain ⟨z13, hz13, hF⟩ := ob hF
  refine vc_Vv (wr := ([(a0, .inr (0, [.ref b0, .ref hq, .ref tx]))])) 16 1 142 X 1 [.int 0] [1, 2] [0] ([(tx, .inr (9, [.ref av, .int 0, .int ml, .int cnt])), (av, .inl (D.1 102, nb, .inl byt))]) rfl rfl (by decide) (by decide) (by decide) (w_J4_setLength 0 _ hz13) q595 q596 q597 q92 q598 hdJ4_setLength 1 rfl rfl (pass_amb hAm) ⟨Nat.le_of_ble_eq_true rfl, Nat.le_of_ble_eq_true rfl⟩ ⟨(Nat.le_of_ble_eq_true rfl), (Nat.le_of_ble_eq_true rfl)⟩ rfl rfl (Nat.le_of_ble_eq_true rfl) dX0_clearText_13 rfl rfl rfl (fun u13 e13 => ?_)
  obtain ⟨q13_1, rfl⟩ := e13
  refine v_ws (ws' := ([(a0, .inr (0, [.ref b0, .ref hq, .ref tx])), (tx, .inr (9, [.ref q13_1, .int 0, .int z13.1, .int z13.2.1])), (q13_1, .inl (D.1 102, z13.2.2.1, .inl z13.2.2.2))])) [0, 1, 2] (by decide) rfl ?_
  refine v_iload_n 17 X 0 dX0_clearText_16 rfl rfl rfl ?_
  obtain rfl := Option.some.inj hF
  exact v_iret X hr ⟨q13_1, rfl, rfl⟩ (Nat.le_of_ble_eq_true rfl) (Nat.le_of_ble_eq_true rfl) dX0_clearText_17
theorem w_X0_count (v1 : Int32) (r : Int32) (hF : C_count cols rows thr bt tm rea kd n n4 vl gr cg ne hd tl cnt v1 = some r) : CTi l yX0_count cX0_count 2 (Option.some Jvm.ClassFile.FieldType.int) rmX0_count D ([(a0, .inr (0, [.ref b0, .ref hq, .ref tx]))] ++ LW D b0 b1 b2 b3 b4 b5 n n4 cols rows kd thr bt tm rea gr vl so dy cg ++ [(hq, .inr (8, [.ref he, .int hd, .int tl])), (he, .inl (D.1 103, ne, .inr (.inr (.inr (.inr el))))), (tx, .inr (9, [.ref av, .int 0, .int ml, .int cnt])), (av, .inl (D.1 102, nb, .inl byt))]) [.ref a0, .int v1] (AMB D) (fun r1 u => r1 = r ∧ u = ([(a0, .inr (0, [.ref b0, .ref hq, .ref tx]))] ++ LW D b0 b1 b2 b3 b4 b5 n n4 cols rows kd thr bt tm rea gr vl so dy cg ++ [(hq, .inr (8, [.ref he, .int hd, .int tl])), (he, .inl (D.1 103, ne, .inr (.inr (.inr (.inr el))))), (tx, .inr (9, [.ref av, .int 0, .int ml, .int cnt])), (av, .inl (D.1 102, nb, .inl byt))])) := by
  refine m_i (by decide) (Nat.le_of_ble_eq_true rfl) ?_
  intro p e s m args below meth c A B
  obtain ⟨X, hr, hAm, -, hnm, hnmd⟩ := B
  replace X : CX p s m args meth c D A cX0_count 2 "DyeLattice" := X
  refine v_lv (lv' := [(0, .ref a0), (1, .int v1)]) [0, 1] rfl ?_
  unfold C_count at hF
  refine v_iload_n 1 X 1 dX0_count_0 rfl rfl rfl ?_
  by_cases h1_0 : v1 = 0
  · replace hF := ifp h1_0 hF
    refine v_tableAt 68 X 0 h1_0 dX0_count_1 (by decide) (by decide) (by rfl) (by decide) ?_
    refine v_aload_n 69 X 0 dX0_count_68 rfl rfl rfl ?_
    refine v_get 72 X in_X0 0 0 rfl rfl (by decide) q245 rfl rfl dX0_count_69 rfl ?_
    refine v_getN 75 X hAm in_X1 1 0 rfl rfl (by decide) q137 rfl rfl dX0_count_72 rfl ?_
    obtain rfl := Option.some.inj hF
    exact v_iret X hr ⟨rfl, rfl⟩ (Nat.le_of_ble_eq_true rfl) (Nat.le_of_ble_eq_true rfl) dX0_count_75
  · replace hF := ifn h1_0 hF
    by_cases h1_1 : v1 = 1
    · replace hF := ifp h1_1 hF
      refine v_tableAt 76 X 1 h1_1 dX0_count_1 (by decide) (by decide) (by rfl) (by decide) ?_
      refine v_aload_n 77 X 0 dX0_count_76 rfl rfl rfl ?_
      refine v_get 80 X in_X0 0 0 rfl rfl (by decide) q245 rfl rfl dX0_count_77 rfl ?_
      refine v_getN 83 X hAm in_X1 1 1 rfl rfl (by decide) q140 rfl rfl dX0_count_80 rfl ?_
      obtain rfl := Option.some.inj hF
      exact v_iret X hr ⟨rfl, rfl⟩ (Nat.le_of_ble_eq_true rfl) (Nat.le_of_ble_eq_true rfl) dX0_count_83
    · replace hF := ifn h1_1 hF
      by_cases h1_2 : v1 = 2
      · replace hF := ifp h1_2 hF
        refine v_tableAt 84 X 2 h1_2 dX0_count_1 (by decide) (by decide) (by rfl) (by decide) ?_
        refine v_aload_n 85 X 0 dX0_count_84 rfl rfl rfl ?_
        refine v_get 88 X in_X0 0 0 rfl rfl (by decide) q245 rfl rfl dX0_count_85 rfl ?_
        refine v_getN 91 X hAm in_X1 1 2 rfl rfl (by decide) q142 rfl rfl dX0_count_88 rfl ?_
        obtain ⟨z91, hz91, hF⟩ := ob hF
        refine v_ordK 94 X hAm hz91 [0, 1, 2, 3, 4, 5, 6, 7, 8, 9, 10] rfl (by decide) q998 ⟨Nat.le_of_ble_eq_true rfl, Nat.le_of_ble_eq_true rfl⟩ ⟨(Nat.le_of_ble_eq_true rfl), (Nat.le_of_ble_eq_true rfl)⟩ (Nat.le_of_ble_eq_true rfl) dX0_count_91 rfl ?_
        obtain rfl := Option.some.inj hF
        exact v_iret X hr ⟨rfl, rfl⟩ (Nat.le_of_ble_eq_true rfl) (Nat.le_of_ble_eq_true rfl) dX0_count_94
      · replace hF := ifn h1_2 hF
        by_cases h1_3 : v1 = 3
        · replace hF := ifp h1_3 hF
          refine v_tableAt 95 X 3 h1_3 dX0_count_1 (by decide) (by decide) (by rfl) (by decide) ?_
          refine v_aload_n 96 X 0 dX0_count_95 rfl rfl rfl ?_
          refine v_get 99 X in_X0 0 0 rfl rfl (by decide) q245 rfl rfl dX0_count_96 rfl ?_
          refine v_getN 102 X hAm in_X1 1 3 rfl rfl (by decide) q145 rfl rfl dX0_count_99 rfl ?_
          obtain rfl := Option.some.inj hF
          exact v_iret X hr ⟨rfl, rfl⟩ (Nat.le_of_ble_eq_true rfl) (Nat.le_of_ble_eq_true rfl) dX0_count_102
        · replace hF := ifn h1_3 hF
          by_cases h1_4 : v1 = 4
          · replace hF := ifp h1_4 hF
            refine v_tableAt 103 X 4 h1_4 dX0_count_1 (by decide) (by decide) (by rfl) (by decide) ?_
            refine v_aload_n 104 X 0 dX0_count_103 rfl rfl rfl ?_
            refine v_get 107 X in_X0 0 0 rfl rfl (by decide) q245 rfl rfl dX0_count_104 rfl ?_
            refine v_getN 110 X hAm in_X1 1 4 rfl rfl (by decide) q147 rfl rfl dX0_count_107 rfl ?_
            obtain rfl := Option.some.inj hF
            exact v_iret X hr ⟨rfl, rfl⟩ (Nat.le_of_ble_eq_true rfl) (Nat.le_of_ble_eq_true rfl) dX0_count_110
          · replace hF := ifn h1_4 hF
            by_cases h1_5 : v1 = 5
            · replace hF := ifp h1_5 hF
              refine v_tableAt 111 X 5 h1_5 dX0_count_1 (by decide) (by decide) (by rfl) (by decide) ?_
              refine v_aload_n 112 X 0 dX0_count_111 rfl rfl rfl ?_
              refine v_get 115 X in_X0 0 0 rfl rfl (by decide) q245 rfl rfl dX0_count_112 rfl ?_
              refine v_getN 118 X hAm in_X1 1 5 rfl rfl (by decide) q149 rfl rfl dX0_count_115 rfl ?_
              obtain rfl := Option.some.inj hF
              exact v_iret X hr ⟨rfl, rfl⟩ (Nat.le_of_ble_eq_true rfl) (Nat.le_of_ble_eq_true rfl) dX0_count_118
            · replace hF := ifn h1_5 hF
              by_cases h1_6 : v1 = 6
              · replace hF := ifp h1_6 hF
                refine v_tableAt 119 X 6 h1_6 dX0_count_1 (by decide) (by decide) (by rfl) (by decide) ?_
                refine v_aload_n 120 X 0 dX0_count_119 rfl rfl rfl ?_
                refine v_get 123 X in_X0 0 0 rfl rfl (by decide) q245 rfl rfl dX0_count_120 rfl ?_
                obtain ⟨z123, hz123, hF⟩ := ob hF
                refine vc_Vi (wr := ([(a0, .inr (0, [.ref b0, .ref hq, .ref tx])), (hq, .inr (8, [.ref he, .int hd, .int tl])), (he, .inl (D.1 103, ne, .inr (.inr (.inr (.inr el))))), (tx, .inr (9, [.ref av, .int 0, .int ml, .int cnt])), (av, .inl (D.1 102, nb, .inl byt))])) 126 0 0 X 0 [] [1, 2, 3, 4, 5, 6] [0, 7, 8, 9, 10] (LW D b0 b1 b2 b3 b4 b5 n n4 cols rows kd thr bt tm rea gr vl so dy cg) rfl rfl (by decide) (by decide) (by decide) (w_X1_bonds _ hz123) q382 q383 q384 q85 q385 hdX1_bonds 1 rfl rfl (pass_amb hAm) ⟨Nat.le_of_ble_eq_true rfl, Nat.le_of_ble_eq_true rfl⟩ ⟨(Nat.le_of_ble_eq_true rfl), (Nat.le_of_ble_eq_true rfl)⟩ rfl rfl (Nat.le_of_ble_eq_true rfl) dX0_count_123 rfl rfl rfl (fun r123 u123 e123 => ?_)
                obtain ⟨e1231, rfl⟩ := e123
                have e1232 := e1231.symm
                subst e1232
                refine v_ws (ws' := ([(a0, .inr (0, [.ref b0, .ref hq, .ref tx])), (hq, .inr (8, [.ref he, .int hd, .int tl])), (he, .inl (D.1 103, ne, .inr (.inr (.inr (.inr el))))), (tx, .inr (9, [.ref av, .int 0, .int ml, .int cnt])), (av, .inl (D.1 102, nb, .inl byt))] ++ LW D b0 b1 b2 b3 b4 b5 n n4 cols rows kd thr bt tm rea gr vl so dy cg)) [0, 1, 2, 3, 4, 5, 6, 7, 8, 9, 10] (by decide) rfl ?_
                obtain rfl := Option.some.inj hF
                refine v_ws (ws' := ([(a0, .inr (0, [.ref b0, .ref hq, .ref tx]))] ++ LW D b0 b1 b2 b3 b4 b5 n n4 cols rows kd thr bt tm rea gr vl so dy cg ++ [(hq, .inr (8, [.ref he, .int hd, .int tl])), (he, .inl (D.1 103, ne, .inr (.inr (.inr (.inr el))))), (tx, .inr (9, [.ref av, .int 0, .int ml, .int cnt])), (av, .inl (D.1 102, nb, .inl byt))])) [0, 5, 6, 7, 8, 9, 10, 1, 2, 3, 4] (by decide) rfl ?_
                exact v_iret X hr ⟨rfl, rfl⟩ (Nat.le_of_ble_eq_true rfl) (Nat.le_of_ble_eq_true rfl) dX0_count_126
              · replace hF := ifn h1_6 hF
                by_cases h1_7 : v1 = 7
                · replace hF := ifp h1_7 hF
                  refine v_tableAt 127 X 7 h1_7 dX0_count_1 (by decide) (by decide) (by rfl) (by decide) ?_
                  refine v_aload_n 128 X 0 dX0_count_127 rfl rfl rfl ?_
                  refine v_get 131 X in_X0 0 0 rfl rfl (by decide) q245 rfl rfl dX0_count_128 rfl ?_
                  obtain ⟨z131, hz131, hF⟩ := ob hF
                  refine vc_Vi (wr := ([(a0, .inr (0, [.ref b0, .ref hq, .ref tx])), (hq, .inr (8, [.ref he, .int hd, .int tl])), (he, .inl (D.1 103, ne, .inr (.inr (.inr (.inr el))))), (tx, .inr (9, [.ref av, .int 0, .int ml, .int cnt])), (av, .inl (D.1 102, nb, .inl byt))])) 134 0 0 X 0 [] [1, 2, 3, 4, 5, 6] [0, 7, 8, 9, 10] (LW D b0 b1 b2 b3 b4 b5 n n4 cols rows kd thr bt tm rea gr vl so dy cg) rfl rfl (by decide) (by decide) (by decide) (w_X1_openCells _ hz131) q464 q425 q426 q85 q427 hdX1_openCells 1 rfl rfl (pass_amb hAm) ⟨Nat.le_of_ble_eq_true rfl, Nat.le_of_ble_eq_true rfl⟩ ⟨(Nat.le_of_ble_eq_true rfl), (Nat.le_of_ble_eq_true rfl)⟩ rfl rfl (Nat.le_of_ble_eq_true rfl) dX0_count_131 rfl rfl rfl (fun r131 u131 e131 => ?_)
                  obtain ⟨e1311, rfl⟩ := e131
                  have e1312 := e1311.symm
                  subst e1312
                  refine v_ws (ws' := ([(a0, .inr (0, [.ref b0, .ref hq, .ref tx])), (hq, .inr (8, [.ref he, .int hd, .int tl])), (he, .inl (D.1 103, ne, .inr (.inr (.inr (.inr el))))), (tx, .inr (9, [.ref av, .int 0, .int ml, .int cnt])), (av, .inl (D.1 102, nb, .inl byt))] ++ LW D b0 b1 b2 b3 b4 b5 n n4 cols rows kd thr bt tm rea gr vl so dy cg)) [0, 1, 2, 3, 4, 5, 6, 7, 8, 9, 10] (by decide) rfl ?_
                  obtain rfl := Option.some.inj hF
                  refine v_ws (ws' := ([(a0, .inr (0, [.ref b0, .ref hq, .ref tx]))] ++ LW D b0 b1 b2 b3 b4 b5 n n4 cols rows kd thr bt tm rea gr vl so dy cg ++ [(hq, .inr (8, [.ref he, .int hd, .int tl])), (he, .inl (D.1 103, ne, .inr (.inr (.inr (.inr el))))), (tx, .inr (9, [.ref av, .int 0, .int ml, .int cnt])), (av, .inl (D.1 102, nb, .inl byt))])) [0, 5, 6, 7, 8, 9, 10, 1, 2, 3, 4] (by decide) rfl ?_
                  exact v_iret X hr ⟨rfl, rfl⟩ (Nat.le_of_ble_eq_true rfl) (Nat.le_of_ble_eq_true rfl) dX0_count_134
                · replace hF := ifn h1_7 hF
                  by_cases h1_8 : v1 = 8
                  · replace hF := ifp h1_8 hF
                    refine v_tableAt 135 X 8 h1_8 dX0_count_1 (by decide) (by decide) (by rfl) (by decide) ?_
                    refine v_aload_n 136 X 0 dX0_count_135 rfl rfl rfl ?_
                    refine v_get 139 X in_X0 0 0 rfl rfl (by decide) q245 rfl rfl dX0_count_136 rfl ?_
                    refine v_aload_n 140 X 0 dX0_count_139 rfl rfl rfl ?_
                    refine v_get 143 X in_X0 0 0 rfl rfl (by decide) q245 rfl rfl dX0_count_140 rfl ?_
                    refine v_getN 146 X hAm in_X1 1 3 rfl rfl (by decide) q145 rfl rfl dX0_count_143 rfl ?_
                    obtain ⟨z146, hz146, hF⟩ := ob hF
                    refine vc_Vr (wr := ([(a0, .inr (0, [.ref b0, .ref hq, .ref tx])), (hq, .inr (8, [.ref he, .int hd, .int tl])), (he, .inl (D.1 103, ne, .inr (.inr (.inr (.inr el))))), (tx, .inr (9, [.ref av, .int 0, .int ml, .int cnt])), (av, .inl (D.1 102, nb, .inl byt))])) 149 244 13202 X 1 [.int thr] [1, 2, 3, 4, 5, 6] [0, 7, 8, 9, 10] (LW D b0 b1 b2 b3 b4 b5 n n4 cols rows kd thr bt tm rea gr vl so dy cg) rfl rfl (by decide) (by decide) (by decide) (w_X1_clusters thr _ hz146) q1001 q1002 q1003 q85 q1004 hdX1_clusters 1 rfl rfl (pass_amb hAm) ⟨Nat.le_of_ble_eq_true rfl, Nat.le_of_ble_eq_true rfl⟩ ⟨(Nat.le_of_ble_eq_true rfl), (Nat.le_of_ble_eq_true rfl)⟩ rfl rfl (Nat.le_of_ble_eq_true rfl) dX0_count_146 rfl rfl rfl (fun a146 u146 e146 => ?_)
                    obtain ⟨q146_6, e1461, rfl⟩ := e146
                    have e1462 := e1461.symm
                    subst e1462
                    refine v_ws (ws' := ([(a0, .inr (0, [.ref b0, .ref hq, .ref tx])), (hq, .inr (8, [.ref he, .int hd, .int tl])), (he, .inl (D.1 103, ne, .inr (.inr (.inr (.inr el))))), (tx, .inr (9, [.ref av, .int 0, .int ml, .int cnt])), (av, .inl (D.1 102, nb, .inl byt))] ++ LW D b0 b1 b2 b3 b4 b5 n n4 cols rows kd thr bt tm rea gr vl so dy cg ++ [(q146_6, .inl (D.1 100, n, .inl z146))])) [0, 1, 2, 3, 4, 5, 6, 7, 8, 9, 10, 11] (by decide) rfl ?_
                    obtain ⟨z149, hz149, hF⟩ := ob hF
                    refine vc_Si (wr := ([(a0, .inr (0, [.ref b0, .ref hq, .ref tx])), (hq, .inr (8, [.ref he, .int hd, .int tl])), (he, .inl (D.1 103, ne, .inr (.inr (.inr (.inr el))))), (tx, .inr (9, [.ref av, .int 0, .int ml, .int cnt])), (av, .inl (D.1 102, nb, .inl byt))] ++ LW D b0 b1 b2 b3 b4 b5 n n4 cols rows kd thr bt tm rea gr vl so dy cg)) 152 244 13202 X 1 [.ref q146_6] [11] [0, 1, 2, 3, 4, 5, 6, 7, 8, 9, 10] ([(q146_6, .inl (D.1 100, n, .inl z146))]) rfl rfl (by decide) (by decide) (by decide) (w_X0_countOf _ hz149) q1028 q1029 q84 q1030 hdX0_countOf (pass_amb hAm) ⟨Nat.le_of_ble_eq_true rfl, Nat.le_of_ble_eq_true rfl⟩ ⟨(Nat.le_of_ble_eq_true rfl), (Nat.le_of_ble_eq_true rfl)⟩ rfl rfl (Nat.le_of_ble_eq_true rfl) dX0_count_149 rfl rfl rfl (fun r149 u149 e149 => ?_)
                    obtain ⟨e1491, rfl⟩ := e149
                    have e1492 := e1491.symm
                    subst e1492
                    refine v_ws (ws' := ([(a0, .inr (0, [.ref b0, .ref hq, .ref tx])), (hq, .inr (8, [.ref he, .int hd, .int tl])), (he, .inl (D.1 103, ne, .inr (.inr (.inr (.inr el))))), (tx, .inr (9, [.ref av, .int 0, .int ml, .int cnt])), (av, .inl (D.1 102, nb, .inl byt))] ++ LW D b0 b1 b2 b3 b4 b5 n n4 cols rows kd thr bt tm rea gr vl so dy cg ++ [(q146_6, .inl (D.1 100, n, .inl z146))])) [0, 1, 2, 3, 4, 5, 6, 7, 8, 9, 10, 11] (by decide) rfl ?_
                    obtain rfl := Option.some.inj hF
                    refine v_ws (ws' := ([(a0, .inr (0, [.ref b0, .ref hq, .ref tx]))] ++ LW D b0 b1 b2 b3 b4 b5 n n4 cols rows kd thr bt tm rea gr vl so dy cg ++ [(hq, .inr (8, [.ref he, .int hd, .int tl])), (he, .inl (D.1 103, ne, .inr (.inr (.inr (.inr el))))), (tx, .inr (9, [.ref av, .int 0, .int ml, .int cnt])), (av, .inl (D.1 102, nb, .inl byt))])) [0, 5, 6, 7, 8, 9, 10, 1, 2, 3, 4] (by decide) rfl ?_
                    exact v_iret X hr ⟨rfl, rfl⟩ (Nat.le_of_ble_eq_true rfl) (Nat.le_of_ble_eq_true rfl) dX0_count_152
                  · replace hF := ifn h1_8 hF
                    by_cases h1_9 : v1 = 9
                    · replace hF := ifp h1_9 hF
                      refine v_tableAt 153 X 9 h1_9 dX0_count_1 (by decide) (by decide) (by rfl) (by decide) ?_
                      refine v_aload_n 154 X 0 dX0_count_153 rfl rfl rfl ?_
                      obtain ⟨z154, hz154, hF⟩ := ob hF
                      refine vc_Vi (wr := ([(hq, .inr (8, [.ref he, .int hd, .int tl])), (he, .inl (D.1 103, ne, .inr (.inr (.inr (.inr el))))), (tx, .inr (9, [.ref av, .int 0, .int ml, .int cnt])), (av, .inl (D.1 102, nb, .inl byt))])) 157 0 0 X 0 [] [0, 1, 2, 3, 4, 5, 6] [7, 8, 9, 10] ([(a0, .inr (0, [.ref b0, .ref hq, .ref tx]))] ++ LW D b0 b1 b2 b3 b4 b5 n n4 cols rows kd thr bt tm rea gr vl so dy cg) rfl rfl (by decide) (by decide) (by decide) (w_X0_clogged _ hz154) q1032 q1034 qs24 q84 q1035 hdX0_clogged 0 rfl rfl (pass_amb hAm) ⟨Nat.le_of_ble_eq_true rfl, Nat.le_of_ble_eq_true rfl⟩ ⟨(Nat.le_of_ble_eq_true rfl), (Nat.le_of_ble_eq_true rfl)⟩ rfl rfl (Nat.le_of_ble_eq_true rfl) dX0_count_154 rfl rfl rfl (fun r154 u154 e154 => ?_)
                      obtain ⟨e1541, rfl⟩ := e154
                      have e1542 := e1541.symm
                      subst e1542
                      refine v_ws (ws' := ([(hq, .inr (8, [.ref he, .int hd, .int tl])), (he, .inl (D.1 103, ne, .inr (.inr (.inr (.inr el))))), (tx, .inr (9, [.ref av, .int 0, .int ml, .int cnt])), (av, .inl (D.1 102, nb, .inl byt)), (a0, .inr (0, [.ref b0, .ref hq, .ref tx]))] ++ LW D b0 b1 b2 b3 b4 b5 n n4 cols rows kd thr bt tm rea gr vl so dy cg)) [0, 1, 2, 3, 4, 5, 6, 7, 8, 9, 10] (by decide) rfl ?_
                      obtain rfl := Option.some.inj hF
                      refine v_ws (ws' := ([(a0, .inr (0, [.ref b0, .ref hq, .ref tx]))] ++ LW D b0 b1 b2 b3 b4 b5 n n4 cols rows kd thr bt tm rea gr vl so dy cg ++ [(hq, .inr (8, [.ref he, .int hd, .int tl])), (he, .inl (D.1 103, ne, .inr (.inr (.inr (.inr el))))), (tx, .inr (9, [.ref av, .int 0, .int ml, .int cnt])), (av, .inl (D.1 102, nb, .inl byt))])) [4, 5, 6, 7, 8, 9, 10, 0, 1, 2, 3] (by decide) rfl ?_
                      exact v_iret X hr ⟨rfl, rfl⟩ (Nat.le_of_ble_eq_true rfl) (Nat.le_of_ble_eq_true rfl) dX0_count_157
                    · replace hF := ifn h1_9 hF
                      by_cases h1_10 : v1 = 10
                      · replace hF := ifp h1_10 hF
                        refine v_tableAt 158 X 10 h1_10 dX0_count_1 (by decide) (by decide) (by rfl) (by decide) ?_
                        refine v_aload_n 159 X 0 dX0_count_158 rfl rfl rfl ?_
                        refine v_get 162 X in_X0 0 0 rfl rfl (by decide) q245 rfl rfl dX0_count_159 rfl ?_
                        refine v_getN 165 X hAm in_X1 1 6 rfl rfl (by decide) q151 rfl rfl dX0_count_162 rfl ?_
                        obtain ⟨z165, hz165, hF⟩ := ob hF
                        refine v_mSi 168 X 1 [.int rea] (w_J9_bitCount ([(a0, .inr (0, [.ref b0, .ref hq, .ref tx]))] ++ LW D b0 b1 b2 b3 b4 b5 n n4 cols rows kd thr bt tm rea gr vl so dy cg ++ [(hq, .inr (8, [.ref he, .int hd, .int tl])), (he, .inl (D.1 103, ne, .inr (.inr (.inr (.inr el))))), (tx, .inr (9, [.ref av, .int 0, .int ml, .int cnt])), (av, .inl (D.1 102, nb, .inl byt))]) rea _ hz165) q483 q484 q99 q485 hdJ9_bitCount pass_no ⟨rfl, rfl⟩ ⟨Nat.le_of_ble_eq_true rfl, Nat.le_of_ble_eq_true rfl⟩ ⟨(Nat.le_of_ble_eq_true rfl), (Nat.le_of_ble_eq_true rfl)⟩ rfl rfl (Nat.le_of_ble_eq_true rfl) dX0_count_165 rfl ?_
                        obtain rfl := Option.some.inj hF
                        exact v_iret X hr ⟨rfl, rfl⟩ (Nat.le_of_ble_eq_true rfl) (Nat.le_of_ble_eq_true rfl) dX0_count_168
                      · replace hF := ifn h1_10 hF
                        by_cases h1_11 : v1 = 11
                        · replace hF := ifp h1_11 hF
                          refine v_tableAt 169 X 11 h1_11 dX0_count_1 (by decide) (by decide) (by rfl) (by decide) ?_
                          refine v_aload_n 170 X 0 dX0_count_169 rfl rfl rfl ?_
                          refine v_get 173 X in_X0 0 1 rfl rfl (by decide) q246 rfl rfl dX0_count_170 rfl ?_
                          obtain ⟨z173, hz173, hF⟩ := ob hF
                          refine vc_Vi (wr := ([(a0, .inr (0, [.ref b0, .ref hq, .ref tx]))] ++ LW D b0 b1 b2 b3 b4 b5 n n4 cols rows kd thr bt tm rea gr vl so dy cg ++ [(tx, .inr (9, [.ref av, .int 0, .int ml, .int cnt])), (av, .inl (D.1 102, nb, .inl byt))])) 176 0 0 X 0 [] [7, 8] [0, 1, 2, 3, 4, 5, 6, 9, 10] ([(hq, .inr (8, [.ref he, .int hd, .int tl])), (he, .inl (D.1 103, ne, .inr (.inr (.inr (.inr el)))))]) rfl rfl (by decide) (by decide) (by decide) (w_J2_size _ hz173) q273 q274 q275 q90 q276 hdJ2_size 7 rfl rfl (pass_amb hAm) ⟨Nat.le_of_ble_eq_true rfl, Nat.le_of_ble_eq_true rfl⟩ ⟨(Nat.le_of_ble_eq_true rfl), (Nat.le_of_ble_eq_true rfl)⟩ rfl rfl (Nat.le_of_ble_eq_true rfl) dX0_count_173 rfl rfl rfl (fun r173 u173 e173 => ?_)
                          obtain ⟨e1731, rfl⟩ := e173
                          have e1732 := e1731.symm
                          subst e1732
                          refine v_ws (ws' := ([(a0, .inr (0, [.ref b0, .ref hq, .ref tx]))] ++ LW D b0 b1 b2 b3 b4 b5 n n4 cols rows kd thr bt tm rea gr vl so dy cg ++ [(tx, .inr (9, [.ref av, .int 0, .int ml, .int cnt])), (av, .inl (D.1 102, nb, .inl byt)), (hq, .inr (8, [.ref he, .int hd, .int tl])), (he, .inl (D.1 103, ne, .inr (.inr (.inr (.inr el)))))])) [0, 1, 2, 3, 4, 5, 6, 7, 8, 9, 10] (by decide) rfl ?_
                          obtain rfl := Option.some.inj hF
                          refine v_ws (ws' := ([(a0, .inr (0, [.ref b0, .ref hq, .ref tx]))] ++ LW D b0 b1 b2 b3 b4 b5 n n4 cols rows kd thr bt tm rea gr vl so dy cg ++ [(hq, .inr (8, [.ref he, .int hd, .int tl])), (he, .inl (D.1 103, ne, .inr (.inr (.inr (.inr el))))), (tx, .inr (9, [.ref av, .int 0, .int ml, .int cnt])), (av, .inl (D.1 102, nb, .inl byt))])) [0, 1, 2, 3, 4, 5, 6, 9, 10, 7, 8] (by decide) rfl ?_
                          exact v_iret X hr ⟨rfl, rfl⟩ (Nat.le_of_ble_eq_true rfl) (Nat.le_of_ble_eq_true rfl) dX0_count_176
                        · replace hF := ifn h1_11 hF
                          by_cases h1_12 : v1 = 12
                          · replace hF := ifp h1_12 hF
                            refine v_tableAt 177 X 12 h1_12 dX0_count_1 (by decide) (by decide) (by rfl) (by decide) ?_
                            refine v_aload_n 178 X 0 dX0_count_177 rfl rfl rfl ?_
                            refine v_get 181 X in_X0 0 2 rfl rfl (by decide) q248 rfl rfl dX0_count_178 rfl ?_
                            obtain ⟨z181, hz181, hF⟩ := ob hF
                            refine vc_Vi (wr := ([(a0, .inr (0, [.ref b0, .ref hq, .ref tx]))] ++ LW D b0 b1 b2 b3 b4 b5 n n4 cols rows kd thr bt tm rea gr vl so dy cg ++ [(hq, .inr (8, [.ref he, .int hd, .int tl])), (he, .inl (D.1 103, ne, .inr (.inr (.inr (.inr el)))))])) 184 0 0 X 0 [] [9, 10] [0, 1, 2, 3, 4, 5, 6, 7, 8] ([(tx, .inr (9, [.ref av, .int 0, .int ml, .int cnt])), (av, .inl (D.1 102, nb, .inl byt))]) rfl rfl (by decide) (by decide) (by decide) (w_J4_length _ hz181) q497 q498 q499 q92 q500 hdJ4_length 9 rfl rfl (pass_amb hAm) ⟨Nat.le_of_ble_eq_true rfl, Nat.le_of_ble_eq_true rfl⟩ ⟨(Nat.le_of_ble_eq_true rfl), (Nat.le_of_ble_eq_true rfl)⟩ rfl rfl (Nat.le_of_ble_eq_true rfl) dX0_count_181 rfl rfl rfl (fun r181 u181 e181 => ?_)
                            obtain ⟨e1811, rfl⟩ := e181
                            have e1812 := e1811.symm
                            subst e1812
                            refine v_ws (ws' := ([(a0, .inr (0, [.ref b0, .ref hq, .ref tx]))] ++ LW D b0 b1 b2 b3 b4 b5 n n4 cols rows kd thr bt tm rea gr vl so dy cg ++ [(hq, .inr (8, [.ref he, .int hd, .int tl])), (he, .inl (D.1 103, ne, .inr (.inr (.inr (.inr el))))), (tx, .inr (9, [.ref av, .int 0, .int ml, .int cnt])), (av, .inl (D.1 102, nb, .inl byt))])) [0, 1, 2, 3, 4, 5, 6, 7, 8, 9, 10] (by decide) rfl ?_
                            obtain rfl := Option.some.inj hF
                            exact v_iret X hr ⟨rfl, rfl⟩ (Nat.le_of_ble_eq_true rfl) (Nat.le_of_ble_eq_true rfl) dX0_count_184
                          · replace hF := ifn h1_12 hF
                            refine v_tableNo 185 X dX0_count_1 ?_ (by decide) ?_
                            · refine Classical.byContradiction (fun hh => ?_)
                              have hc : (v1).toInt = 0 ∨ (v1).toInt = 1 ∨ (v1).toInt = 2 ∨ (v1).toInt = 3 ∨ (v1).toInt = 4 ∨ (v1).toInt = 5 ∨ (v1).toInt = 6 ∨ (v1).toInt = 7 ∨ (v1).toInt = 8 ∨ (v1).toInt = 9 ∨ (v1).toInt = 10 ∨ (v1).toInt = 11 ∨ (v1).toInt = 12 := by omega
                              rcases hc with hc | hc | hc | hc | hc | hc | hc | hc | hc | hc | hc | hc | hc
                              · exact h1_0 (i32_of hc)
                              · exact h1_1 (i32_of hc)
                              · exact h1_2 (i32_of hc)
                              · exact h1_3 (i32_of hc)
                              · exact h1_4 (i32_of hc)
                              · exact h1_5 (i32_of hc)
                              · exact h1_6 (i32_of hc)
                              · exact h1_7 (i32_of hc)
                              · exact h1_8 (i32_of hc)
                              · exact h1_9 (i32_of hc)
                              · exact h1_10 (i32_of hc)
                              · exact h1_11 (i32_of hc)
                              · exact h1_12 (i32_of hc)
                            refine v_iconst (v := (-1)) 186 X dX0_count_185 rfl ki_m1 ?_
                            obtain rfl := Option.some.inj hF
                            exact v_iret X hr ⟨rfl, rfl⟩ (Nat.le_of_ble_eq_true rfl) (Nat.le_of_ble_eq_true rfl) dX0_count_186
end
