set_option maxRecDepth 100000
set_option maxHeartbeats 4000000
section
variable {p : Program} {l : Launch} {e : Env} {s : State} {m : MethodId} {args : Array Value} {below : List Frame} {meth : Method} {c : Code} {D : va_G} {A : Nat → Prop} {Q : State → Prop} {ws : va_W} {av nb wq wb nw : Nat} {wby : Nat → Int32} {wh wz : Int32} {byt : Nat → Int32} {ml cnt : Int32} {t1 t2 bm bc a0 hq tx he ne b0u : Nat} {el : Nat → Option Nat} {hd tl : Int32} {hs : List Nat} {fst fsu : List Value} {k0 k1 k2 : Int32} {mk clu : Nat → Int32} {b0 b1 b2 b3 b4 b5 n n4 kd : Nat} {cols rows thr bt tm rea : Int32} {gr so dy cg : Nat → Int32} {vl : Nat → Nat}
theorem w_J12_checkFromToIndex (ws : va_W) (v0 : Int32) (v1 : Int32) (v2 : Int32) (v3 : Option Nat) (r : Int32) (hF : J12_checkFromToIndex v0 v1 v2 = some r) : CTi l yJ12_checkFromToIndex cJ12_checkFromToIndex 4 (Option.some Jvm.ClassFile.FieldType.int) rmJ12_checkFromToIndex D ws [.int v0, .int v1, .int v2, va_rf v3] (NoX) (fun r1 u => r1 = r ∧ u = ws) := by
  refine m_i (by decide) (by cases v3 <;> exact Nat.le_of_ble_eq_true rfl) ?_
  intro p e s m args below meth c A B
  obtain ⟨X, hr, hAm, -, hnm, hnmd⟩ := B
  replace X : CX p s m args meth c D A cJ12_checkFromToIndex 4 "jdk/internal/util/Preconditions" := X
  refine v_lv (lv' := [(0, .int v0), (1, .int v1), (2, .int v2), (3, va_rf v3)]) [0, 1, 2, 3] rfl ?_
  unfold J12_checkFromToIndex at hF
  refine v_iload_n 1 X 0 dJ12_checkFromToIndex_0 rfl rfl rfl ?_
  refine v_if_lt 4 14 X dJ12_checkFromToIndex_1 rfl (by decide) (fun h1 => ?_) (fun h1 => ?_)
  · replace hF := ifp h1 hF
    cases hF
  · replace hF := ifn h1 hF
    refine v_iload_n 5 X 0 dJ12_checkFromToIndex_4 rfl rfl rfl ?_
    refine v_iload_n 6 X 1 dJ12_checkFromToIndex_5 rfl rfl rfl ?_
    refine v_icmp_gt 9 14 X dJ12_checkFromToIndex_6 rfl (by decide) (fun h6 => ?_) (fun h6 => ?_)
    · replace hF := ifp h6 hF
      cases hF
    · replace hF := ifn h6 hF
      refine v_iload_n 10 X 1 dJ12_checkFromToIndex_9 rfl rfl rfl ?_
      refine v_iload_n 11 X 2 dJ12_checkFromToIndex_10 rfl rfl rfl ?_
      refine v_icmp_le 14 22 X dJ12_checkFromToIndex_11 rfl (by decide) (fun h11 => ?_) (fun h11 => ?_)
      · replace hF := ifp h11 hF
        refine v_iload_n 23 X 0 dJ12_checkFromToIndex_22 rfl rfl rfl ?_
        obtain rfl := Option.some.inj hF
        exact v_iret X hr ⟨rfl, rfl⟩ (Nat.le_of_ble_eq_true rfl) (Nat.le_of_ble_eq_true rfl) dJ12_checkFromToIndex_23
      · replace hF := ifn h11 hF
        cases hF
theorem w_J7_checkLength (ws : va_W) (v0 : Int32) (v1 : Int32) (r : Unit) (hF : J7_checkLength v0 v1 = some r) : CTv l yJ7_checkLength cJ7_checkLength 2 (Option.none : Option Jvm.ClassFile.FieldType) rmJ7_checkLength D ws [.int v0, .int v1] (NoX) (fun u => u = ws) := by
  refine m_v (by decide) (Nat.le_of_ble_eq_true rfl) ?_
  intro p e s m args below meth c A B
  obtain ⟨X, hr, hAm, -, hnm, hnmd⟩ := B
  replace X : CX p s m args meth c D A cJ7_checkLength 2 "java/util/Arrays" := X
  refine v_lv (lv' := [(0, .int v0), (1, .int v1)]) [0, 1] rfl ?_
  unfold J7_checkLength at hF
  refine v_iload_n 1 X 1 dJ7_checkLength_0 rfl rfl rfl ?_
  refine v_iload_n 2 X 0 dJ7_checkLength_1 rfl rfl rfl ?_
  refine v_icmp_ge 5 37 X dJ7_checkLength_2 rfl (by decide) (fun h2 => ?_) (fun h2 => ?_)
  · replace hF := ifp h2 hF
    obtain rfl := Option.some.inj hF
    exact v_vret X hr rfl (Nat.le_of_ble_eq_true rfl) (Nat.le_of_ble_eq_true rfl) dJ7_checkLength_37
  · replace hF := ifn h2 hF
    cases hF
theorem w_J7_copyOfRangeByte (v1 : Int32) (v2 : Int32) (r : Nat × (Nat → Int32)) (hF : J7_copyOfRangeByte nb byt v1 v2 = some r) : CTr l yJ7_copyOfRangeByte cJ7_copyOfRangeByte 5 (Option.some (Jvm.ClassFile.FieldType.array Jvm.ClassFile.FieldType.byte)) rmJ7_copyOfRangeByte D ([(av, .inl (D.1 102, nb, .inl byt))]) [.ref av, .int v1, .int v2] (AMB D) (fun a1 u => ∃ qa1 : Nat, a1 = qa1 ∧ u = ([(av, .inl (D.1 102, nb, .inl byt)), (qa1, .inl (D.1 102, r.1, .inl r.2))])) := by
  refine m_r (by decide) (Nat.le_of_ble_eq_true rfl) ?_
  intro p e s m args below meth c A B
  obtain ⟨X, hr, hAm, -, hnm, hnmd⟩ := B
  replace X : CX p s m args meth c D A cJ7_copyOfRangeByte 5 "java/util/Arrays" := X
  refine v_lv (lv' := [(0, .ref av), (1, .int v1), (2, .int v2)]) [0, 1, 2] rfl ?_
  unfold J7_copyOfRangeByte at hF
  refine v_iload_n 1 X 1 dJ7_copyOfRangeByte_0 rfl rfl rfl ?_
  refine v_iload_n 2 X 2 dJ7_copyOfRangeByte_1 rfl rfl rfl ?_
  obtain ⟨z2, hz2, hF⟩ := ob hF
  refine v_mSv 5 X 2 [.int v1, .int v2] (w_J7_checkLength ([(av, .inl (D.1 102, nb, .inl byt))]) v1 v2 _ hz2) q710 q711 q96 q712 hdJ7_checkLength pass_no ⟨rfl, rfl⟩ ⟨Nat.le_of_ble_eq_true rfl, Nat.le_of_ble_eq_true rfl⟩ ⟨(Nat.le_of_ble_eq_true rfl), (Nat.le_of_ble_eq_true rfl)⟩ rfl rfl (Nat.le_of_ble_eq_true rfl) dJ7_copyOfRangeByte_2 rfl ?_
  refine v_iload_n 6 X 2 dJ7_copyOfRangeByte_5 rfl rfl rfl ?_
  refine v_iload_n 7 X 1 dJ7_copyOfRangeByte_6 rfl rfl rfl ?_
  refine v_isub 8 X dJ7_copyOfRangeByte_7 rfl ?_
  refine v_istore_n 9 [(3, .int (v2 - v1)), (0, .ref av), (1, .int v1), (2, .int v2)] X dJ7_copyOfRangeByte_8 rfl rfl (by decide) rfl ?_
  refine v_iload_n 10 X 0 dJ7_copyOfRangeByte_9 rfl rfl rfl ?_
  obtain ⟨z10, hz10, hF⟩ := ob hF
  refine v_newa (atype := .byte) (mx := 64) (t0 := 2) (ty := .byte) 12 1 64 X hz10 q244 rfl rfl (fun _ h1 h2 => ra_prim rfl rfl h1 h2) rfl (Nat.le_of_ble_eq_true rfl) (Nat.le_of_ble_eq_true rfl) (Nat.le_of_ble_eq_true rfl) dJ7_copyOfRangeByte_10 rfl rfl rfl (fun q10 => ?_)
  refine v_ws (ws' := ([(av, .inl (D.1 102, nb, .inl byt)), (q10, .inl (D.1 102, z10, .inl (fun _ => 0)))])) [0, 1] (by decide) rfl ?_
  refine v_astore 14 [(4, .ref q10), (3, .int (v2 - v1)), (0, .ref av), (1, .int v1), (2, .int v2)] X dJ7_copyOfRangeByte_12 rfl (by decide) rfl ?_
  refine v_aload_n 15 X 2 dJ7_copyOfRangeByte_14 rfl rfl rfl ?_
  refine v_iload_n 16 X 3 dJ7_copyOfRangeByte_15 rfl rfl rfl ?_
  refine v_aload 18 X 0 dJ7_copyOfRangeByte_16 rfl rfl ?_
  refine v_iconst (v := 0) 19 X dJ7_copyOfRangeByte_18 rfl ki_0 ?_
  refine v_aload_n 20 X 2 dJ7_copyOfRangeByte_19 rfl rfl rfl ?_
  refine v_alen 21 X 0 2 rfl rfl rfl dJ7_copyOfRangeByte_20 rfl ?_
  refine v_iload_n 22 X 3 dJ7_copyOfRangeByte_21 rfl rfl rfl ?_
  refine v_isub 23 X dJ7_copyOfRangeByte_22 rfl ?_
  refine v_iload_n 24 X 1 dJ7_copyOfRangeByte_23 rfl rfl rfl ?_
  refine v_mmin 27 X q337 (Nat.le_of_ble_eq_true rfl) (Nat.le_of_ble_eq_true rfl) (Nat.le_of_ble_eq_true rfl) (Nat.le_of_ble_eq_true rfl) dJ7_copyOfRangeByte_24 rfl ?_
  obtain ⟨z27, hz27, hF⟩ := ob hF
  refine v_cpy 30 ([(av, .inl (D.1 102, nb, .inl byt)), (q10, .inl (D.1 102, z10, .inl z27))]) X 0 1 2 (cpyB_s hz27).1 (cpyB_s hz27).2 rfl rfl rfl rfl q340 (Nat.le_of_ble_eq_true rfl) (Nat.le_of_ble_eq_true rfl) dJ7_copyOfRangeByte_27 rfl rfl ?_
  refine v_aload 32 X 0 dJ7_copyOfRangeByte_30 rfl rfl ?_
  obtain rfl := Option.some.inj hF
  refine v_aret (post := (fun r : Nat × (Nat → Int32) => (fun a1 u => ∃ qa1 : Nat, a1 = qa1 ∧ u = ([(av, .inl (D.1 102, nb, .inl byt)), (qa1, .inl (D.1 102, r.1, .inl r.2))]))) (z10, z27)) X hr (Or.inr ⟨_, rfl⟩) ?_ ?_ ?_ dJ7_copyOfRangeByte_32
  · exact ⟨q10, rfl, rfl⟩
  · exact Nat.le_of_ble_eq_true rfl
  · exact Nat.le_of_ble_eq_true rfl
theorem w_J7_copyOfRange (v1 : Int32) (v2 : Int32) (r : Nat × (Nat → Int32)) (hF : J7_copyOfRange nb byt v1 v2 = some r) : CTr l yJ7_copyOfRange cJ7_copyOfRange 3 (Option.some (Jvm.ClassFile.FieldType.array Jvm.ClassFile.FieldType.byte)) rmJ7_copyOfRange D ([(av, .inl (D.1 102, nb, .inl byt))]) [.ref av, .int v1, .int v2] (AMB D) (fun a1 u => ∃ qa1 : Nat, a1 = qa1 ∧ u = ([(av, .inl (D.1 102, nb, .inl byt)), (qa1, .inl (D.1 102, r.1, .inl r.2))])) := by
  refine m_r (by decide) (Nat.le_of_ble_eq_true rfl) ?_
  intro p e s m args below meth c A B
  obtain ⟨X, hr, hAm, -, hnm, hnmd⟩ := B
  replace X : CX p s m args meth c D A cJ7_copyOfRange 3 "java/util/Arrays" := X
  refine v_lv (lv' := [(0, .ref av), (1, .int v1), (2, .int v2)]) [0, 1, 2] rfl ?_
  unfold J7_copyOfRange at hF
  refine v_iload_n 1 X 1 dJ7_copyOfRange_0 rfl rfl rfl ?_
  refine v_if_ne 4 10 X dJ7_copyOfRange_1 rfl (by decide) (fun h1 => ?_) (fun h1 => ?_)
  · replace hF := ifn h1 hF
    refine v_aload_n 11 X 0 dJ7_copyOfRange_10 rfl rfl rfl ?_
    refine v_iload_n 12 X 1 dJ7_copyOfRange_11 rfl rfl rfl ?_
    refine v_iload_n 13 X 2 dJ7_copyOfRange_12 rfl rfl rfl ?_
    obtain ⟨z13, hz13, hF⟩ := ob hF
    refine vc_Sr (wr := ([] : va_W)) 16 1 64 X 3 [.ref av, .int v1, .int v2] [0] [] ([(av, .inl (D.1 102, nb, .inl byt))]) rfl rfl (by decide) (by decide) (by decide) (w_J7_copyOfRangeByte v1 v2 _ hz13) q707 q708 q96 q709 hdJ7_copyOfRangeByte (pass_amb hAm) ⟨Nat.le_of_ble_eq_true rfl, Nat.le_of_ble_eq_true rfl⟩ ⟨(Nat.le_of_ble_eq_true rfl), (Nat.le_of_ble_eq_true rfl)⟩ rfl rfl (Nat.le_of_ble_eq_true rfl) dJ7_copyOfRange_13 rfl rfl rfl (fun a13 u13 e13 => ?_)
    obtain ⟨q13_1, e131, rfl⟩ := e13
    have e132 := e131.symm
    subst e132
    refine v_ws (ws' := ([(av, .inl (D.1 102, nb, .inl byt)), (q13_1, .inl (D.1 102, z13.1, .inl z13.2))])) [0, 1] (by decide) rfl ?_
    obtain rfl := Option.some.inj hF
    refine v_aret (post := (fun r : Nat × (Nat → Int32) => (fun a1 u => ∃ qa1 : Nat, a1 = qa1 ∧ u = ([(av, .inl (D.1 102, nb, .inl byt)), (qa1, .inl (D.1 102, r.1, .inl r.2))]))) (z13.1, z13.2)) X hr (Or.inr ⟨_, rfl⟩) ?_ ?_ ?_ dJ7_copyOfRange_16
    · exact ⟨q13_1, rfl, rfl⟩
    · exact Nat.le_of_ble_eq_true rfl
    · exact Nat.le_of_ble_eq_true rfl
  · replace hF := ifp h1 hF
    refine v_iload_n 5 X 2 dJ7_copyOfRange_4 rfl rfl rfl ?_
    refine v_aload_n 6 X 0 dJ7_copyOfRange_5 rfl rfl rfl ?_
    refine v_alen 7 X 0 2 rfl rfl rfl dJ7_copyOfRange_6 rfl ?_
    refine v_icmp_eq 10 17 X dJ7_copyOfRange_7 rfl (by decide) (fun h7 => ?_) (fun h7 => ?_)
    · replace hF := ifp h7 hF
      refine v_aload_n 18 X 0 dJ7_copyOfRange_17 rfl rfl rfl ?_
      obtain ⟨z18, hz18, hF⟩ := ob hF
      refine v_cloneB 21 1 64 X hAm 0 hz18 rfl q533 (Nat.le_of_ble_eq_true rfl) (Nat.le_of_ble_eq_true rfl) (Nat.le_of_ble_eq_true rfl) (Nat.le_of_ble_eq_true rfl) dJ7_copyOfRange_18 rfl rfl rfl (fun q18 => ?_)
      refine v_ws (ws' := ([(av, .inl (D.1 102, nb, .inl byt)), (q18, .inl (D.1 102, nb, .inl byt))])) [0, 1] (by decide) rfl ?_
      refine v_castB 24 X 1 rfl q537 dJ7_copyOfRange_21 rfl ?_
      obtain rfl := Option.some.inj hF
      refine v_aret (post := (fun r : Nat × (Nat → Int32) => (fun a1 u => ∃ qa1 : Nat, a1 = qa1 ∧ u = ([(av, .inl (D.1 102, nb, .inl byt)), (qa1, .inl (D.1 102, r.1, .inl r.2))]))) (nb, byt)) X hr (Or.inr ⟨_, rfl⟩) ?_ ?_ ?_ dJ7_copyOfRange_24
      · exact ⟨q18, rfl, rfl⟩
      · exact Nat.le_of_ble_eq_true rfl
      · exact Nat.le_of_ble_eq_true rfl
    · replace hF := ifn h7 hF
      refine v_aload_n 11 X 0 dJ7_copyOfRange_10 rfl rfl rfl ?_
      refine v_iload_n 12 X 1 dJ7_copyOfRange_11 rfl rfl rfl ?_
      refine v_iload_n 13 X 2 dJ7_copyOfRange_12 rfl rfl rfl ?_
      obtain ⟨z13, hz13, hF⟩ := ob hF
      refine vc_Sr (wr := ([] : va_W)) 16 1 64 X 3 [.ref av, .int v1, .int v2] [0] [] ([(av, .inl (D.1 102, nb, .inl byt))]) rfl rfl (by decide) (by decide) (by decide) (w_J7_copyOfRangeByte v1 v2 _ hz13) q707 q708 q96 q709 hdJ7_copyOfRangeByte (pass_amb hAm) ⟨Nat.le_of_ble_eq_true rfl, Nat.le_of_ble_eq_true rfl⟩ ⟨(Nat.le_of_ble_eq_true rfl), (Nat.le_of_ble_eq_true rfl)⟩ rfl rfl (Nat.le_of_ble_eq_true rfl) dJ7_copyOfRange_13 rfl rfl rfl (fun a13 u13 e13 => ?_)
      obtain ⟨q13_1, e131, rfl⟩ := e13
      have e132 := e131.symm
      subst e132
      refine v_ws (ws' := ([(av, .inl (D.1 102, nb, .inl byt)), (q13_1, .inl (D.1 102, z13.1, .inl z13.2))])) [0, 1] (by decide) rfl ?_
      obtain rfl := Option.some.inj hF
      refine v_aret (post := (fun r : Nat × (Nat → Int32) => (fun a1 u => ∃ qa1 : Nat, a1 = qa1 ∧ u = ([(av, .inl (D.1 102, nb, .inl byt)), (qa1, .inl (D.1 102, r.1, .inl r.2))]))) (z13.1, z13.2)) X hr (Or.inr ⟨_, rfl⟩) ?_ ?_ ?_ dJ7_copyOfRange_16
      · exact ⟨q13_1, rfl, rfl⟩
      · exact Nat.le_of_ble_eq_true rfl
      · exact Nat.le_of_ble_eq_true rfl
theorem w_J5_init (r : Unit) (hF : J5_init = some r) : CTv l yJ5_init cJ5_init 3 (Option.none : Option Jvm.ClassFile.FieldType) rmJ5_init D ([(wq, .inr (10, [.null, .int 0, .int 0, .int 0])), (wb, .inl (D.1 102, nw, .inl wby))]) [.ref wq, .ref wb, .int 0] (AMB D) (fun u => u = ([(wq, .inr (10, [.ref wb, .int 0, .int 0, .int 0])), (wb, .inl (D.1 102, nw, .inl wby))])) := by
  refine m_v (by decide) (Nat.le_of_ble_eq_true rfl) ?_
  intro p e s m args below meth c A B
  obtain ⟨X, hr, hAm, -, hnm, hnmd⟩ := B
  replace X : CX p s m args meth c D A cJ5_init 3 "java/lang/String" := X
  refine v_lv (lv' := [(0, .ref wq), (1, .ref wb), (2, .int 0)]) [0, 1, 2] rfl ?_
  unfold J5_init at hF
  refine v_aload_n 1 X 0 dJ5_init_0 rfl rfl rfl ?_
  refine v_objInit 4 X q716 (Nat.le_of_ble_eq_true rfl) (Nat.le_of_ble_eq_true rfl) dJ5_init_1 rfl ?_
  refine v_aload_n 5 X 0 dJ5_init_4 rfl rfl rfl ?_
  refine v_aload_n 6 X 1 dJ5_init_5 rfl rfl rfl ?_
  refine v_putF 9 ([(wq, .inr (10, [.ref wb, .int 0, .int 0, .int 0])), (wb, .inl (D.1 102, nw, .inl wby))]) X hnm in_J5 tyJ5_ok nmJ5 0 0 rfl rfl (by decide) q717 rfl rfl rfl rfl rfl rfl (Nat.le_of_ble_eq_true rfl) dJ5_init_6 rfl rfl ?_
  refine v_aload_n 10 X 0 dJ5_init_9 rfl rfl rfl ?_
  refine v_iload_n 11 X 2 dJ5_init_10 rfl rfl rfl ?_
  refine v_putF 14 ([(wq, .inr (10, [.ref wb, .int 0, .int 0, .int 0])), (wb, .inl (D.1 102, nw, .inl wby))]) X hnm in_J5 tyJ5_ok nmJ5 0 1 rfl rfl (by decide) q718 rfl rfl rfl rfl rfl rfl (Nat.le_of_ble_eq_true rfl) dJ5_init_11 rfl rfl ?_
  obtain rfl := Option.some.inj hF
  exact v_vret X hr rfl (Nat.le_of_ble_eq_true rfl) (Nat.le_of_ble_eq_true rfl) dJ5_init_14
theorem w_J11_newString (v1 : Int32) (v2 : Int32) (r : Nat × (Nat → Int32)) (hF : J11_newString nb byt v1 v2 = some r) : CTr l yJ11_newString cJ11_newString 3 (Option.some (Jvm.ClassFile.FieldType.object "java/lang/String")) rmJ11_newString D ([(av, .inl (D.1 102, nb, .inl byt))]) [.ref av, .int v1, .int v2] (AMB D) (fun a1 u => ∃ qa1 qa2 : Nat, a1 = qa1 ∧ u = ([(av, .inl (D.1 102, nb, .inl byt)), (qa1, .inr (10, [.ref qa2, .int 0, .int 0, .int 0])), (qa2, .inl (D.1 102, r.1, .inl r.2))])) := by
  refine m_r (by decide) (Nat.le_of_ble_eq_true rfl) ?_
  intro p e s m args below meth c A B
  obtain ⟨X, hr, hAm, -, hnm, hnmd⟩ := B
  replace X : CX p s m args meth c D A cJ11_newString 3 "java/lang/StringLatin1" := X
  refine v_lv (lv' := [(0, .ref av), (1, .int v1), (2, .int v2)]) [0, 1, 2] rfl ?_
  unfold J11_newString at hF
  refine v_iload_n 1 X 2 dJ11_newString_0 rfl rfl rfl ?_
  refine v_if_ne 4 7 X dJ11_newString_1 rfl (by decide) (fun h1 => ?_) (fun h1 => ?_)
  · replace hF := ifn h1 hF
    refine v_new (fs := [.null, .int 0, .int 0, .int 0]) 10 1 4 X in_J5 tyJ5_ok q702 q703 q93 (ci := 10) rfl (by decide) (Nat.le_of_ble_eq_true rfl) (Nat.le_of_ble_eq_true rfl) dJ11_newString_7 rfl rfl rfl (fun q7 => ?_)
    refine v_ws (ws' := ([(av, .inl (D.1 102, nb, .inl byt)), (q7, .inr (10, [.null, .int 0, .int 0, .int 0]))])) [0, 1] (by decide) rfl ?_
    refine v_dup 11 X dJ11_newString_10 rfl rfl ?_
    refine v_aload_n 12 X 0 dJ11_newString_11 rfl rfl rfl ?_
    refine v_iload_n 13 X 1 dJ11_newString_12 rfl rfl rfl ?_
    refine v_iload_n 14 X 1 dJ11_newString_13 rfl rfl rfl ?_
    refine v_iload_n 15 X 2 dJ11_newString_14 rfl rfl rfl ?_
    refine v_iadd 16 X dJ11_newString_15 rfl ?_
    obtain ⟨z16, hz16, hF⟩ := ob hF
    refine vc_Sr (wr := ([(q7, .inr (10, [.null, .int 0, .int 0, .int 0]))])) 19 2 68 X 3 [.ref av, .int v1, .int (v1 + v2)] [0] [1] ([(av, .inl (D.1 102, nb, .inl byt))]) rfl rfl (by decide) (by decide) (by decide) (w_J7_copyOfRange v1 (v1 + v2) _ hz16) q704 q705 q96 q706 hdJ7_copyOfRange (pass_amb hAm) ⟨Nat.le_of_ble_eq_true rfl, Nat.le_of_ble_eq_true rfl⟩ ⟨(Nat.le_of_ble_eq_true rfl), (Nat.le_of_ble_eq_true rfl)⟩ rfl rfl (Nat.le_of_ble_eq_true rfl) dJ11_newString_16 rfl rfl rfl (fun a16 u16 e16 => ?_)
    obtain ⟨q16_1, e161, rfl⟩ := e16
    have e162 := e161.symm
    subst e162
    refine v_ws (ws' := ([(q7, .inr (10, [.null, .int 0, .int 0, .int 0])), (av, .inl (D.1 102, nb, .inl byt)), (q16_1, .inl (D.1 102, z16.1, .inl z16.2))])) [0, 1, 2] (by decide) rfl ?_
    refine v_iconst (v := 0) 20 X dJ11_newString_19 rfl ki_0 ?_
    obtain ⟨z20, hz20, hF⟩ := ob hF
    refine vc_Iv (wr := ([(av, .inl (D.1 102, nb, .inl byt))])) 23 2 68 X 2 [.ref q16_1, .int 0] [0, 2] [1] ([(q7, .inr (10, [.null, .int 0, .int 0, .int 0])), (q16_1, .inl (D.1 102, z16.1, .inl z16.2))]) rfl rfl (by decide) (by decide) (by decide) (w_J5_init _ hz20) q713 q714 rfl q93 q715 hdJ5_init.2 (pass_amb hAm) ⟨Nat.le_of_ble_eq_true rfl, Nat.le_of_ble_eq_true rfl⟩ ⟨(Nat.le_of_ble_eq_true rfl), (Nat.le_of_ble_eq_true rfl)⟩ rfl rfl (Nat.le_of_ble_eq_true rfl) dJ11_newString_20 rfl rfl rfl (fun u20 e20 => ?_)
    subst e20
    refine v_ws (ws' := ([(av, .inl (D.1 102, nb, .inl byt)), (q7, .inr (10, [.ref q16_1, .int 0, .int 0, .int 0])), (q16_1, .inl (D.1 102, z16.1, .inl z16.2))])) [0, 1, 2] (by decide) rfl ?_
    obtain rfl := Option.some.inj hF
    refine v_aret (post := (fun r : Nat × (Nat → Int32) => (fun a1 u => ∃ qa1 qa2 : Nat, a1 = qa1 ∧ u = ([(av, .inl (D.1 102, nb, .inl byt)), (qa1, .inr (10, [.ref qa2, .int 0, .int 0, .int 0])), (qa2, .inl (D.1 102, r.1, .inl r.2))]))) (z16.1, z16.2)) X hr (Or.inl ⟨_, rfl⟩) ?_ ?_ ?_ dJ11_newString_23
    · exact ⟨q7, q16_1, rfl, rfl⟩
    · exact Nat.le_of_ble_eq_true rfl
    · exact Nat.le_of_ble_eq_true rfl
  · replace hF := ifp h1 hF
    cases hF
theorem w_J3_substring (v1 : Int32) (v2 : Int32) (r : Nat × (Nat → Int32)) (hF : J3_substring nb byt cnt v1 v2 = some r) : CTr l yJ3_substring cJ3_substring 3 (Option.some (Jvm.ClassFile.FieldType.object "java/lang/String")) rmJ3_substring D ([(tx, .inr (9, [.ref av, .int 0, .int ml, .int cnt])), (av, .inl (D.1 102, nb, .inl byt))]) [.ref tx, .int v1, .int v2] (AMB D) (fun a1 u => ∃ qa2 qa3 : Nat, a1 = qa2 ∧ u = ([(tx, .inr (9, [.ref av, .int 0, .int ml, .int cnt])), (av, .inl (D.1 102, nb, .inl byt)), (qa2, .inr (10, [.ref qa3, .int 0, .int 0, .int 0])), (qa3, .inl (D.1 102, r.1, .inl r.2))])) := by
  refine m_r (by decide) (Nat.le_of_ble_eq_true rfl) ?_
  intro p e s m args below meth c A B
  obtain ⟨X, hr, hAm, -, hnm, hnmd⟩ := B
  replace X : CX p s m args meth c D A cJ3_substring 3 "java/lang/AbstractStringBuilder" := X
  refine v_lv (lv' := [(0, .ref tx), (1, .int v1), (2, .int v2)]) [0, 1, 2] rfl ?_
  unfold J3_substring at hF
  refine v_iload_n 1 X 1 dJ3_substring_0 rfl rfl rfl ?_
  refine v_iload_n 2 X 2 dJ3_substring_1 rfl rfl rfl ?_
  refine v_aload_n 3 X 0 dJ3_substring_2 rfl rfl rfl ?_
  refine v_get 6 X in_J4 0 3 rfl rfl (by decide) q234 rfl rfl dJ3_substring_3 rfl ?_
  refine v_getZ 9 X hAm.1.2.2.1 q694 dJ3_substring_6 rfl ?_
  obtain ⟨z9, hz9, hF⟩ := ob hF
  refine v_mSi 12 X 4 [.int v1, .int v2, .int cnt, va_rf (otN D 0)] (w_J12_checkFromToIndex ([(tx, .inr (9, [.ref av, .int 0, .int ml, .int cnt])), (av, .inl (D.1 102, nb, .inl byt))]) v1 v2 cnt (otN D 0) _ hz9) q695 q696 q102 q697 hdJ12_checkFromToIndex pass_no ⟨rfl, rfl⟩ ⟨Nat.le_of_ble_eq_true rfl, Nat.le_of_ble_eq_true rfl⟩ ⟨(Nat.le_of_ble_eq_true rfl), (Nat.le_of_ble_eq_true rfl)⟩ rfl rfl (Nat.le_of_ble_eq_true rfl) dJ3_substring_9 rfl ?_
  refine v_pop 13 X dJ3_substring_12 rfl rfl ?_
  refine v_aload_n 14 X 0 dJ3_substring_13 rfl rfl rfl ?_
  obtain ⟨z14, hz14, hF⟩ := ob hF
  refine vc_Pi (wr := ([] : va_W)) 17 0 0 X 0 [] [0, 1] [] ([(tx, .inr (9, [.ref av, .int 0, .int ml, .int cnt])), (av, .inl (D.1 102, nb, .inl byt))]) rfl rfl (by decide) (by decide) (by decide) (w_J3_isLatin1 _ hz14) q538 q540 (X.hts _ q541) q539 q91 q542 hdJ3_isLatin1.2 0 rfl rfl (pass_amb hAm) ⟨Nat.le_of_ble_eq_true rfl, Nat.le_of_ble_eq_true rfl⟩ ⟨(Nat.le_of_ble_eq_true rfl), (Nat.le_of_ble_eq_true rfl)⟩ rfl rfl (Nat.le_of_ble_eq_true rfl) dJ3_substring_14 rfl rfl rfl (fun r14 u14 e14 => ?_)
  obtain ⟨e141, rfl⟩ := e14
  have e142 := e141.symm
  subst e142
  refine v_ws (ws' := ([(tx, .inr (9, [.ref av, .int 0, .int ml, .int cnt])), (av, .inl (D.1 102, nb, .inl byt))])) [0, 1] (by decide) rfl ?_
  refine v_if_eq 20 32 X dJ3_substring_17 rfl (by decide) (fun h17 => ?_) (fun h17 => ?_)
  · replace hF := ifp h17 hF
    cases hF
  · replace hF := ifn h17 hF
    refine v_aload_n 21 X 0 dJ3_substring_20 rfl rfl rfl ?_
    refine v_get 24 X in_J4 0 0 rfl rfl (by decide) q231 rfl rfl dJ3_substring_21 rfl ?_
    refine v_iload_n 25 X 1 dJ3_substring_24 rfl rfl rfl ?_
    refine v_iload_n 26 X 2 dJ3_substring_25 rfl rfl rfl ?_
    refine v_iload_n 27 X 1 dJ3_substring_26 rfl rfl rfl ?_
    refine v_isub 28 X dJ3_substring_27 rfl ?_
    obtain ⟨z28, hz28, hF⟩ := ob hF
    refine vc_Sr (wr := ([(tx, .inr (9, [.ref av, .int 0, .int ml, .int cnt]))])) 31 2 68 X 3 [.ref av, .int v1, .int (v2 - v1)] [1] [0] ([(av, .inl (D.1 102, nb, .inl byt))]) rfl rfl (by decide) (by decide) (by decide) (w_J11_newString v1 (v2 - v1) _ hz28) q698 q699 q101 q700 hdJ11_newString (pass_amb hAm) ⟨Nat.le_of_ble_eq_true rfl, Nat.le_of_ble_eq_true rfl⟩ ⟨(Nat.le_of_ble_eq_true rfl), (Nat.le_of_ble_eq_true rfl)⟩ rfl rfl (Nat.le_of_ble_eq_true rfl) dJ3_substring_28 rfl rfl rfl (fun a28 u28 e28 => ?_)
    obtain ⟨q28_1, q28_2, e281, rfl⟩ := e28
    have e282 := e281.symm
    subst e282
    refine v_ws (ws' := ([(tx, .inr (9, [.ref av, .int 0, .int ml, .int cnt])), (av, .inl (D.1 102, nb, .inl byt)), (q28_1, .inr (10, [.ref q28_2, .int 0, .int 0, .int 0])), (q28_2, .inl (D.1 102, z28.1, .inl z28.2))])) [0, 1, 2, 3] (by decide) rfl ?_
    obtain rfl := Option.some.inj hF
    refine v_aret (post := (fun r : Nat × (Nat → Int32) => (fun a1 u => ∃ qa2 qa3 : Nat, a1 = qa2 ∧ u = ([(tx, .inr (9, [.ref av, .int 0, .int ml, .int cnt])), (av, .inl (D.1 102, nb, .inl byt)), (qa2, .inr (10, [.ref qa3, .int 0, .int 0, .int 0])), (qa3, .inl (D.1 102, r.1, .inl r.2))]))) (z28.1, z28.2)) X hr (Or.inl ⟨_, rfl⟩) ?_ ?_ ?_ dJ3_substring_31
    · exact ⟨q28_1, q28_2, rfl, rfl⟩
    · exact Nat.le_of_ble_eq_true rfl
    · exact Nat.le_of_ble_eq_true rfl
theorem w_J4_substring (v1 : Int32) (v2 : Int32) (r : Nat × (Nat → Int32)) (hF : J4_substring nb byt cnt v1 v2 = some r) : CTr l yJ4_substring cJ4_substring 3 (Option.some (Jvm.ClassFile.FieldType.object "java/lang/String")) rmJ4_substring D ([(tx, .inr (9, [.ref av, .int 0, .int ml, .int cnt])), (av, .inl (D.1 102, nb, .inl byt))]) [.ref tx, .int v1, .int v2] (AMB D) (fun a1 u => ∃ qa2 qa3 : Nat, a1 = qa2 ∧ u = ([(tx, .inr (9, [.ref av, .int 0, .int ml, .int cnt])), (av, .inl (D.1 102, nb, .inl byt)), (qa2, .inr (10, [.ref qa3, .int 0, .int 0, .int 0])), (qa3, .inl (D.1 102, r.1, .inl r.2))])) := by
  refine m_r (by decide) (Nat.le_of_ble_eq_true rfl) ?_
  intro p e s m args below meth c A B
  obtain ⟨X, hr, hAm, -, hnm, hnmd⟩ := B
  replace X : CX p s m args meth c D A cJ4_substring 3 "java/lang/StringBuilder" := X
  refine v_lv (lv' := [(0, .ref tx), (1, .int v1), (2, .int v2)]) [0, 1, 2] rfl ?_
  unfold J4_substring at hF
  refine v_aload_n 1 X 0 dJ4_substring_0 rfl rfl rfl ?_
  refine v_iload_n 2 X 1 dJ4_substring_1 rfl rfl rfl ?_
  refine v_iload_n 3 X 2 dJ4_substring_2 rfl rfl rfl ?_
  obtain ⟨z3, hz3, hF⟩ := ob hF
  refine vc_Br (wr := ([] : va_W)) 6 2 68 X 2 [.int v1, .int v2] [0, 1] [] ([(tx, .inr (9, [.ref av, .int 0, .int ml, .int cnt])), (av, .inl (D.1 102, nb, .inl byt))]) rfl rfl (by decide) (by decide) (by decide) (w_J3_substring v1 v2 _ hz3) q214 q691 q1543 q243 q692 q91 q693 ⟨by decide, hdJ3_substring.2.2.2⟩ 0 rfl rfl (pass_amb hAm) ⟨Nat.le_of_ble_eq_true rfl, Nat.le_of_ble_eq_true rfl⟩ ⟨(Nat.le_of_ble_eq_true rfl), (Nat.le_of_ble_eq_true rfl)⟩ rfl rfl (Nat.le_of_ble_eq_true rfl) dJ4_substring_3 rfl rfl rfl (fun a3 u3 e3 => ?_)
  obtain ⟨q3_2, q3_3, e31, rfl⟩ := e3
  have e32 := e31.symm
  subst e32
  refine v_ws (ws' := ([(tx, .inr (9, [.ref av, .int 0, .int ml, .int cnt])), (av, .inl (D.1 102, nb, .inl byt)), (q3_2, .inr (10, [.ref q3_3, .int 0, .int 0, .int 0])), (q3_3, .inl (D.1 102, z3.1, .inl z3.2))])) [0, 1, 2, 3] (by decide) rfl ?_
  obtain rfl := Option.some.inj hF
  refine v_aret (post := (fun r : Nat × (Nat → Int32) => (fun a1 u => ∃ qa2 qa3 : Nat, a1 = qa2 ∧ u = ([(tx, .inr (9, [.ref av, .int 0, .int ml, .int cnt])), (av, .inl (D.1 102, nb, .inl byt)), (qa2, .inr (10, [.ref qa3, .int 0, .int 0, .int 0])), (qa3, .inl (D.1 102, r.1, .inl r.2))]))) (z3.1, z3.2)) X hr (Or.inl ⟨_, rfl⟩) ?_ ?_ ?_ dJ4_substring_6
  · exact ⟨q3_2, q3_3, rfl, rfl⟩
  · exact Nat.le_of_ble_eq_true rfl
  · exact Nat.le_of_ble_eq_true rfl
theorem w_J11_equals_9 (X : CX p s m args meth c D A cJ11_equals 3 "java/lang/StringLatin1") (hAm : AMB D A s) {cb sb : Nat} (hcb : cb ≤ rmJ11_equals.cells) (hsb : sb ≤ rmJ11_equals.slots) (v1 : Nat) : ∀ (fu : Nat) (x : Int32) (o : ((Unit) ⊕ (Unit))), loopN (fun x => J11_equals_9 v1 nw wby x) fu x = some o → ((∀ z : Unit, o = (.inl z) → V p l e rmJ11_equals s m args below meth c D A 3 Q ([(wb, .inl (D.1 102, nw, .inl wby))]) cb sb 32 [] []) ∧ (∀ z : Unit, o = (.inr z) → V p l e rmJ11_equals s m args below meth c D A 3 Q ([(wb, .inl (D.1 102, nw, .inl wby))]) cb sb 24 [] [])) → V p l e rmJ11_equals s m args below meth c D A 3 Q ([(wb, .inl (D.1 102, nw, .inl wby))]) cb sb 9 [(0, .ref wb), (1, .ref (adB D v1)), (2, .int x)] [] := by
  refine v_loop (fun (x : Int32) => V p l e rmJ11_equals s m args below meth c D A 3 Q ([(wb, .inl (D.1 102, nw, .inl wby))]) cb sb 9 [(0, .ref wb), (1, .ref (adB D v1)), (2, .int x)] []) (fun (o : ((Unit) ⊕ (Unit))) => (∀ z : Unit, o = (.inl z) → V p l e rmJ11_equals s m args below meth c D A 3 Q ([(wb, .inl (D.1 102, nw, .inl wby))]) cb sb 32 [] []) ∧ (∀ z : Unit, o = (.inr z) → V p l e rmJ11_equals s m args below meth c D A 3 Q ([(wb, .inl (D.1 102, nw, .inl wby))]) cb sb 24 [] [])) ?_
  rintro v2 r hF hI hO
  replace hF : J11_equals_9 v1 nw wby v2 = some r := hF
  show V p l e rmJ11_equals s m args below meth c D A 3 Q ([(wb, .inl (D.1 102, nw, .inl wby))]) cb sb 9 [(0, .ref wb), (1, .ref (adB D v1)), (2, .int v2)] []
  unfold J11_equals_9 at hF
  refine v_iload_n 10 X 2 dJ11_equals_9 rfl rfl rfl ?_
  refine v_aload_n 11 X 0 dJ11_equals_10 rfl rfl rfl ?_
  refine v_alen 12 X 0 2 rfl rfl rfl dJ11_equals_11 rfl ?_
  refine v_icmp_ge 15 32 X dJ11_equals_12 rfl (by decide) (fun h12 => ?_) (fun h12 => ?_)
  · replace hF := ifp h12 hF
    obtain rfl := Option.some.inj hF
    exact v_lv [] rfl (((hO _ rfl).1 _ rfl))
  · replace hF := ifn h12 hF
    refine v_aload_n 16 X 0 dJ11_equals_15 rfl rfl rfl ?_
    refine v_iload_n 17 X 2 dJ11_equals_16 rfl rfl rfl ?_
    obtain ⟨z17, hz17, hF⟩ := ob hF
    refine v_bald 18 X 0 hz17 rfl dJ11_equals_17 rfl ?_
    refine v_aload_n 19 X 1 dJ11_equals_18 rfl rfl rfl ?_
    refine v_iload_n 20 X 2 dJ11_equals_19 rfl rfl rfl ?_
    obtain ⟨z20, hz20, hF⟩ := ob hF
    refine v_aldB 21 X hAm hz20 dJ11_equals_20 rfl ?_
    refine v_icmp_eq 24 26 X dJ11_equals_21 rfl (by decide) (fun h21 => ?_) (fun h21 => ?_)
    · replace hF := ifp h21 hF
      refine v_iinc (v := (v2 + 1)) 29 [(2, .int (v2 + 1)), (0, .ref wb), (1, .ref (adB D v1))] X 2 dJ11_equals_26 rfl rfl (by rfl) (by decide) rfl ?_
      refine v_goto 9 X dJ11_equals_29 (by decide) ?_
      obtain rfl := Option.some.inj hF
      exact v_lv [1, 2, 0] rfl (hI _ rfl)
    · replace hF := ifn h21 hF
      obtain rfl := Option.some.inj hF
      exact v_lv [] rfl (((hO _ rfl).2 _ rfl))
theorem w_J11_equals (v1 : Nat) (r : Int32) (hF : J11_equals nw wby v1 = some r) : CTi l yJ11_equals cJ11_equals 3 (Option.some Jvm.ClassFile.FieldType.boolean) rmJ11_equals D ([(wb, .inl (D.1 102, nw, .inl wby))]) [.ref wb, .ref (adB D v1)] (AMB D) (fun r1 u => r1 = r ∧ u = ([(wb, .inl (D.1 102, nw, .inl wby))])) := by
  refine m_i (by decide) (Nat.le_of_ble_eq_true rfl) ?_
  intro p e s m args below meth c A B
  obtain ⟨X, hr, hAm, -, hnm, hnmd⟩ := B
  replace X : CX p s m args meth c D A cJ11_equals 3 "java/lang/StringLatin1" := X
  refine v_lv (lv' := [(0, .ref wb), (1, .ref (adB D v1))]) [0, 1] rfl ?_
  unfold J11_equals at hF
  refine v_aload_n 1 X 0 dJ11_equals_0 rfl rfl rfl ?_
  refine v_alen 2 X 0 2 rfl rfl rfl dJ11_equals_1 rfl ?_
  refine v_aload_n 3 X 1 dJ11_equals_2 rfl rfl rfl ?_
  obtain ⟨z3, hz3, hF⟩ := ob hF
  refine v_alenB 4 X hAm hz3 dJ11_equals_3 rfl ?_
  refine v_icmp_ne 7 34 X dJ11_equals_4 rfl (by decide) (fun h4 => ?_) (fun h4 => ?_)
  · replace hF := ifn h4 hF
    refine v_iconst (v := 0) 35 X dJ11_equals_34 rfl ki_0 ?_
    obtain rfl := Option.some.inj hF
    exact v_zret X hr rfl ⟨rfl, rfl⟩ (Nat.le_of_ble_eq_true rfl) (Nat.le_of_ble_eq_true rfl) dJ11_equals_35
  · replace hF := ifp h4 hF
    refine v_iconst (v := 0) 8 X dJ11_equals_7 rfl ki_0 ?_
    refine v_istore_n 9 [(2, .int 0), (0, .ref wb), (1, .ref (adB D v1))] X dJ11_equals_8 rfl rfl (by decide) rfl ?_
    obtain ⟨z9, hz9, hF⟩ := ob hF
    refine v_lv [1, 2, 0] rfl (w_J11_equals_9 X hAm (Nat.le_of_ble_eq_true rfl) (Nat.le_of_ble_eq_true rfl) v1 _ 0 _ hz9 ⟨fun y9 hy => ?_, fun y9 hy => ?_⟩)
    · subst hy
      dsimp only at hF
      refine v_iconst (v := 1) 33 X dJ11_equals_32 rfl ki_1 ?_
      obtain rfl := Option.some.inj hF
      exact v_zret X hr rfl ⟨rfl, rfl⟩ (Nat.le_of_ble_eq_true rfl) (Nat.le_of_ble_eq_true rfl) dJ11_equals_33
    · subst hy
      dsimp only at hF
      refine v_iconst (v := 0) 25 X dJ11_equals_24 rfl ki_0 ?_
      obtain rfl := Option.some.inj hF
      exact v_zret X hr rfl ⟨rfl, rfl⟩ (Nat.le_of_ble_eq_true rfl) (Nat.le_of_ble_eq_true rfl) dJ11_equals_25
theorem w_J5_equals (v1 : Nat) (r : Int32) (hF : J5_equals nw wby v1 = some r) : CTi l yJ5_equals cJ5_equals 3 (Option.some Jvm.ClassFile.FieldType.boolean) rmJ5_equals D ([(wq, .inr (10, [.ref wb, .int 0, .int wh, .int wz])), (wb, .inl (D.1 102, nw, .inl wby))]) [.ref wq, .ref (adS D v1)] (AMB D) (fun r1 u => r1 = r ∧ u = ([(wq, .inr (10, [.ref wb, .int 0, .int wh, .int wz])), (wb, .inl (D.1 102, nw, .inl wby))])) := by
  refine m_i (by decide) (Nat.le_of_ble_eq_true rfl) ?_
  intro p e s m args below meth c A B
  obtain ⟨X, hr, hAm, -, hnm, hnmd⟩ := B
  replace X : CX p s m args meth c D A cJ5_equals 3 "java/lang/String" := X
  refine v_lv (lv' := [(0, .ref wq), (1, .ref (adS D v1))]) [0, 1] rfl ?_
  unfold J5_equals at hF
  refine v_aload_n 1 X 0 dJ5_equals_0 rfl rfl rfl ?_
  refine v_aload_n 2 X 1 dJ5_equals_1 rfl rfl rfl ?_
  obtain ⟨z2, hz2, hF⟩ := ob hF
  refine v_acmpS 7 X hAm 0 (sok_s hz2) rfl dJ5_equals_2 (by decide) ?_
  refine v_aload_n 8 X 1 dJ5_equals_7 rfl rfl rfl ?_
  obtain ⟨z8, hz8, hF⟩ := ob hF
  refine v_instH 11 X (hAm.str (sok_s hz8)).1 q801 dJ5_equals_8 rfl ?_
  refine v_if_eq 14 54 X dJ5_equals_11 rfl (by decide) (fun h11 => ?_) (fun h11 => ?_)
  · exact absurd h11 (by decide)
  · refine v_aload_n 15 X 1 dJ5_equals_14 rfl rfl rfl ?_
    obtain ⟨z15, hz15, hF⟩ := ob hF
    refine v_castH 18 X (hAm.str (sok_s hz15)).1 q801 dJ5_equals_15 rfl ?_
    refine v_astore_n 19 [(2, .ref (adS D v1)), (0, .ref wq), (1, .ref (adS D v1))] X dJ5_equals_18 rfl rfl (by decide) rfl ?_
    refine v_getZ 22 X hAm.1.2.1 q802 dJ5_equals_19 rfl ?_
    refine v_if_eq 25 36 X dJ5_equals_22 rfl (by decide) (fun h22 => ?_) (fun h22 => ?_)
    · exact absurd h22 (by decide)
    · refine v_aload_n 26 X 1 dJ5_equals_25 rfl rfl rfl ?_
      refine v_get 29 X in_J5 0 1 rfl rfl (by decide) q718 rfl rfl dJ5_equals_26 rfl ?_
      refine v_aload_n 30 X 0 dJ5_equals_29 rfl rfl rfl ?_
      obtain ⟨z30, hz30, hF⟩ := ob hF
      refine v_getO 33 X (hAm.str (sok_s hz30)).2.1 q718 dJ5_equals_30 rfl ?_
      refine v_icmp_ne 36 54 X dJ5_equals_33 rfl (by decide) (fun h33 => ?_) (fun h33 => ?_)
      · exact absurd (by decide) h33
      · refine v_aload_n 37 X 1 dJ5_equals_36 rfl rfl rfl ?_
        refine v_get 40 X in_J5 0 0 rfl rfl (by decide) q717 rfl rfl dJ5_equals_37 rfl ?_
        refine v_aload_n 41 X 0 dJ5_equals_40 rfl rfl rfl ?_
        obtain ⟨z41, hz41, hF⟩ := ob hF
        refine v_getO 44 X (hAm.str (sok_s hz41)).2.2.1 q717 dJ5_equals_41 rfl ?_
        obtain ⟨z44, hz44, hF⟩ := ob hF
        refine vc_Si (wr := ([(wq, .inr (10, [.ref wb, .int 0, .int wh, .int wz]))])) 47 0 0 X 2 [.ref wb, .ref (adB D v1)] [1] [0] ([(wb, .inl (D.1 102, nw, .inl wby))]) rfl rfl (by decide) (by decide) (by decide) (w_J11_equals v1 _ hz44) q803 q804 q101 q805 hdJ11_equals (pass_amb hAm) ⟨Nat.le_of_ble_eq_true rfl, Nat.le_of_ble_eq_true rfl⟩ ⟨(Nat.le_of_ble_eq_true rfl), (Nat.le_of_ble_eq_true rfl)⟩ rfl rfl (Nat.le_of_ble_eq_true rfl) dJ5_equals_44 rfl rfl rfl (fun r44 u44 e44 => ?_)
        obtain ⟨e441, rfl⟩ := e44
        have e442 := e441.symm
        subst e442
        refine v_ws (ws' := ([(wq, .inr (10, [.ref wb, .int 0, .int wh, .int wz])), (wb, .inl (D.1 102, nw, .inl wby))])) [0, 1] (by decide) rfl ?_
        refine v_if_eq 50 54 X dJ5_equals_47 rfl (by decide) (fun h47 => ?_) (fun h47 => ?_)
        · replace hF := ifp h47 hF
          refine v_iconst (v := 0) 55 X dJ5_equals_54 rfl ki_0 ?_
          obtain rfl := Option.some.inj hF
          exact v_zret X hr rfl ⟨rfl, rfl⟩ (Nat.le_of_ble_eq_true rfl) (Nat.le_of_ble_eq_true rfl) dJ5_equals_55
        · replace hF := ifn h47 hF
          refine v_iconst (v := 1) 51 X dJ5_equals_50 rfl ki_1 ?_
          refine v_goto 55 X dJ5_equals_51 (by decide) ?_
          obtain rfl := Option.some.inj hF
          exact v_zret X hr rfl ⟨rfl, rfl⟩ (Nat.le_of_ble_eq_true rfl) (Nat.le_of_ble_eq_true rfl) dJ5_equals_55
end
