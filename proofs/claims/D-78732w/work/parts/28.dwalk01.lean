set_option maxRecDepth 100000
set_option maxHeartbeats 4000000
section
variable {p : Program} {l : Launch} {e : Env} {s : State} {m : MethodId} {args : Array Value} {below : List Frame} {meth : Method} {c : Code} {D : va_G} {A : Nat → Prop} {Q : State → Prop} {ws : va_W} {t1 t2 bm bc a0 hq tx : Nat} {k0 k1 k2 : Int32} {mk clu : Nat → Int32} {b0 b1 b2 b3 b4 b5 n n4 kd : Nat} {cols rows thr bt tm rea : Int32} {gr so dy cg : Nat → Int32} {vl : Nat → Nat}
theorem w_X0_ledger_131 (X : CX p s m args meth c D A cX0_ledger 12 "DyeLattice") (hAm : AMB D A s) {q50_6 : Nat} {q56 : Nat} {cb sb : Nat} (hcb : cb ≤ rmX0_ledger.cells) (hsb : sb ≤ rmX0_ledger.slots) (v2 : Int32) (v5 : Int32) (v9 : Int32) (z50 : (Nat → Int32)) (kn56 : (Nat → Int32)) : ∀ (fu : Nat) (x : Int32 × Int32 × Int32) (o : (Int32 × Int32)), loopN (fun x => C_ledger_131 v9 n kn56 x.1 x.2.1 x.2.2) fu x = some o → (V p l e rmX0_ledger s m args below meth c D A 12 Q ([(a0, .inr (0, [.ref b0, .ref hq, .ref tx]))] ++ LW D b0 b1 b2 b3 b4 b5 n n4 cols rows kd thr bt tm rea gr vl so dy cg ++ [(q50_6, .inl (D.1 100, n, .inl z50)), (q56, .inl (D.1 100, n, .inl kn56))]) cb sb 170 [(2, .int v2), (3, .ref q50_6), (5, .int v5), (6, .int o.1), (7, .int o.2)] []) → V p l e rmX0_ledger s m args below meth c D A 12 Q ([(a0, .inr (0, [.ref b0, .ref hq, .ref tx]))] ++ LW D b0 b1 b2 b3 b4 b5 n n4 cols rows kd thr bt tm rea gr vl so dy cg ++ [(q50_6, .inl (D.1 100, n, .inl z50)), (q56, .inl (D.1 100, n, .inl kn56))]) cb sb 131 [(2, .int v2), (3, .ref q50_6), (5, .int v5), (6, .int x.1), (7, .int x.2.1), (8, .ref q56), (9, .int v9), (10, .int x.2.2)] [] := by
  refine v_loop (fun (x : Int32 × Int32 × Int32) => V p l e rmX0_ledger s m args below meth c D A 12 Q ([(a0, .inr (0, [.ref b0, .ref hq, .ref tx]))] ++ LW D b0 b1 b2 b3 b4 b5 n n4 cols rows kd thr bt tm rea gr vl so dy cg ++ [(q50_6, .inl (D.1 100, n, .inl z50)), (q56, .inl (D.1 100, n, .inl kn56))]) cb sb 131 [(2, .int v2), (3, .ref q50_6), (5, .int v5), (6, .int x.1), (7, .int x.2.1), (8, .ref q56), (9, .int v9), (10, .int x.2.2)] []) (fun (o : (Int32 × Int32)) => V p l e rmX0_ledger s m args below meth c D A 12 Q ([(a0, .inr (0, [.ref b0, .ref hq, .ref tx]))] ++ LW D b0 b1 b2 b3 b4 b5 n n4 cols rows kd thr bt tm rea gr vl so dy cg ++ [(q50_6, .inl (D.1 100, n, .inl z50)), (q56, .inl (D.1 100, n, .inl kn56))]) cb sb 170 [(2, .int v2), (3, .ref q50_6), (5, .int v5), (6, .int o.1), (7, .int o.2)] []) ?_
  rintro ⟨v6, v7, v10⟩ r hF hI hO
  replace hF : C_ledger_131 v9 n kn56 v6 v7 v10 = some r := hF
  show V p l e rmX0_ledger s m args below meth c D A 12 Q ([(a0, .inr (0, [.ref b0, .ref hq, .ref tx]))] ++ LW D b0 b1 b2 b3 b4 b5 n n4 cols rows kd thr bt tm rea gr vl so dy cg ++ [(q50_6, .inl (D.1 100, n, .inl z50)), (q56, .inl (D.1 100, n, .inl kn56))]) cb sb 131 [(2, .int v2), (3, .ref q50_6), (5, .int v5), (6, .int v6), (7, .int v7), (8, .ref q56), (9, .int v9), (10, .int v10)] []
  unfold C_ledger_131 at hF
  refine v_iload 133 X 7 dX0_ledger_131 rfl rfl ?_
  refine v_iload 135 X 6 dX0_ledger_133 rfl rfl ?_
  refine v_icmp_ge 138 170 X dX0_ledger_135 rfl (by decide) (fun h135 => ?_) (fun h135 => ?_)
  · replace hF := ifp h135 hF
    obtain rfl := Option.some.inj hF
    exact v_lv [0, 1, 2, 3, 4] rfl ((hO _ rfl))
  · replace hF := ifn h135 hF
    refine v_aload 140 X 5 dX0_ledger_138 rfl rfl ?_
    refine v_iload 142 X 7 dX0_ledger_140 rfl rfl ?_
    obtain ⟨z142, hz142, hF⟩ := ob hF
    refine v_iald 143 X 8 hz142 rfl dX0_ledger_142 rfl ?_
    refine v_istore 145 [(11, .int z142), (2, .int v2), (3, .ref q50_6), (5, .int v5), (6, .int v6), (7, .int v7), (8, .ref q56), (9, .int v9), (10, .int v10)] X dX0_ledger_143 rfl (by decide) rfl ?_
    refine v_iload 147 X 4 dX0_ledger_145 rfl rfl ?_
    refine v_iload 149 X 0 dX0_ledger_147 rfl rfl ?_
    refine v_mmax 152 X q1031 (Nat.le_of_ble_eq_true rfl) (Nat.le_of_ble_eq_true rfl) (by exact hcb) (by exact hsb) dX0_ledger_149 rfl ?_
    refine v_istore 154 [(6, .int (if v6 < z142 then z142 else v6)), (11, .int z142), (2, .int v2), (3, .ref q50_6), (5, .int v5), (7, .int v7), (8, .ref q56), (9, .int v9), (10, .int v10)] X dX0_ledger_152 rfl (by decide) rfl ?_
    refine v_iload 156 X 5 dX0_ledger_154 rfl rfl ?_
    refine v_iload 158 X 1 dX0_ledger_156 rfl rfl ?_
    refine v_iload 160 X 1 dX0_ledger_158 rfl rfl ?_
    refine v_imul 161 X dX0_ledger_160 rfl ?_
    refine v_iadd 162 X dX0_ledger_161 rfl ?_
    refine v_istore 164 [(7, .int (v7 + (z142 * z142))), (6, .int (if v6 < z142 then z142 else v6)), (11, .int z142), (2, .int v2), (3, .ref q50_6), (5, .int v5), (8, .ref q56), (9, .int v9), (10, .int v10)] X dX0_ledger_162 rfl (by decide) rfl ?_
    refine v_iinc (v := (v10 + 1)) 167 [(10, .int (v10 + 1)), (7, .int (v7 + (z142 * z142))), (6, .int (if v6 < z142 then z142 else v6)), (11, .int z142), (2, .int v2), (3, .ref q50_6), (5, .int v5), (8, .ref q56), (9, .int v9)] X 8 dX0_ledger_164 rfl rfl (by rfl) (by decide) rfl ?_
    refine v_goto 131 X dX0_ledger_167 (by decide) ?_
    obtain rfl := Option.some.inj hF
    exact v_lv [4, 5, 6, 2, 1, 7, 8, 0] rfl (hI _ rfl)
theorem w_X0_ledger_74 (X : CX p s m args meth c D A cX0_ledger 12 "DyeLattice") (hAm : AMB D A s) {q50_6 : Nat} {q56 : Nat} {cb sb : Nat} (hcb : cb ≤ rmX0_ledger.cells) (hsb : sb ≤ rmX0_ledger.slots) (v2 : Int32) (v7 : Int32) (z50 : (Nat → Int32)) : ∀ (fu : Nat) (x : Int32 × Int32 × (Nat → Int32)) (o : (Int32 × (Nat → Int32))), loopN (fun x => C_ledger_74 v7 n z50 x.1 x.2.1 x.2.2) fu x = some o → (V p l e rmX0_ledger s m args below meth c D A 12 Q ([(a0, .inr (0, [.ref b0, .ref hq, .ref tx]))] ++ LW D b0 b1 b2 b3 b4 b5 n n4 cols rows kd thr bt tm rea gr vl so dy cg ++ [(q50_6, .inl (D.1 100, n, .inl z50)), (q56, .inl (D.1 100, n, .inl o.2))]) cb sb 113 [(2, .int v2), (3, .ref q50_6), (4, .ref q56), (5, .int o.1)] []) → V p l e rmX0_ledger s m args below meth c D A 12 Q ([(a0, .inr (0, [.ref b0, .ref hq, .ref tx]))] ++ LW D b0 b1 b2 b3 b4 b5 n n4 cols rows kd thr bt tm rea gr vl so dy cg ++ [(q50_6, .inl (D.1 100, n, .inl z50)), (q56, .inl (D.1 100, n, .inl x.2.2))]) cb sb 74 [(2, .int v2), (3, .ref q50_6), (4, .ref q56), (5, .int x.1), (6, .ref q50_6), (7, .int v7), (8, .int x.2.1)] [] := by
  refine v_loop (fun (x : Int32 × Int32 × (Nat → Int32)) => V p l e rmX0_ledger s m args below meth c D A 12 Q ([(a0, .inr (0, [.ref b0, .ref hq, .ref tx]))] ++ LW D b0 b1 b2 b3 b4 b5 n n4 cols rows kd thr bt tm rea gr vl so dy cg ++ [(q50_6, .inl (D.1 100, n, .inl z50)), (q56, .inl (D.1 100, n, .inl x.2.2))]) cb sb 74 [(2, .int v2), (3, .ref q50_6), (4, .ref q56), (5, .int x.1), (6, .ref q50_6), (7, .int v7), (8, .int x.2.1)] []) (fun (o : (Int32 × (Nat → Int32))) => V p l e rmX0_ledger s m args below meth c D A 12 Q ([(a0, .inr (0, [.ref b0, .ref hq, .ref tx]))] ++ LW D b0 b1 b2 b3 b4 b5 n n4 cols rows kd thr bt tm rea gr vl so dy cg ++ [(q50_6, .inl (D.1 100, n, .inl z50)), (q56, .inl (D.1 100, n, .inl o.2))]) cb sb 113 [(2, .int v2), (3, .ref q50_6), (4, .ref q56), (5, .int o.1)] []) ?_
  rintro ⟨v5, v8, kn56⟩ r hF hI hO
  replace hF : C_ledger_74 v7 n z50 v5 v8 kn56 = some r := hF
  show V p l e rmX0_ledger s m args below meth c D A 12 Q ([(a0, .inr (0, [.ref b0, .ref hq, .ref tx]))] ++ LW D b0 b1 b2 b3 b4 b5 n n4 cols rows kd thr bt tm rea gr vl so dy cg ++ [(q50_6, .inl (D.1 100, n, .inl z50)), (q56, .inl (D.1 100, n, .inl kn56))]) cb sb 74 [(2, .int v2), (3, .ref q50_6), (4, .ref q56), (5, .int v5), (6, .ref q50_6), (7, .int v7), (8, .int v8)] []
  unfold C_ledger_74 at hF
  refine v_iload 76 X 6 dX0_ledger_74 rfl rfl ?_
  refine v_iload 78 X 5 dX0_ledger_76 rfl rfl ?_
  refine v_icmp_ge 81 113 X dX0_ledger_78 rfl (by decide) (fun h78 => ?_) (fun h78 => ?_)
  · replace hF := ifp h78 hF
    obtain rfl := Option.some.inj hF
    exact v_lv [0, 1, 2, 3] rfl ((hO _ rfl))
  · replace hF := ifn h78 hF
    refine v_aload 83 X 4 dX0_ledger_81 rfl rfl ?_
    refine v_iload 85 X 6 dX0_ledger_83 rfl rfl ?_
    obtain ⟨z85, hz85, hF⟩ := ob hF
    refine v_iald 86 X 7 hz85 rfl dX0_ledger_85 rfl ?_
    refine v_istore 88 [(9, .int z85), (2, .int v2), (3, .ref q50_6), (4, .ref q56), (5, .int v5), (6, .ref q50_6), (7, .int v7), (8, .int v8)] X dX0_ledger_86 rfl (by decide) rfl ?_
    refine v_iload 90 X 0 dX0_ledger_88 rfl rfl ?_
    refine v_bipush (v := (-9)) 92 X dX0_ledger_90 rfl kb_m9 ?_
    refine v_icmp_eq 95 107 X dX0_ledger_92 rfl (by decide) (fun h92 => ?_) (fun h92 => ?_)
    · replace hF := ifp h92 hF
      refine v_iinc (v := (v8 + 1)) 110 [(8, .int (v8 + 1)), (9, .int z85), (2, .int v2), (3, .ref q50_6), (4, .ref q56), (5, .int v5), (6, .ref q50_6), (7, .int v7)] X 7 dX0_ledger_107 rfl rfl (by rfl) (by decide) rfl ?_
      refine v_goto 74 X dX0_ledger_110 (by decide) ?_
      obtain rfl := Option.some.inj hF
      exact v_lv [2, 3, 4, 5, 6, 7, 0] rfl (hI _ rfl)
    · replace hF := ifn h92 hF
      refine v_aload 97 X 3 dX0_ledger_95 rfl rfl ?_
      refine v_iload 99 X 0 dX0_ledger_97 rfl rfl ?_
      refine v_dup2 100 X dX0_ledger_99 rfl rfl rfl ?_
      obtain ⟨z100, hz100, hF⟩ := ob hF
      refine v_iald 101 X 8 hz100 rfl dX0_ledger_100 rfl ?_
      refine v_iconst (v := 1) 102 X dX0_ledger_101 rfl ki_1 ?_
      refine v_iadd 103 X dX0_ledger_102 rfl ?_
      obtain ⟨z103, hz103, hF⟩ := ob hF
      refine v_iast 104 ([(a0, .inr (0, [.ref b0, .ref hq, .ref tx]))] ++ LW D b0 b1 b2 b3 b4 b5 n n4 cols rows kd thr bt tm rea gr vl so dy cg ++ [(q50_6, .inl (D.1 100, n, .inl z50)), (q56, .inl (D.1 100, n, .inl z103))]) X 8 hz103 rfl dX0_ledger_103 rfl rfl ?_
      refine v_iinc (v := (v5 + 1)) 107 [(5, .int (v5 + 1)), (9, .int z85), (2, .int v2), (3, .ref q50_6), (4, .ref q56), (6, .ref q50_6), (7, .int v7), (8, .int v8)] X 4 dX0_ledger_104 rfl rfl (by rfl) (by decide) rfl ?_
      refine v_iinc (v := (v8 + 1)) 110 [(8, .int (v8 + 1)), (5, .int (v5 + 1)), (9, .int z85), (2, .int v2), (3, .ref q50_6), (4, .ref q56), (6, .ref q50_6), (7, .int v7)] X 7 dX0_ledger_107 rfl rfl (by rfl) (by decide) rfl ?_
      refine v_goto 74 X dX0_ledger_110 (by decide) ?_
      obtain rfl := Option.some.inj hF
      exact v_lv [3, 4, 5, 1, 6, 7, 0] rfl (hI _ rfl)
theorem w_X0_ledger (v1 : Int32) (v2 : Int32) (r : Int32) (hF : C_ledger cols rows kd n n4 vl gr v1 v2 = some r) : CTi l yX0_ledger cX0_ledger 12 (Option.some Jvm.ClassFile.FieldType.int) rmX0_ledger D ([(a0, .inr (0, [.ref b0, .ref hq, .ref tx]))] ++ LW D b0 b1 b2 b3 b4 b5 n n4 cols rows kd thr bt tm rea gr vl so dy cg) [.ref a0, .int v1, .int v2] (AMB D) (fun r1 u => r1 = r ∧ u = ([(a0, .inr (0, [.ref b0, .ref hq, .ref tx]))] ++ LW D b0 b1 b2 b3 b4 b5 n n4 cols rows kd thr bt tm rea gr vl so dy cg)) := by
  refine m_i (by decide) (Nat.le_of_ble_eq_true rfl) ?_
  intro p e s m args below meth c A B
  obtain ⟨X, hr, hAm, -, hnm, hnmd⟩ := B
  replace X : CX p s m args meth c D A cX0_ledger 12 "DyeLattice" := X
  refine v_lv (lv' := [(0, .ref a0), (1, .int v1), (2, .int v2)]) [0, 1, 2] rfl ?_
  unfold C_ledger at hF
  refine v_iload_n 1 X 1 dX0_ledger_0 rfl rfl rfl ?_
  refine v_iconst (v := 0) 2 X dX0_ledger_1 rfl ki_0 ?_
  refine v_bipush (v := 100) 4 X dX0_ledger_2 rfl kb_100 ?_
  obtain ⟨z4, hz4, hF⟩ := ob hF
  refine v_mSi 7 X 3 [.int v1, .int 0, .int 100] (w_X0_isBetween ([(a0, .inr (0, [.ref b0, .ref hq, .ref tx]))] ++ LW D b0 b1 b2 b3 b4 b5 n n4 cols rows kd thr bt tm rea gr vl so dy cg) v1 0 100 _ hz4) q260 q261 q84 q262 hdX0_isBetween pass_no ⟨rfl, rfl⟩ ⟨Nat.le_of_ble_eq_true rfl, Nat.le_of_ble_eq_true rfl⟩ ⟨(Nat.le_of_ble_eq_true rfl), (Nat.le_of_ble_eq_true rfl)⟩ rfl rfl (Nat.le_of_ble_eq_true rfl) dX0_ledger_4 rfl ?_
  refine v_if_eq 10 19 X dX0_ledger_7 rfl (by decide) (fun h7 => ?_) (fun h7 => ?_)
  · replace hF := ifp h7 hF
    refine v_iconst (v := (-1)) 20 X dX0_ledger_19 rfl ki_m1 ?_
    obtain rfl := Option.some.inj hF
    exact v_iret X hr ⟨rfl, rfl⟩ (Nat.le_of_ble_eq_true rfl) (Nat.le_of_ble_eq_true rfl) dX0_ledger_20
  · replace hF := ifn h7 hF
    refine v_iload_n 11 X 2 dX0_ledger_10 rfl rfl rfl ?_
    refine v_iconst (v := 0) 12 X dX0_ledger_11 rfl ki_0 ?_
    refine v_iconst (v := 4) 13 X dX0_ledger_12 rfl ki_4 ?_
    obtain ⟨z13, hz13, hF⟩ := ob hF
    refine v_mSi 16 X 3 [.int v2, .int 0, .int 4] (w_X0_isBetween ([(a0, .inr (0, [.ref b0, .ref hq, .ref tx]))] ++ LW D b0 b1 b2 b3 b4 b5 n n4 cols rows kd thr bt tm rea gr vl so dy cg) v2 0 4 _ hz13) q260 q261 q84 q262 hdX0_isBetween pass_no ⟨rfl, rfl⟩ ⟨Nat.le_of_ble_eq_true rfl, Nat.le_of_ble_eq_true rfl⟩ ⟨(Nat.le_of_ble_eq_true rfl), (Nat.le_of_ble_eq_true rfl)⟩ rfl rfl (Nat.le_of_ble_eq_true rfl) dX0_ledger_13 rfl ?_
    refine v_if_ne 19 21 X dX0_ledger_16 rfl (by decide) (fun h16 => ?_) (fun h16 => ?_)
    · replace hF := ifn h16 hF
      refine v_iload_n 22 X 2 dX0_ledger_21 rfl rfl rfl ?_
      refine v_iconst (v := 4) 23 X dX0_ledger_22 rfl ki_4 ?_
      refine v_icmp_ne 26 45 X dX0_ledger_23 rfl (by decide) (fun h23 => ?_) (fun h23 => ?_)
      · replace hF := ifn h23 hF
        refine v_aload_n 46 X 0 dX0_ledger_45 rfl rfl rfl ?_
        refine v_get 49 X in_X0 0 0 rfl rfl (by decide) q245 rfl rfl dX0_ledger_46 rfl ?_
        refine v_iload_n 50 X 1 dX0_ledger_49 rfl rfl rfl ?_
        obtain ⟨z50, hz50, hF⟩ := ob hF
        refine vc_Vr (wr := ([(a0, .inr (0, [.ref b0, .ref hq, .ref tx]))])) 53 244 13202 X 1 [.int v1] [1, 2, 3, 4, 5, 6] [0] (LW D b0 b1 b2 b3 b4 b5 n n4 cols rows kd thr bt tm rea gr vl so dy cg) rfl rfl (by decide) (by decide) (by decide) (w_X1_clusters v1 _ hz50) q1001 q1002 q1003 q85 q1004 hdX1_clusters 1 rfl rfl (pass_amb hAm) ⟨Nat.le_of_ble_eq_true rfl, Nat.le_of_ble_eq_true rfl⟩ ⟨(Nat.le_of_ble_eq_true rfl), (Nat.le_of_ble_eq_true rfl)⟩ rfl rfl (Nat.le_of_ble_eq_true rfl) dX0_ledger_50 rfl rfl rfl (fun a50 u50 e50 => ?_)
        obtain ⟨q50_6, e501, rfl⟩ := e50
        have e502 := e501.symm
        subst e502
        refine v_ws (ws' := ([(a0, .inr (0, [.ref b0, .ref hq, .ref tx]))] ++ LW D b0 b1 b2 b3 b4 b5 n n4 cols rows kd thr bt tm rea gr vl so dy cg ++ [(q50_6, .inl (D.1 100, n, .inl z50))])) [0, 1, 2, 3, 4, 5, 6, 7] (by decide) rfl ?_
        refine v_astore_n 54 [(3, .ref q50_6), (0, .ref a0), (1, .int v1), (2, .int v2)] X dX0_ledger_53 rfl rfl (by decide) rfl ?_
        refine v_aload_n 55 X 0 dX0_ledger_54 rfl rfl rfl ?_
        refine v_alen 56 X 7 0 rfl rfl rfl dX0_ledger_55 rfl ?_
        obtain ⟨z56, hz56, hF⟩ := ob hF
        refine v_newa (atype := .int) (mx := 80) (t0 := 0) (ty := .int) 58 245 13282 X (lenN_s (Nat.le_of_ble_eq_true rfl) hz56) q190 rfl rfl (fun _ h1 h2 => ra_prim rfl rfl h1 h2) rfl (Nat.le_of_ble_eq_true rfl) (Nat.le_of_ble_eq_true rfl) (Nat.le_of_ble_eq_true rfl) dX0_ledger_56 rfl rfl rfl (fun q56 => ?_)
        refine v_ws (ws' := ([(a0, .inr (0, [.ref b0, .ref hq, .ref tx]))] ++ LW D b0 b1 b2 b3 b4 b5 n n4 cols rows kd thr bt tm rea gr vl so dy cg ++ [(q50_6, .inl (D.1 100, n, .inl z50)), (q56, .inl (D.1 100, n, .inl (fun _ => 0)))])) [0, 1, 2, 3, 4, 5, 6, 7, 8] (by decide) rfl ?_
        refine v_astore 60 [(4, .ref q56), (3, .ref q50_6), (0, .ref a0), (1, .int v1), (2, .int v2)] X dX0_ledger_58 rfl (by decide) rfl ?_
        refine v_iconst (v := 0) 61 X dX0_ledger_60 rfl ki_0 ?_
        refine v_istore 63 [(5, .int 0), (4, .ref q56), (3, .ref q50_6), (0, .ref a0), (1, .int v1), (2, .int v2)] X dX0_ledger_61 rfl (by decide) rfl ?_
        refine v_aload_n 64 X 2 dX0_ledger_63 rfl rfl rfl ?_
        refine v_astore 66 [(6, .ref q50_6), (5, .int 0), (4, .ref q56), (3, .ref q50_6), (0, .ref a0), (1, .int v1), (2, .int v2)] X dX0_ledger_64 rfl (by decide) rfl ?_
        refine v_aload 68 X 0 dX0_ledger_66 rfl rfl ?_
        refine v_alen 69 X 7 0 rfl rfl rfl dX0_ledger_68 rfl ?_
        refine v_istore 71 [(7, .int (nI n)), (6, .ref q50_6), (5, .int 0), (4, .ref q56), (3, .ref q50_6), (0, .ref a0), (1, .int v1), (2, .int v2)] X dX0_ledger_69 rfl (by decide) rfl ?_
        refine v_iconst (v := 0) 72 X dX0_ledger_71 rfl ki_0 ?_
        refine v_istore 74 [(8, .int 0), (7, .int (nI n)), (6, .ref q50_6), (5, .int 0), (4, .ref q56), (3, .ref q50_6), (0, .ref a0), (1, .int v1), (2, .int v2)] X dX0_ledger_72 rfl (by decide) rfl ?_
        obtain ⟨z74, hz74, hF⟩ := ob hF
        refine v_lv [8, 5, 4, 3, 2, 1, 0] rfl (w_X0_ledger_74 X hAm (Nat.le_of_ble_eq_true rfl) (Nat.le_of_ble_eq_true rfl) v2 (nI n) z50 _ (0, 0, (fun _ => 0)) _ hz74 ?_)
        refine v_iconst (v := 0) 114 X dX0_ledger_113 rfl ki_0 ?_
        refine v_istore 116 [(6, .int 0), (2, .int v2), (3, .ref q50_6), (4, .ref q56), (5, .int z74.1)] X dX0_ledger_114 rfl (by decide) rfl ?_
        refine v_iconst (v := 0) 117 X dX0_ledger_116 rfl ki_0 ?_
        refine v_istore 119 [(7, .int 0), (6, .int 0), (2, .int v2), (3, .ref q50_6), (4, .ref q56), (5, .int z74.1)] X dX0_ledger_117 rfl (by decide) rfl ?_
        refine v_aload 121 X 4 dX0_ledger_119 rfl rfl ?_
        refine v_astore 123 [(8, .ref q56), (7, .int 0), (6, .int 0), (2, .int v2), (3, .ref q50_6), (4, .ref q56), (5, .int z74.1)] X dX0_ledger_121 rfl (by decide) rfl ?_
        refine v_aload 125 X 0 dX0_ledger_123 rfl rfl ?_
        refine v_alen 126 X 8 0 rfl rfl rfl dX0_ledger_125 rfl ?_
        refine v_istore 128 [(9, .int (nI n)), (8, .ref q56), (7, .int 0), (6, .int 0), (2, .int v2), (3, .ref q50_6), (4, .ref q56), (5, .int z74.1)] X dX0_ledger_126 rfl (by decide) rfl ?_
        refine v_iconst (v := 0) 129 X dX0_ledger_128 rfl ki_0 ?_
        refine v_istore 131 [(10, .int 0), (9, .int (nI n)), (8, .ref q56), (7, .int 0), (6, .int 0), (2, .int v2), (3, .ref q50_6), (4, .ref q56), (5, .int z74.1)] X dX0_ledger_129 rfl (by decide) rfl ?_
        obtain ⟨z131, hz131, hF⟩ := ob hF
        refine v_lv [5, 6, 8, 4, 3, 2, 1, 0] rfl (w_X0_ledger_131 X hAm (Nat.le_of_ble_eq_true rfl) (Nat.le_of_ble_eq_true rfl) v2 z74.1 (nI n) z50 z74.2 _ (0, 0, 0) _ hz131 ?_)
        refine v_iload_n 171 X 0 dX0_ledger_170 rfl rfl rfl ?_
        refine v_if_ne 174 179 X dX0_ledger_171 rfl (by decide) (fun h171 => ?_) (fun h171 => ?_)
        · replace hF := ifn h171 hF
          refine v_iload_n 180 X 0 dX0_ledger_179 rfl rfl rfl ?_
          refine v_iconst (v := 1) 181 X dX0_ledger_180 rfl ki_1 ?_
          refine v_icmp_ne 184 191 X dX0_ledger_181 rfl (by decide) (fun h181 => ?_) (fun h181 => ?_)
          · replace hF := ifn h181 hF
            refine v_iload_n 192 X 0 dX0_ledger_191 rfl rfl rfl ?_
            refine v_iconst (v := 2) 193 X dX0_ledger_192 rfl ki_2 ?_
            refine v_icmp_ne 196 201 X dX0_ledger_193 rfl (by decide) (fun h193 => ?_) (fun h193 => ?_)
            · replace hF := ifn h193 hF
              refine v_iload 203 X 4 dX0_ledger_201 rfl rfl ?_
              obtain rfl := Option.some.inj hF
              refine v_ws (ws' := ([(a0, .inr (0, [.ref b0, .ref hq, .ref tx]))] ++ LW D b0 b1 b2 b3 b4 b5 n n4 cols rows kd thr bt tm rea gr vl so dy cg)) [0, 1, 2, 3, 4, 5, 6] (by decide) rfl ?_
              exact v_iret X hr ⟨rfl, rfl⟩ (Nat.le_of_ble_eq_true rfl) (Nat.le_of_ble_eq_true rfl) dX0_ledger_203
            · replace hF := ifp h193 hF
              refine v_iload 198 X 3 dX0_ledger_196 rfl rfl ?_
              refine v_goto 203 X dX0_ledger_198 (by decide) ?_
              obtain rfl := Option.some.inj hF
              refine v_ws (ws' := ([(a0, .inr (0, [.ref b0, .ref hq, .ref tx]))] ++ LW D b0 b1 b2 b3 b4 b5 n n4 cols rows kd thr bt tm rea gr vl so dy cg)) [0, 1, 2, 3, 4, 5, 6] (by decide) rfl ?_
              exact v_iret X hr ⟨rfl, rfl⟩ (Nat.le_of_ble_eq_true rfl) (Nat.le_of_ble_eq_true rfl) dX0_ledger_203
          · replace hF := ifp h181 hF
            refine v_aload_n 185 X 1 dX0_ledger_184 rfl rfl rfl ?_
            obtain ⟨z185, hz185, hF⟩ := ob hF
            refine vc_Si (wr := ([(a0, .inr (0, [.ref b0, .ref hq, .ref tx]))] ++ LW D b0 b1 b2 b3 b4 b5 n n4 cols rows kd thr bt tm rea gr vl so dy cg ++ [(q56, .inl (D.1 100, n, .inl z74.2))])) 188 245 13282 X 1 [.ref q50_6] [7] [0, 1, 2, 3, 4, 5, 6, 8] ([(q50_6, .inl (D.1 100, n, .inl z50))]) rfl rfl (by decide) (by decide) (by decide) (w_X0_countOf _ hz185) q1028 q1029 q84 q1030 hdX0_countOf (pass_amb hAm) ⟨Nat.le_of_ble_eq_true rfl, Nat.le_of_ble_eq_true rfl⟩ ⟨(Nat.le_of_ble_eq_true rfl), (Nat.le_of_ble_eq_true rfl)⟩ rfl rfl (Nat.le_of_ble_eq_true rfl) dX0_ledger_185 rfl rfl rfl (fun r185 u185 e185 => ?_)
            obtain ⟨e1851, rfl⟩ := e185
            have e1852 := e1851.symm
            subst e1852
            refine v_ws (ws' := ([(a0, .inr (0, [.ref b0, .ref hq, .ref tx]))] ++ LW D b0 b1 b2 b3 b4 b5 n n4 cols rows kd thr bt tm rea gr vl so dy cg ++ [(q56, .inl (D.1 100, n, .inl z74.2)), (q50_6, .inl (D.1 100, n, .inl z50))])) [0, 1, 2, 3, 4, 5, 6, 7, 8] (by decide) rfl ?_
            refine v_goto 203 X dX0_ledger_188 (by decide) ?_
            obtain rfl := Option.some.inj hF
            refine v_ws (ws' := ([(a0, .inr (0, [.ref b0, .ref hq, .ref tx]))] ++ LW D b0 b1 b2 b3 b4 b5 n n4 cols rows kd thr bt tm rea gr vl so dy cg)) [0, 1, 2, 3, 4, 5, 6] (by decide) rfl ?_
            exact v_iret X hr ⟨rfl, rfl⟩ (Nat.le_of_ble_eq_true rfl) (Nat.le_of_ble_eq_true rfl) dX0_ledger_203
        · replace hF := ifp h171 hF
          refine v_iload 176 X 2 dX0_ledger_174 rfl rfl ?_
          refine v_goto 203 X dX0_ledger_176 (by decide) ?_
          obtain rfl := Option.some.inj hF
          refine v_ws (ws' := ([(a0, .inr (0, [.ref b0, .ref hq, .ref tx]))] ++ LW D b0 b1 b2 b3 b4 b5 n n4 cols rows kd thr bt tm rea gr vl so dy cg)) [0, 1, 2, 3, 4, 5, 6] (by decide) rfl ?_
          exact v_iret X hr ⟨rfl, rfl⟩ (Nat.le_of_ble_eq_true rfl) (Nat.le_of_ble_eq_true rfl) dX0_ledger_203
      · replace hF := ifp h23 hF
        refine v_aload_n 27 X 0 dX0_ledger_26 rfl rfl rfl ?_
        refine v_get 30 X in_X0 0 0 rfl rfl (by decide) q245 rfl rfl dX0_ledger_27 rfl ?_
        refine v_iload_n 31 X 1 dX0_ledger_30 rfl rfl rfl ?_
        refine v_bipush (v := (-9)) 33 X dX0_ledger_31 rfl kb_m9 ?_
        obtain ⟨z33, hz33, hF⟩ := ob hF
        refine vc_Vi (wr := ([(a0, .inr (0, [.ref b0, .ref hq, .ref tx]))])) 36 4 164 X 2 [.int v1, .int (-9)] [1, 2, 3, 4, 5, 6] [0] (LW D b0 b1 b2 b3 b4 b5 n n4 cols rows kd thr bt tm rea gr vl so dy cg) rfl rfl (by decide) (by decide) (by decide) (w_X1_spans v1 (-9) _ hz33) q1099 q1100 q1101 q85 q1102 hdX1_spans 1 rfl rfl (pass_amb hAm) ⟨Nat.le_of_ble_eq_true rfl, Nat.le_of_ble_eq_true rfl⟩ ⟨(Nat.le_of_ble_eq_true rfl), (Nat.le_of_ble_eq_true rfl)⟩ rfl rfl (Nat.le_of_ble_eq_true rfl) dX0_ledger_33 rfl rfl rfl (fun r33 u33 e33 => ?_)
        obtain ⟨e331, rfl⟩ := e33
        have e332 := e331.symm
        subst e332
        refine v_ws (ws' := ([(a0, .inr (0, [.ref b0, .ref hq, .ref tx]))] ++ LW D b0 b1 b2 b3 b4 b5 n n4 cols rows kd thr bt tm rea gr vl so dy cg)) [0, 1, 2, 3, 4, 5, 6] (by decide) rfl ?_
        refine v_if_eq 39 43 X dX0_ledger_36 rfl (by decide) (fun h36 => ?_) (fun h36 => ?_)
        · replace hF := ifp h36 hF
          refine v_iconst (v := 0) 44 X dX0_ledger_43 rfl ki_0 ?_
          obtain rfl := Option.some.inj hF
          exact v_iret X hr ⟨rfl, rfl⟩ (Nat.le_of_ble_eq_true rfl) (Nat.le_of_ble_eq_true rfl) dX0_ledger_44
        · replace hF := ifn h36 hF
          refine v_iconst (v := 1) 40 X dX0_ledger_39 rfl ki_1 ?_
          refine v_goto 44 X dX0_ledger_40 (by decide) ?_
          obtain rfl := Option.some.inj hF
          exact v_iret X hr ⟨rfl, rfl⟩ (Nat.le_of_ble_eq_true rfl) (Nat.le_of_ble_eq_true rfl) dX0_ledger_44
    · replace hF := ifp h16 hF
      refine v_iconst (v := (-1)) 20 X dX0_ledger_19 rfl ki_m1 ?_
      obtain rfl := Option.some.inj hF
      exact v_iret X hr ⟨rfl, rfl⟩ (Nat.le_of_ble_eq_true rfl) (Nat.le_of_ble_eq_true rfl) dX0_ledger_20
theorem w_X0_threshold (r : Int32) (hF : C_threshold cols rows kd n n4 vl gr = some r) : CTi l yX0_threshold cX0_threshold 1 (Option.some Jvm.ClassFile.FieldType.int) rmX0_threshold D ([(a0, .inr (0, [.ref b0, .ref hq, .ref tx]))] ++ LW D b0 b1 b2 b3 b4 b5 n n4 cols rows kd thr bt tm rea gr vl so dy cg) [.ref a0] (AMB D) (fun r1 u => r1 = r ∧ u = ([(a0, .inr (0, [.ref b0, .ref hq, .ref tx]))] ++ LW D b0 b1 b2 b3 b4 b5 n n4 cols rows kd thr bt tm rea gr vl so dy cg)) := by
  refine m_i (by decide) (Nat.le_of_ble_eq_true rfl) ?_
  intro p e s m args below meth c A B
  obtain ⟨X, hr, hAm, -, hnm, hnmd⟩ := B
  replace X : CX p s m args meth c D A cX0_threshold 1 "DyeLattice" := X
  refine v_lv (lv' := [(0, .ref a0)]) [0] rfl ?_
  unfold C_threshold at hF
  refine v_aload_n 1 X 0 dX0_threshold_0 rfl rfl rfl ?_
  refine v_get 4 X in_X0 0 0 rfl rfl (by decide) q245 rfl rfl dX0_threshold_1 rfl ?_
  obtain ⟨z4, hz4, hF⟩ := ob hF
  refine vc_Vi (wr := ([(a0, .inr (0, [.ref b0, .ref hq, .ref tx]))])) 7 37 1477 X 0 [] [1, 2, 3, 4, 5, 6] [0] (LW D b0 b1 b2 b3 b4 b5 n n4 cols rows kd thr bt tm rea gr vl so dy cg) rfl rfl (by decide) (by decide) (by decide) (w_X1_spanningThreshold _ hz4) q1113 q1114 q1115 q85 q1116 hdX1_spanningThreshold 1 rfl rfl (pass_amb hAm) ⟨Nat.le_of_ble_eq_true rfl, Nat.le_of_ble_eq_true rfl⟩ ⟨(Nat.le_of_ble_eq_true rfl), (Nat.le_of_ble_eq_true rfl)⟩ rfl rfl (Nat.le_of_ble_eq_true rfl) dX0_threshold_4 rfl rfl rfl (fun r4 u4 e4 => ?_)
  obtain ⟨e41, rfl⟩ := e4
  have e42 := e41.symm
  subst e42
  refine v_ws (ws' := ([(a0, .inr (0, [.ref b0, .ref hq, .ref tx]))] ++ LW D b0 b1 b2 b3 b4 b5 n n4 cols rows kd thr bt tm rea gr vl so dy cg)) [0, 1, 2, 3, 4, 5, 6] (by decide) rfl ?_
  obtain rfl := Option.some.inj hF
  exact v_iret X hr ⟨rfl, rfl⟩ (Nat.le_of_ble_eq_true rfl) (Nat.le_of_ble_eq_true rfl) dX0_threshold_7
theorem w_X0_arrival_31 (X : CX p s m args meth c D A cX0_arrival 6 "DyeLattice") (hAm : AMB D A s) {q24_11 : Nat} {q24_6 : Nat} {q24_7 : Nat} {q24_8 : Nat} {q24_9 : Nat} (v1 : Int32) (v2 : Int32) (z24 : Int32 × Int32 × Nat × Int32 × Int32 × Int32 × Int32 × Nat × (Nat → Int32) × Nat × (Nat → Nat) × (Nat → Int32) × (Nat → Int32) × (Nat → Int32)) : ∀ (fu cb sb : Nat) (x : Int32 × Int32 × (Nat → Int32) × (Nat → Int32)) (o : (Int32 × Int32 × (Nat → Int32) × (Nat → Int32))), cb + fu * 1 ≤ rmX0_arrival.cells → sb + fu * 80 ≤ rmX0_arrival.slots → loopN (fun x => C_arrival_31 v1 v2 z24 x.1 x.2.1 x.2.2.1 x.2.2.2) fu x = some o → (∀ qc24_10 : Nat, V p l e rmX0_arrival s m args below meth c D A 6 Q ([(a0, .inr (0, [.ref b0, .ref hq, .ref tx]))] ++ LW D b0 b1 b2 b3 b4 b5 n n4 cols rows kd thr bt tm rea gr vl so dy cg ++ LW D q24_6 q24_7 q24_8 q24_9 qc24_10 q24_11 z24.2.2.2.2.2.2.2.1 z24.2.2.2.2.2.2.2.2.2.1 z24.1 z24.2.1 z24.2.2.1 z24.2.2.2.1 z24.2.2.2.2.1 o.2.1 z24.2.2.2.2.2.2.1 z24.2.2.2.2.2.2.2.2.1 z24.2.2.2.2.2.2.2.2.2.2.1 z24.2.2.2.2.2.2.2.2.2.2.2.1 o.2.2.1 o.2.2.2) (cb + fu * 1) (sb + fu * 80) 63 [(1, .int v1), (2, .int v2), (3, .ref q24_6), (4, .int o.1)] []) → ∀ qc24_10 : Nat, V p l e rmX0_arrival s m args below meth c D A 6 Q ([(a0, .inr (0, [.ref b0, .ref hq, .ref tx]))] ++ LW D b0 b1 b2 b3 b4 b5 n n4 cols rows kd thr bt tm rea gr vl so dy cg ++ LW D q24_6 q24_7 q24_8 q24_9 qc24_10 q24_11 z24.2.2.2.2.2.2.2.1 z24.2.2.2.2.2.2.2.2.2.1 z24.1 z24.2.1 z24.2.2.1 z24.2.2.2.1 z24.2.2.2.2.1 x.2.1 z24.2.2.2.2.2.2.1 z24.2.2.2.2.2.2.2.2.1 z24.2.2.2.2.2.2.2.2.2.2.1 z24.2.2.2.2.2.2.2.2.2.2.2.1 x.2.2.1 x.2.2.2) cb sb 31 [(1, .int v1), (2, .int v2), (3, .ref q24_6), (4, .int x.1)] [] := by
  refine v_loopA 1 80 rmX0_arrival.cells rmX0_arrival.slots (fun cb sb (x : Int32 × Int32 × (Nat → Int32) × (Nat → Int32)) => ∀ qc24_10 : Nat, V p l e rmX0_arrival s m args below meth c D A 6 Q ([(a0, .inr (0, [.ref b0, .ref hq, .ref tx]))] ++ LW D b0 b1 b2 b3 b4 b5 n n4 cols rows kd thr bt tm rea gr vl so dy cg ++ LW D q24_6 q24_7 q24_8 q24_9 qc24_10 q24_11 z24.2.2.2.2.2.2.2.1 z24.2.2.2.2.2.2.2.2.2.1 z24.1 z24.2.1 z24.2.2.1 z24.2.2.2.1 z24.2.2.2.2.1 x.2.1 z24.2.2.2.2.2.2.1 z24.2.2.2.2.2.2.2.2.1 z24.2.2.2.2.2.2.2.2.2.2.1 z24.2.2.2.2.2.2.2.2.2.2.2.1 x.2.2.1 x.2.2.2) cb sb 31 [(1, .int v1), (2, .int v2), (3, .ref q24_6), (4, .int x.1)] []) (fun cb sb (o : (Int32 × Int32 × (Nat → Int32) × (Nat → Int32))) => ∀ qc24_10 : Nat, V p l e rmX0_arrival s m args below meth c D A 6 Q ([(a0, .inr (0, [.ref b0, .ref hq, .ref tx]))] ++ LW D b0 b1 b2 b3 b4 b5 n n4 cols rows kd thr bt tm rea gr vl so dy cg ++ LW D q24_6 q24_7 q24_8 q24_9 qc24_10 q24_11 z24.2.2.2.2.2.2.2.1 z24.2.2.2.2.2.2.2.2.2.1 z24.1 z24.2.1 z24.2.2.1 z24.2.2.2.1 z24.2.2.2.2.1 o.2.1 z24.2.2.2.2.2.2.1 z24.2.2.2.2.2.2.2.2.1 z24.2.2.2.2.2.2.2.2.2.2.1 z24.2.2.2.2.2.2.2.2.2.2.2.1 o.2.2.1 o.2.2.2) cb sb 63 [(1, .int v1), (2, .int v2), (3, .ref q24_6), (4, .int o.1)] []) (fun c0 s0 c1 s1 o hc hs h qc24_10 => v_cs c1 s1 hc hs (h qc24_10)) ?_
  rintro cb sb ⟨v4, f5_c24_6, kc24_10, kc24_11⟩ r hcb hsb hF hI hO
  replace hF : C_arrival_31 v1 v2 z24 v4 f5_c24_6 kc24_10 kc24_11 = some r := hF
  show ∀ qc24_10 : Nat, V p l e rmX0_arrival s m args below meth c D A 6 Q ([(a0, .inr (0, [.ref b0, .ref hq, .ref tx]))] ++ LW D b0 b1 b2 b3 b4 b5 n n4 cols rows kd thr bt tm rea gr vl so dy cg ++ LW D q24_6 q24_7 q24_8 q24_9 qc24_10 q24_11 z24.2.2.2.2.2.2.2.1 z24.2.2.2.2.2.2.2.2.2.1 z24.1 z24.2.1 z24.2.2.1 z24.2.2.2.1 z24.2.2.2.2.1 f5_c24_6 z24.2.2.2.2.2.2.1 z24.2.2.2.2.2.2.2.2.1 z24.2.2.2.2.2.2.2.2.2.2.1 z24.2.2.2.2.2.2.2.2.2.2.2.1 kc24_10 kc24_11) cb sb 31 [(1, .int v1), (2, .int v2), (3, .ref q24_6), (4, .int v4)] []
  intro qc24_10
  unfold C_arrival_31 at hF
  refine v_aload_n 32 X 2 dX0_arrival_31 rfl rfl rfl ?_
  refine v_getN 35 X hAm in_X1 7 10 rfl rfl (by decide) q162 rfl rfl dX0_arrival_32 rfl ?_
  refine v_iload_n 36 X 1 dX0_arrival_35 rfl rfl rfl ?_
  obtain ⟨z36, hz36, hF⟩ := ob hF
  refine v_iald 37 X 11 hz36 rfl dX0_arrival_36 rfl ?_
  refine v_iload_n 38 X 0 dX0_arrival_37 rfl rfl rfl ?_
  refine v_ishr 39 X dX0_arrival_38 rfl ?_
  refine v_iconst (v := 1) 40 X dX0_arrival_39 rfl ki_1 ?_
  refine v_iand 41 X dX0_arrival_40 rfl ?_
  refine v_if_ne 44 63 X dX0_arrival_41 rfl (by decide) (fun h41 => ?_) (fun h41 => ?_)
  · replace hF := ifn h41 hF
    refine v_cs (cb + 1) (sb + 80) (by omega) (by omega) ?_
    obtain rfl := Option.some.inj hF
    exact v_lv [0, 1, 2, 3] rfl ((hO _ rfl) qc24_10)
  · replace hF := ifp h41 hF
    refine v_iload 46 X 3 dX0_arrival_44 rfl rfl ?_
    refine v_bipush (v := 60) 48 X dX0_arrival_46 rfl kb_60 ?_
    refine v_icmp_ge 51 63 X dX0_arrival_48 rfl (by decide) (fun h48 => ?_) (fun h48 => ?_)
    · replace hF := ifp h48 hF
      refine v_cs (cb + 1) (sb + 80) (by omega) (by omega) ?_
      obtain rfl := Option.some.inj hF
      exact v_lv [0, 1, 2, 3] rfl ((hO _ rfl) qc24_10)
    · replace hF := ifn h48 hF
      refine v_aload_n 52 X 2 dX0_arrival_51 rfl rfl rfl ?_
      obtain ⟨z52, hz52, hF⟩ := ob hF
      refine vc_Vi (wr := ([(a0, .inr (0, [.ref b0, .ref hq, .ref tx]))] ++ LW D b0 b1 b2 b3 b4 b5 n n4 cols rows kd thr bt tm rea gr vl so dy cg)) 55 (cb + 1) (sb + 80) X 0 [] [7, 8, 9, 10, 11, 12] [0, 1, 2, 3, 4, 5, 6] (LW D q24_6 q24_7 q24_8 q24_9 qc24_10 q24_11 z24.2.2.2.2.2.2.2.1 z24.2.2.2.2.2.2.2.2.2.1 z24.1 z24.2.1 z24.2.2.1 z24.2.2.2.1 z24.2.2.2.2.1 f5_c24_6 z24.2.2.2.2.2.2.1 z24.2.2.2.2.2.2.2.2.1 z24.2.2.2.2.2.2.2.2.2.2.1 z24.2.2.2.2.2.2.2.2.2.2.2.1 kc24_10 kc24_11) rfl rfl (by decide) (by decide) (by decide) (w_X1_step _ hz52) q931 q932 q933 q85 q934 hdX1_step 7 rfl rfl (pass_amb hAm) ⟨Nat.le_of_ble_eq_true rfl, Nat.le_of_ble_eq_true rfl⟩ ⟨(Nat.le_trans (show cb + 1 ≤ cb + 1 from by omega) hcb), (Nat.le_trans (show sb + 80 ≤ sb + 80 from by omega) hsb)⟩ rfl rfl (Nat.le_of_ble_eq_true rfl) dX0_arrival_52 rfl (by show cb + 1 = cb + 1; omega) (by show sb + 80 = sb + 80; omega) (fun r52 u52 e52 => ?_)
      obtain ⟨q52_4, e521, rfl⟩ := e52
      have e522 := e521.symm
      subst e522
      refine v_ws (ws' := ([(a0, .inr (0, [.ref b0, .ref hq, .ref tx]))] ++ LW D b0 b1 b2 b3 b4 b5 n n4 cols rows kd thr bt tm rea gr vl so dy cg ++ LW D q24_6 q24_7 q24_8 q24_9 q52_4 q24_11 z24.2.2.2.2.2.2.2.1 z24.2.2.2.2.2.2.2.2.2.1 z24.1 z24.2.1 z24.2.2.1 z24.2.2.2.1 z24.2.2.2.2.1 z52.2.1 z24.2.2.2.2.2.2.1 z24.2.2.2.2.2.2.2.2.1 z24.2.2.2.2.2.2.2.2.2.2.1 z24.2.2.2.2.2.2.2.2.2.2.2.1 z52.2.2.1 z52.2.2.2)) [0, 1, 2, 3, 4, 5, 6, 7, 8, 9, 10, 11, 12] (by decide) rfl ?_
      refine v_istore 57 [(5, .int z52.1), (1, .int v1), (2, .int v2), (3, .ref q24_6), (4, .int v4)] X dX0_arrival_55 rfl (by decide) rfl ?_
      refine v_iinc (v := (v4 + 1)) 60 [(4, .int (v4 + 1)), (5, .int z52.1), (1, .int v1), (2, .int v2), (3, .ref q24_6)] X 4 dX0_arrival_57 rfl rfl (by rfl) (by decide) rfl ?_
      refine v_goto 31 X dX0_arrival_60 (by decide) ?_
      obtain rfl := Option.some.inj hF
      exact v_lv [2, 3, 4, 0] rfl (hI _ rfl q52_4)
theorem w_X0_arrival (v1 : Int32) (v2 : Int32) (r : Int32) (hF : C_arrival cols rows thr bt tm rea kd n n4 vl gr so dy cg v1 v2 = some r) : CTi l yX0_arrival cX0_arrival 6 (Option.some Jvm.ClassFile.FieldType.int) rmX0_arrival D ([(a0, .inr (0, [.ref b0, .ref hq, .ref tx]))] ++ LW D b0 b1 b2 b3 b4 b5 n n4 cols rows kd thr bt tm rea gr vl so dy cg) [.ref a0, .int v1, .int v2] (AMB D) (fun r1 u => r1 = r ∧ u = ([(a0, .inr (0, [.ref b0, .ref hq, .ref tx]))] ++ LW D b0 b1 b2 b3 b4 b5 n n4 cols rows kd thr bt tm rea gr vl so dy cg)) := by
  refine m_i (by decide) (Nat.le_of_ble_eq_true rfl) ?_
  intro p e s m args below meth c A B
  obtain ⟨X, hr, hAm, -, hnm, hnmd⟩ := B
  replace X : CX p s m args meth c D A cX0_arrival 6 "DyeLattice" := X
  refine v_lv (lv' := [(0, .ref a0), (1, .int v1), (2, .int v2)]) [0, 1, 2] rfl ?_
  unfold C_arrival at hF
  refine v_iload_n 1 X 1 dX0_arrival_0 rfl rfl rfl ?_
  obtain ⟨z1, hz1, hF⟩ := ob hF
  refine v_mSi 4 X 1 [.int v1] (w_X0_isDye ([(a0, .inr (0, [.ref b0, .ref hq, .ref tx]))] ++ LW D b0 b1 b2 b3 b4 b5 n n4 cols rows kd thr bt tm rea gr vl so dy cg) v1 _ hz1) q469 q470 q84 q471 hdX0_isDye pass_no ⟨rfl, rfl⟩ ⟨Nat.le_of_ble_eq_true rfl, Nat.le_of_ble_eq_true rfl⟩ ⟨(Nat.le_of_ble_eq_true rfl), (Nat.le_of_ble_eq_true rfl)⟩ rfl rfl (Nat.le_of_ble_eq_true rfl) dX0_arrival_1 rfl ?_
  refine v_if_eq 7 18 X dX0_arrival_4 rfl (by decide) (fun h4 => ?_) (fun h4 => ?_)
  · replace hF := ifp h4 hF
    refine v_iconst (v := (-1)) 19 X dX0_arrival_18 rfl ki_m1 ?_
    obtain rfl := Option.some.inj hF
    exact v_iret X hr ⟨rfl, rfl⟩ (Nat.le_of_ble_eq_true rfl) (Nat.le_of_ble_eq_true rfl) dX0_arrival_19
  · replace hF := ifn h4 hF
    refine v_aload_n 8 X 0 dX0_arrival_7 rfl rfl rfl ?_
    refine v_get 11 X in_X0 0 0 rfl rfl (by decide) q245 rfl rfl dX0_arrival_8 rfl ?_
    refine v_iload_n 12 X 2 dX0_arrival_11 rfl rfl rfl ?_
    obtain ⟨z12, hz12, hF⟩ := ob hF
    refine vc_Vi (wr := ([(a0, .inr (0, [.ref b0, .ref hq, .ref tx]))])) 15 0 0 X 1 [.int v2] [1, 2, 3, 4, 5, 6] [0] (LW D b0 b1 b2 b3 b4 b5 n n4 cols rows kd thr bt tm rea gr vl so dy cg) rfl rfl (by decide) (by decide) (by decide) (w_X1_isCell v2 _ hz12) q414 q391 q392 q85 q393 hdX1_isCell 1 rfl rfl (pass_amb hAm) ⟨Nat.le_of_ble_eq_true rfl, Nat.le_of_ble_eq_true rfl⟩ ⟨(Nat.le_of_ble_eq_true rfl), (Nat.le_of_ble_eq_true rfl)⟩ rfl rfl (Nat.le_of_ble_eq_true rfl) dX0_arrival_12 rfl rfl rfl (fun r12 u12 e12 => ?_)
    obtain ⟨e121, rfl⟩ := e12
    have e122 := e121.symm
    subst e122
    refine v_ws (ws' := ([(a0, .inr (0, [.ref b0, .ref hq, .ref tx]))] ++ LW D b0 b1 b2 b3 b4 b5 n n4 cols rows kd thr bt tm rea gr vl so dy cg)) [0, 1, 2, 3, 4, 5, 6] (by decide) rfl ?_
    refine v_if_ne 18 20 X dX0_arrival_15 rfl (by decide) (fun h15 => ?_) (fun h15 => ?_)
    · replace hF := ifn h15 hF
      refine v_aload_n 21 X 0 dX0_arrival_20 rfl rfl rfl ?_
      refine v_get 24 X in_X0 0 0 rfl rfl (by decide) q245 rfl rfl dX0_arrival_21 rfl ?_
      obtain ⟨z24, hz24, hF⟩ := ob hF
      refine vc_Vr (wr := ([(a0, .inr (0, [.ref b0, .ref hq, .ref tx]))])) 27 6 652 X 0 [] [1, 2, 3, 4, 5, 6] [0] (LW D b0 b1 b2 b3 b4 b5 n n4 cols rows kd thr bt tm rea gr vl so dy cg) rfl rfl (by decide) (by decide) (by decide) (w_X1_copy _ hz24) q356 q357 q358 q85 q359 hdX1_copy 1 rfl rfl (pass_amb hAm) ⟨Nat.le_of_ble_eq_true rfl, Nat.le_of_ble_eq_true rfl⟩ ⟨(Nat.le_of_ble_eq_true rfl), (Nat.le_of_ble_eq_true rfl)⟩ rfl rfl (Nat.le_of_ble_eq_true rfl) dX0_arrival_24 rfl rfl rfl (fun a24 u24 e24 => ?_)
      obtain ⟨q24_6, q24_7, q24_8, q24_9, q24_10, q24_11, e241, rfl⟩ := e24
      have e242 := e241.symm
      subst e242
      refine v_ws (ws' := ([(a0, .inr (0, [.ref b0, .ref hq, .ref tx]))] ++ LW D b0 b1 b2 b3 b4 b5 n n4 cols rows kd thr bt tm rea gr vl so dy cg ++ LW D q24_6 q24_7 q24_8 q24_9 q24_10 q24_11 z24.2.2.2.2.2.2.2.1 z24.2.2.2.2.2.2.2.2.2.1 z24.1 z24.2.1 z24.2.2.1 z24.2.2.2.1 z24.2.2.2.2.1 z24.2.2.2.2.2.1 z24.2.2.2.2.2.2.1 z24.2.2.2.2.2.2.2.2.1 z24.2.2.2.2.2.2.2.2.2.2.1 z24.2.2.2.2.2.2.2.2.2.2.2.1 z24.2.2.2.2.2.2.2.2.2.2.2.2.1 z24.2.2.2.2.2.2.2.2.2.2.2.2.2)) [0, 1, 2, 3, 4, 5, 6, 7, 8, 9, 10, 11, 12] (by decide) rfl ?_
      refine v_astore_n 28 [(3, .ref q24_6), (0, .ref a0), (1, .int v1), (2, .int v2)] X dX0_arrival_27 rfl rfl (by decide) rfl ?_
      refine v_iconst (v := 0) 29 X dX0_arrival_28 rfl ki_0 ?_
      refine v_istore 31 [(4, .int 0), (3, .ref q24_6), (0, .ref a0), (1, .int v1), (2, .int v2)] X dX0_arrival_29 rfl (by decide) rfl ?_
      obtain ⟨z31, hz31, hF⟩ := ob hF
      refine v_lv [3, 4, 1, 0] rfl (w_X0_arrival_31 X hAm v1 v2 z24 61 6 652 (0, z24.2.2.2.2.2.1, z24.2.2.2.2.2.2.2.2.2.2.2.2.1, z24.2.2.2.2.2.2.2.2.2.2.2.2.2) _ (Nat.le_of_ble_eq_true rfl) (Nat.le_of_ble_eq_true rfl) hz31 (fun qc24_1031 => ?_) q24_10)
      refine v_c0 67 5532 rfl rfl ?_
      refine v_aload_n 64 X 2 dX0_arrival_63 rfl rfl rfl ?_
      refine v_getN 67 X hAm in_X1 7 10 rfl rfl (by decide) q162 rfl rfl dX0_arrival_64 rfl ?_
      refine v_iload_n 68 X 1 dX0_arrival_67 rfl rfl rfl ?_
      obtain ⟨z68, hz68, hF⟩ := ob hF
      refine v_iald 69 X 11 hz68 rfl dX0_arrival_68 rfl ?_
      refine v_iload_n 70 X 0 dX0_arrival_69 rfl rfl rfl ?_
      refine v_ishr 71 X dX0_arrival_70 rfl ?_
      refine v_iconst (v := 1) 72 X dX0_arrival_71 rfl ki_1 ?_
      refine v_iand 73 X dX0_arrival_72 rfl ?_
      refine v_iconst (v := 1) 74 X dX0_arrival_73 rfl ki_1 ?_
      refine v_icmp_ne 77 82 X dX0_arrival_74 rfl (by decide) (fun h74 => ?_) (fun h74 => ?_)
      · replace hF := ifn h74 hF
        refine v_bipush (v := (-9)) 84 X dX0_arrival_82 rfl kb_m9 ?_
        obtain rfl := Option.some.inj hF
        refine v_ws (ws' := ([(a0, .inr (0, [.ref b0, .ref hq, .ref tx]))] ++ LW D b0 b1 b2 b3 b4 b5 n n4 cols rows kd thr bt tm rea gr vl so dy cg)) [0, 1, 2, 3, 4, 5, 6] (by decide) rfl ?_
        exact v_iret X hr ⟨rfl, rfl⟩ (Nat.le_of_ble_eq_true rfl) (Nat.le_of_ble_eq_true rfl) dX0_arrival_84
      · replace hF := ifp h74 hF
        refine v_iload 79 X 3 dX0_arrival_77 rfl rfl ?_
        refine v_goto 84 X dX0_arrival_79 (by decide) ?_
        obtain rfl := Option.some.inj hF
        refine v_ws (ws' := ([(a0, .inr (0, [.ref b0, .ref hq, .ref tx]))] ++ LW D b0 b1 b2 b3 b4 b5 n n4 cols rows kd thr bt tm rea gr vl so dy cg)) [0, 1, 2, 3, 4, 5, 6] (by decide) rfl ?_
        exact v_iret X hr ⟨rfl, rfl⟩ (Nat.le_of_ble_eq_true rfl) (Nat.le_of_ble_eq_true rfl) dX0_arrival_84
    · replace hF := ifp h15 hF
      refine v_iconst (v := (-1)) 19 X dX0_arrival_18 rfl ki_m1 ?_
      obtain rfl := Option.some.inj hF
      exact v_iret X hr ⟨rfl, rfl⟩ (Nat.le_of_ble_eq_true rfl) (Nat.le_of_ble_eq_true rfl) dX0_arrival_19
theorem w_X0_probe_14 (X : CX p s m args meth c D A cX0_probe 6 "DyeLattice") (hAm : AMB D A s) (v1 : Int32) : ∀ (fu cb sb : Nat) (x : Int32 × Int32 × Int32) (o : ((Unit) ⊕ (Int32))), cb + fu * 4 ≤ rmX0_probe.cells → sb + fu * 164 ≤ rmX0_probe.slots → loopN (fun x => C_probe_14 v1 cols rows kd n n4 vl gr x.1 x.2.1 x.2.2) fu x = some o → ((∀ z : Unit, o = (.inl z) → V p l e rmX0_probe s m args below meth c D A 6 Q ([(a0, .inr (0, [.ref b0, .ref hq, .ref tx]))] ++ LW D b0 b1 b2 b3 b4 b5 n n4 cols rows kd thr bt tm rea gr vl so dy cg) (cb + fu * 4) (sb + fu * 164) 66 [] []) ∧ (∀ z : Int32, o = (.inr z) → V p l e rmX0_probe s m args below meth c D A 6 Q ([(a0, .inr (0, [.ref b0, .ref hq, .ref tx]))] ++ LW D b0 b1 b2 b3 b4 b5 n n4 cols rows kd thr bt tm rea gr vl so dy cg) (cb + fu * 4) (sb + fu * 164) 32 [(5, .int z)] [])) → V p l e rmX0_probe s m args below meth c D A 6 Q ([(a0, .inr (0, [.ref b0, .ref hq, .ref tx]))] ++ LW D b0 b1 b2 b3 b4 b5 n n4 cols rows kd thr bt tm rea gr vl so dy cg) cb sb 14 [(0, .ref a0), (1, .int v1), (2, .int x.1), (3, .int x.2.1), (4, .int x.2.2)] [] := by
  refine v_loopA 4 164 rmX0_probe.cells rmX0_probe.slots (fun cb sb (x : Int32 × Int32 × Int32) => V p l e rmX0_probe s m args below meth c D A 6 Q ([(a0, .inr (0, [.ref b0, .ref hq, .ref tx]))] ++ LW D b0 b1 b2 b3 b4 b5 n n4 cols rows kd thr bt tm rea gr vl so dy cg) cb sb 14 [(0, .ref a0), (1, .int v1), (2, .int x.1), (3, .int x.2.1), (4, .int x.2.2)] []) (fun cb sb (o : ((Unit) ⊕ (Int32))) => (∀ z : Unit, o = (.inl z) → V p l e rmX0_probe s m args below meth c D A 6 Q ([(a0, .inr (0, [.ref b0, .ref hq, .ref tx]))] ++ LW D b0 b1 b2 b3 b4 b5 n n4 cols rows kd thr bt tm rea gr vl so dy cg) cb sb 66 [] []) ∧ (∀ z : Int32, o = (.inr z) → V p l e rmX0_probe s m args below meth c D A 6 Q ([(a0, .inr (0, [.ref b0, .ref hq, .ref tx]))] ++ LW D b0 b1 b2 b3 b4 b5 n n4 cols rows kd thr bt tm rea gr vl so dy cg) cb sb 32 [(5, .int z)] [])) (fun c0 s0 c1 s1 o hc hs h => ⟨fun z hz => v_cs c1 s1 hc hs (h.1 z hz), fun z hz => v_cs c1 s1 hc hs (h.2 z hz)⟩) ?_
  rintro cb sb ⟨v2, v3, v4⟩ r hcb hsb hF hI hO
  replace hF : C_probe_14 v1 cols rows kd n n4 vl gr v2 v3 v4 = some r := hF
  show V p l e rmX0_probe s m args below meth c D A 6 Q ([(a0, .inr (0, [.ref b0, .ref hq, .ref tx]))] ++ LW D b0 b1 b2 b3 b4 b5 n n4 cols rows kd thr bt tm rea gr vl so dy cg) cb sb 14 [(0, .ref a0), (1, .int v1), (2, .int v2), (3, .int v3), (4, .int v4)] []
  unfold C_probe_14 at hF
  refine v_iload_n 15 X 2 dX0_probe_14 rfl rfl rfl ?_
  refine v_iload_n 16 X 3 dX0_probe_15 rfl rfl rfl ?_
  refine v_icmp_ge 19 66 X dX0_probe_16 rfl (by decide) (fun h16 => ?_) (fun h16 => ?_)
  · replace hF := ifp h16 hF
    refine v_cs (cb + 4) (sb + 164) (by omega) (by omega) ?_
    obtain rfl := Option.some.inj hF
    exact v_lv [] rfl (((hO _ rfl).1 _ rfl))
  · replace hF := ifn h16 hF
    refine v_iload_n 20 X 2 dX0_probe_19 rfl rfl rfl ?_
    refine v_iload_n 21 X 3 dX0_probe_20 rfl rfl rfl ?_
    refine v_iadd 22 X dX0_probe_21 rfl ?_
    refine v_iconst (v := 2) 23 X dX0_probe_22 rfl ki_2 ?_
    obtain ⟨z23, hz23, hF⟩ := ob hF
    refine v_idiv 24 X hz23 dX0_probe_23 rfl ?_
    refine v_istore 26 [(5, .int z23), (0, .ref a0), (1, .int v1), (2, .int v2), (3, .int v3), (4, .int v4)] X dX0_probe_24 rfl (by decide) rfl ?_
    refine v_iload 28 X 5 dX0_probe_26 rfl rfl ?_
    refine v_iload_n 29 X 2 dX0_probe_28 rfl rfl rfl ?_
    refine v_icmp_ne 32 35 X dX0_probe_29 rfl (by decide) (fun h29 => ?_) (fun h29 => ?_)
    · replace hF := ifn h29 hF
      refine v_aload_n 36 X 1 dX0_probe_35 rfl rfl rfl ?_
      refine v_get 39 X in_X0 0 0 rfl rfl (by decide) q245 rfl rfl dX0_probe_36 rfl ?_
      refine v_iload 41 X 0 dX0_probe_39 rfl rfl ?_
      refine v_bipush (v := (-9)) 43 X dX0_probe_41 rfl kb_m9 ?_
      obtain ⟨z43, hz43, hF⟩ := ob hF
      refine vc_Vi (wr := ([(a0, .inr (0, [.ref b0, .ref hq, .ref tx]))])) 46 (cb + 4) (sb + 164) X 2 [.int z23, .int (-9)] [1, 2, 3, 4, 5, 6] [0] (LW D b0 b1 b2 b3 b4 b5 n n4 cols rows kd thr bt tm rea gr vl so dy cg) rfl rfl (by decide) (by decide) (by decide) (w_X1_spans z23 (-9) _ hz43) q1099 q1100 q1101 q85 q1102 hdX1_spans 1 rfl rfl (pass_amb hAm) ⟨Nat.le_of_ble_eq_true rfl, Nat.le_of_ble_eq_true rfl⟩ ⟨(Nat.le_trans (show cb + 4 ≤ cb + 4 from by omega) hcb), (Nat.le_trans (show sb + 164 ≤ sb + 164 from by omega) hsb)⟩ rfl rfl (Nat.le_of_ble_eq_true rfl) dX0_probe_43 rfl (by show cb + 4 = cb + 4; omega) (by show sb + 164 = sb + 164; omega) (fun r43 u43 e43 => ?_)
      obtain ⟨e431, rfl⟩ := e43
      have e432 := e431.symm
      subst e432
      refine v_ws (ws' := ([(a0, .inr (0, [.ref b0, .ref hq, .ref tx]))] ++ LW D b0 b1 b2 b3 b4 b5 n n4 cols rows kd thr bt tm rea gr vl so dy cg)) [0, 1, 2, 3, 4, 5, 6] (by decide) rfl ?_
      refine v_if_eq 49 55 X dX0_probe_46 rfl (by decide) (fun h46 => ?_) (fun h46 => ?_)
      · replace hF := ifp h46 hF
        refine v_iload 57 X 0 dX0_probe_55 rfl rfl ?_
        refine v_iconst (v := 1) 58 X dX0_probe_57 rfl ki_1 ?_
        refine v_iadd 59 X dX0_probe_58 rfl ?_
        refine v_istore_n 60 [(2, .int (z23 + 1)), (5, .int z23), (0, .ref a0), (1, .int v1), (3, .int v3), (4, .int v4)] X dX0_probe_59 rfl rfl (by decide) rfl ?_
        refine v_iinc (v := (v4 + 1)) 63 [(4, .int (v4 + 1)), (2, .int (z23 + 1)), (5, .int z23), (0, .ref a0), (1, .int v1), (3, .int v3)] X 5 dX0_probe_60 rfl rfl (by rfl) (by decide) rfl ?_
        refine v_goto 14 X dX0_probe_63 (by decide) ?_
        obtain rfl := Option.some.inj hF
        exact v_lv [3, 4, 1, 5, 0] rfl (hI _ rfl)
      · replace hF := ifn h46 hF
        refine v_iload 51 X 0 dX0_probe_49 rfl rfl ?_
        refine v_istore_n 52 [(3, .int z23), (5, .int z23), (0, .ref a0), (1, .int v1), (2, .int v2), (4, .int v4)] X dX0_probe_51 rfl rfl (by decide) rfl ?_
        refine v_goto 60 X dX0_probe_52 (by decide) ?_
        refine v_iinc (v := (v4 + 1)) 63 [(4, .int (v4 + 1)), (3, .int z23), (5, .int z23), (0, .ref a0), (1, .int v1), (2, .int v2)] X 5 dX0_probe_60 rfl rfl (by rfl) (by decide) rfl ?_
        refine v_goto 14 X dX0_probe_63 (by decide) ?_
        obtain rfl := Option.some.inj hF
        exact v_lv [3, 4, 5, 1, 0] rfl (hI _ rfl)
    · replace hF := ifp h29 hF
      refine v_cs (cb + 4) (sb + 164) (by omega) (by omega) ?_
      obtain rfl := Option.some.inj hF
      exact v_lv [0] rfl (((hO _ rfl).2 _ rfl))
theorem w_X0_probe (v1 : Int32) (r : Int32) (hF : C_probe cols rows kd n n4 vl gr v1 = some r) : CTi l yX0_probe cX0_probe 6 (Option.some Jvm.ClassFile.FieldType.int) rmX0_probe D ([(a0, .inr (0, [.ref b0, .ref hq, .ref tx]))] ++ LW D b0 b1 b2 b3 b4 b5 n n4 cols rows kd thr bt tm rea gr vl so dy cg) [.ref a0, .int v1] (AMB D) (fun r1 u => r1 = r ∧ u = ([(a0, .inr (0, [.ref b0, .ref hq, .ref tx]))] ++ LW D b0 b1 b2 b3 b4 b5 n n4 cols rows kd thr bt tm rea gr vl so dy cg)) := by
  refine m_i (by decide) (Nat.le_of_ble_eq_true rfl) ?_
  intro p e s m args below meth c A B
  obtain ⟨X, hr, hAm, -, hnm, hnmd⟩ := B
  replace X : CX p s m args meth c D A cX0_probe 6 "DyeLattice" := X
  refine v_lv (lv' := [(0, .ref a0), (1, .int v1)]) [0, 1] rfl ?_
  unfold C_probe at hF
  refine v_iload_n 1 X 1 dX0_probe_0 rfl rfl rfl ?_
  refine v_if_ge 4 6 X dX0_probe_1 rfl (by decide) (fun h1 => ?_) (fun h1 => ?_)
  · replace hF := ifp h1 hF
    refine v_iconst (v := 0) 7 X dX0_probe_6 rfl ki_0 ?_
    refine v_istore_n 8 [(2, .int 0), (0, .ref a0), (1, .int v1)] X dX0_probe_7 rfl rfl (by decide) rfl ?_
    refine v_bipush (v := 100) 10 X dX0_probe_8 rfl kb_100 ?_
    refine v_istore_n 11 [(3, .int 100), (2, .int 0), (0, .ref a0), (1, .int v1)] X dX0_probe_10 rfl rfl (by decide) rfl ?_
    refine v_iconst (v := 0) 12 X dX0_probe_11 rfl ki_0 ?_
    refine v_istore 14 [(4, .int 0), (3, .int 100), (2, .int 0), (0, .ref a0), (1, .int v1)] X dX0_probe_12 rfl (by decide) rfl ?_
    obtain ⟨z14, hz14, hF⟩ := ob hF
    refine v_lv [3, 4, 2, 1, 0] rfl (w_X0_probe_14 X hAm v1 8 0 0 (0, 100, 0) _ (Nat.le_of_ble_eq_true rfl) (Nat.le_of_ble_eq_true rfl) hz14 ⟨fun y14 hy => ?_, fun y14 hy => ?_⟩)
    · subst hy
      dsimp only at hF
      refine v_c0 32 1312 rfl rfl ?_
      refine v_bipush (v := (-9)) 68 X dX0_probe_66 rfl kb_m9 ?_
      obtain rfl := Option.some.inj hF
      exact v_iret X hr ⟨rfl, rfl⟩ (Nat.le_of_ble_eq_true rfl) (Nat.le_of_ble_eq_true rfl) dX0_probe_68
    · subst hy
      dsimp only at hF
      refine v_c0 32 1312 rfl rfl ?_
      refine v_iload 34 X 0 dX0_probe_32 rfl rfl ?_
      obtain rfl := Option.some.inj hF
      exact v_iret X hr ⟨rfl, rfl⟩ (Nat.le_of_ble_eq_true rfl) (Nat.le_of_ble_eq_true rfl) dX0_probe_34
  · replace hF := ifn h1 hF
    refine v_iconst (v := (-1)) 5 X dX0_probe_4 rfl ki_m1 ?_
    obtain rfl := Option.some.inj hF
    exact v_iret X hr ⟨rfl, rfl⟩ (Nat.le_of_ble_eq_true rfl) (Nat.le_of_ble_eq_true rfl) dX0_probe_5
theorem w_X0_lambda_thresholdBetween_0 (v1 : Int32) (v2 : Int32) (v3 : Int32) (r : Int32) (hF : C_lambda_thresholdBetween_0 cols rows kd n n4 vl gr v1 v2 v3 = some r) : CTi l yX0_lambda_thresholdBetween_0 cX0_lambda_thresholdBetween_0 4 (Option.some Jvm.ClassFile.FieldType.boolean) rmX0_lambda_thresholdBetween_0 D ([(a0, .inr (0, [.ref b0, .ref hq, .ref tx]))] ++ LW D b0 b1 b2 b3 b4 b5 n n4 cols rows kd thr bt tm rea gr vl so dy cg) [.ref a0, .int v1, .int v2, .int v3] (AMB D) (fun r1 u => r1 = r ∧ u = ([(a0, .inr (0, [.ref b0, .ref hq, .ref tx]))] ++ LW D b0 b1 b2 b3 b4 b5 n n4 cols rows kd thr bt tm rea gr vl so dy cg)) := by
  refine m_i (by decide) (Nat.le_of_ble_eq_true rfl) ?_
  intro p e s m args below meth c A B
  obtain ⟨X, hr, hAm, -, hnm, hnmd⟩ := B
  replace X : CX p s m args meth c D A cX0_lambda_thresholdBetween_0 4 "DyeLattice" := X
  refine v_lv (lv' := [(0, .ref a0), (1, .int v1), (2, .int v2), (3, .int v3)]) [0, 1, 2, 3] rfl ?_
  unfold C_lambda_thresholdBetween_0 at hF
  refine v_aload_n 1 X 0 dX0_lambda_thresholdBetween_0_0 rfl rfl rfl ?_
  refine v_get 4 X in_X0 0 0 rfl rfl (by decide) q245 rfl rfl dX0_lambda_thresholdBetween_0_1 rfl ?_
  refine v_iload_n 5 X 1 dX0_lambda_thresholdBetween_0_4 rfl rfl rfl ?_
  refine v_iload_n 6 X 2 dX0_lambda_thresholdBetween_0_5 rfl rfl rfl ?_
  refine v_iload_n 7 X 3 dX0_lambda_thresholdBetween_0_6 rfl rfl rfl ?_
  obtain ⟨z7, hz7, hF⟩ := ob hF
  refine vc_Vi (wr := ([(a0, .inr (0, [.ref b0, .ref hq, .ref tx]))])) 10 4 163 X 3 [.int v1, .int v2, .int v3] [1, 2, 3, 4, 5, 6] [0] (LW D b0 b1 b2 b3 b4 b5 n n4 cols rows kd thr bt tm rea gr vl so dy cg) rfl rfl (by decide) (by decide) (by decide) (w_X1_hasWay v1 v2 v3 _ hz7) q1139 q1140 q1141 q85 q1142 hdX1_hasWay 1 rfl rfl (pass_amb hAm) ⟨Nat.le_of_ble_eq_true rfl, Nat.le_of_ble_eq_true rfl⟩ ⟨(Nat.le_of_ble_eq_true rfl), (Nat.le_of_ble_eq_true rfl)⟩ rfl rfl (Nat.le_of_ble_eq_true rfl) dX0_lambda_thresholdBetween_0_7 rfl rfl rfl (fun r7 u7 e7 => ?_)
  obtain ⟨e71, rfl⟩ := e7
  have e72 := e71.symm
  subst e72
  refine v_ws (ws' := ([(a0, .inr (0, [.ref b0, .ref hq, .ref tx]))] ++ LW D b0 b1 b2 b3 b4 b5 n n4 cols rows kd thr bt tm rea gr vl so dy cg)) [0, 1, 2, 3, 4, 5, 6] (by decide) rfl ?_
  obtain ⟨z10, hz10, hF⟩ := ob hF
  refine v_topi (zck_s hz10).1 ?_
  obtain rfl := Option.some.inj hF
  exact v_zret X hr (zck_s hz10).2.1 ⟨rfl, rfl⟩ (Nat.le_of_ble_eq_true rfl) (Nat.le_of_ble_eq_true rfl) dX0_lambda_thresholdBetween_0_10
theorem w_X1_smallest_b_19 (X : CX p s m args meth c D A cX1_smallest 5 "DyeLattice$Lattice") (hAm : AMB D A s) (hl0 : LamO (D.1 308) [.ref a0, .int k0, .int k1] t1 A s.heap) : ∀ (fu cb sb : Nat) (x : Int32 × Int32) (o : (Int32)), cb + fu * 4 ≤ rmX1_smallest_b.cells → sb + fu * 163 ≤ rmX1_smallest_b.slots → loopN (fun x => L_smallest_19 (fun x => C_lambda_thresholdBetween_0 cols rows kd n n4 vl gr k0 k1 x) x.1 x.2) fu x = some o → (V p l e rmX1_smallest_b s m args below meth c D A 5 Q ([(a0, .inr (0, [.ref b0, .ref hq, .ref tx]))] ++ LW D b0 b1 b2 b3 b4 b5 n n4 cols rows kd thr bt tm rea gr vl so dy cg) (cb + fu * 4) (sb + fu * 163) 66 [(1, .int o)] []) → V p l e rmX1_smallest_b s m args below meth c D A 5 Q ([(a0, .inr (0, [.ref b0, .ref hq, .ref tx]))] ++ LW D b0 b1 b2 b3 b4 b5 n n4 cols rows kd thr bt tm rea gr vl so dy cg) cb sb 19 [(0, .ref t1), (1, .int x.1), (2, .int x.2)] [] := by
  refine v_loopA 4 163 rmX1_smallest_b.cells rmX1_smallest_b.slots (fun cb sb (x : Int32 × Int32) => V p l e rmX1_smallest_b s m args below meth c D A 5 Q ([(a0, .inr (0, [.ref b0, .ref hq, .ref tx]))] ++ LW D b0 b1 b2 b3 b4 b5 n n4 cols rows kd thr bt tm rea gr vl so dy cg) cb sb 19 [(0, .ref t1), (1, .int x.1), (2, .int x.2)] []) (fun cb sb (o : (Int32)) => V p l e rmX1_smallest_b s m args below meth c D A 5 Q ([(a0, .inr (0, [.ref b0, .ref hq, .ref tx]))] ++ LW D b0 b1 b2 b3 b4 b5 n n4 cols rows kd thr bt tm rea gr vl so dy cg) cb sb 66 [(1, .int o)] []) (fun c0 s0 c1 s1 o hc hs h => v_cs c1 s1 hc hs (h)) ?_
  rintro cb sb ⟨v1, v2⟩ r hcb hsb hF hI hO
  replace hF : L_smallest_19 (fun x => C_lambda_thresholdBetween_0 cols rows kd n n4 vl gr k0 k1 x) v1 v2 = some r := hF
  show V p l e rmX1_smallest_b s m args below meth c D A 5 Q ([(a0, .inr (0, [.ref b0, .ref hq, .ref tx]))] ++ LW D b0 b1 b2 b3 b4 b5 n n4 cols rows kd thr bt tm rea gr vl so dy cg) cb sb 19 [(0, .ref t1), (1, .int v1), (2, .int v2)] []
  unfold L_smallest_19 at hF
  refine v_iload_n 20 X 1 dX1_smallest_19 rfl rfl rfl ?_
  refine v_iload_n 21 X 2 dX1_smallest_20 rfl rfl rfl ?_
  refine v_icmp_ge 24 66 X dX1_smallest_21 rfl (by decide) (fun h21 => ?_) (fun h21 => ?_)
  · replace hF := ifp h21 hF
    refine v_cs (cb + 4) (sb + 163) (by omega) (by omega) ?_
    obtain rfl := Option.some.inj hF
    exact v_lv [1] rfl ((hO _ rfl))
  · replace hF := ifn h21 hF
    refine v_iload_n 25 X 1 dX1_smallest_24 rfl rfl rfl ?_
    refine v_iload_n 26 X 2 dX1_smallest_25 rfl rfl rfl ?_
    refine v_iadd 27 X dX1_smallest_26 rfl ?_
    refine v_iconst (v := 2) 28 X dX1_smallest_27 rfl ki_2 ?_
    obtain ⟨z28, hz28, hF⟩ := ob hF
    refine v_idiv 29 X hz28 dX1_smallest_28 rfl ?_
    refine v_istore_n 30 [(3, .int z28), (0, .ref t1), (1, .int v1), (2, .int v2)] X dX1_smallest_29 rfl rfl (by decide) rfl ?_
    refine v_aload_n 31 X 1 dX1_smallest_30 rfl rfl rfl ?_
    refine v_iload_n 32 X 0 dX1_smallest_31 rfl rfl rfl ?_
    obtain ⟨z32, hz32, hF⟩ := ob hF
    obtain ⟨hz32, hnz32⟩ := tz_s hz32
    replace hz32 : C_lambda_thresholdBetween_0 cols rows kd n n4 vl gr k0 k1 z28 = some z32 := hz32
    refine v_icI (wr := ([] : va_W)) 37 X hAm 2 8 (by decide) (by decide) (σ := sg8) rfl rfl rfl (by decide +kernel) rfl rfl (by decide) sok8 fd8_13 hl0 (y := yX0_lambda_thresholdBetween_0) rfl rfl (by decide +kernel) [.int k0, .int k1, .int z28] [.int z28] [0, 1, 2, 3, 4, 5, 6] [] ([(a0, .inr (0, [.ref b0, .ref hq, .ref tx]))] ++ LW D b0 b1 b2 b3 b4 b5 n n4 cols rows kd thr bt tm rea gr vl so dy cg) rfl rfl (by decide) (by decide) (by decide) (w_X0_lambda_thresholdBetween_0 k0 k1 z28 _ hz32) (fbI3 fd8_0 fd8_1 fd8_4 fd8_5 fd8_8 fd8_9 fd8_12 fd8_13 fd8_16) hnz32 (ic_link dX1_smallest_32 q1125) q1137 qs33 0 rfl rfl q84 q1138 ⟨by decide, by decide⟩ hdX0_lambda_thresholdBetween_0.2.2.2 ifl2 ⟨Nat.le_of_ble_eq_true rfl, Nat.le_of_ble_eq_true rfl⟩ ⟨(Nat.le_trans (show cb + 4 ≤ cb + 4 from by omega) hcb), (Nat.le_trans (show sb + 163 ≤ sb + 163 from by omega) hsb)⟩ rfl (Nat.le_of_ble_eq_true rfl) dX1_smallest_32 rfl ?_
    refine v_ws (ws' := ([(a0, .inr (0, [.ref b0, .ref hq, .ref tx]))] ++ LW D b0 b1 b2 b3 b4 b5 n n4 cols rows kd thr bt tm rea gr vl so dy cg)) [0, 1, 2, 3, 4, 5, 6] (by decide) rfl ?_
    refine v_c0 (cb + 4) (sb + 163) (by show cb + 4 = cb + 4; omega) (by show sb + 163 = sb + 163; omega) ?_
    refine v_istore 39 [(4, .int z32), (3, .int z28), (0, .ref t1), (1, .int v1), (2, .int v2)] X dX1_smallest_37 rfl (by decide) rfl ?_
    refine v_iload 41 X 0 dX1_smallest_39 rfl rfl ?_
    refine v_if_eq 44 48 X dX1_smallest_41 rfl (by decide) (fun h41 => ?_) (fun h41 => ?_)
    · replace hF := ifp h41 hF
      refine v_iload_n 49 X 4 dX1_smallest_48 rfl rfl rfl ?_
      refine v_istore_n 50 [(2, .int v2), (4, .int z32), (3, .int z28), (0, .ref t1), (1, .int v1)] X dX1_smallest_49 rfl rfl (by decide) rfl ?_
      refine v_iload 52 X 1 dX1_smallest_50 rfl rfl ?_
      refine v_if_eq 55 59 X dX1_smallest_52 rfl (by decide) (fun h52 => ?_) (fun h52 => ?_)
      · replace hF := ifp h52 hF
        refine v_iload_n 60 X 2 dX1_smallest_59 rfl rfl rfl ?_
        refine v_iconst (v := 1) 61 X dX1_smallest_60 rfl ki_1 ?_
        refine v_iadd 62 X dX1_smallest_61 rfl ?_
        refine v_istore_n 63 [(1, .int (z28 + 1)), (2, .int v2), (4, .int z32), (3, .int z28), (0, .ref t1)] X dX1_smallest_62 rfl rfl (by decide) rfl ?_
        refine v_goto 19 X dX1_smallest_63 (by decide) ?_
        obtain rfl := Option.some.inj hF
        exact v_lv [4, 0, 1] rfl (hI _ rfl)
      · replace hF := ifn h52 hF
        refine v_iload_n 56 X 4 dX1_smallest_55 rfl rfl rfl ?_
        refine v_goto 62 X dX1_smallest_56 (by decide) ?_
        refine v_istore_n 63 [(1, .int v1), (2, .int v2), (4, .int z32), (3, .int z28), (0, .ref t1)] X dX1_smallest_62 rfl rfl (by decide) rfl ?_
        refine v_goto 19 X dX1_smallest_63 (by decide) ?_
        obtain rfl := Option.some.inj hF
        exact v_lv [4, 0, 1] rfl (hI _ rfl)
    · replace hF := ifn h41 hF
      refine v_iload_n 45 X 1 dX1_smallest_44 rfl rfl rfl ?_
      refine v_goto 49 X dX1_smallest_45 (by decide) ?_
      refine v_istore_n 50 [(2, .int z28), (4, .int z32), (3, .int z28), (0, .ref t1), (1, .int v1)] X dX1_smallest_49 rfl rfl (by decide) rfl ?_
      refine v_iload 52 X 1 dX1_smallest_50 rfl rfl ?_
      refine v_if_eq 55 59 X dX1_smallest_52 rfl (by decide) (fun h52 => ?_) (fun h52 => ?_)
      · replace hF := ifp h52 hF
        refine v_iload_n 60 X 2 dX1_smallest_59 rfl rfl rfl ?_
        refine v_iconst (v := 1) 61 X dX1_smallest_60 rfl ki_1 ?_
        refine v_iadd 62 X dX1_smallest_61 rfl ?_
        refine v_istore_n 63 [(1, .int (z28 + 1)), (2, .int z28), (4, .int z32), (3, .int z28), (0, .ref t1)] X dX1_smallest_62 rfl rfl (by decide) rfl ?_
        refine v_goto 19 X dX1_smallest_63 (by decide) ?_
        obtain rfl := Option.some.inj hF
        exact v_lv [4, 0, 1] rfl (hI _ rfl)
      · replace hF := ifn h52 hF
        refine v_iload_n 56 X 4 dX1_smallest_55 rfl rfl rfl ?_
        refine v_goto 62 X dX1_smallest_56 (by decide) ?_
        refine v_istore_n 63 [(1, .int v1), (2, .int z28), (4, .int z32), (3, .int z28), (0, .ref t1)] X dX1_smallest_62 rfl rfl (by decide) rfl ?_
        refine v_goto 19 X dX1_smallest_63 (by decide) ?_
        obtain rfl := Option.some.inj hF
        exact v_lv [4, 0, 1] rfl (hI _ rfl)
theorem w_X1_smallest_b (r : Int32) (hF : L_smallest (fun x => C_lambda_thresholdBetween_0 cols rows kd n n4 vl gr k0 k1 x) = some r) : CTi l yX1_smallest cX1_smallest 5 (Option.some Jvm.ClassFile.FieldType.int) rmX1_smallest_b D ([(a0, .inr (0, [.ref b0, .ref hq, .ref tx]))] ++ LW D b0 b1 b2 b3 b4 b5 n n4 cols rows kd thr bt tm rea gr vl so dy cg) [.ref t1] (AML D [(t1, D.1 308, [.ref a0, .int k0, .int k1])]) (fun r1 u => r1 = r ∧ u = ([(a0, .inr (0, [.ref b0, .ref hq, .ref tx]))] ++ LW D b0 b1 b2 b3 b4 b5 n n4 cols rows kd thr bt tm rea gr vl so dy cg)) := by
  refine m_i (by decide) (Nat.le_of_ble_eq_true rfl) ?_
  intro p e s m args below meth c A B
  obtain ⟨X, hr, hAm, -, hnm, hnmd⟩ := B
  obtain ⟨hAm, hL⟩ := hAm
  have hl0 : LamO (D.1 308) [.ref a0, .int k0, .int k1] t1 A s.heap := hL _ (List.Mem.head _)
  replace X : CX p s m args meth c D A cX1_smallest 5 "DyeLattice$Lattice" := X
  refine v_lv (lv' := [(0, .ref t1)]) [0] rfl ?_
  unfold L_smallest at hF
  refine v_aload_n 1 X 0 dX1_smallest_0 rfl rfl rfl ?_
  refine v_bipush (v := 100) 3 X dX1_smallest_1 rfl kb_100 ?_
  obtain ⟨z3, hz3, hF⟩ := ob hF
  obtain ⟨hz3, hnz3⟩ := tz_s hz3
  replace hz3 : C_lambda_thresholdBetween_0 cols rows kd n n4 vl gr k0 k1 100 = some z3 := hz3
  refine v_icI (wr := ([] : va_W)) 8 X hAm 2 8 (by decide) (by decide) (σ := sg8) rfl rfl rfl (by decide +kernel) rfl rfl (by decide) sok8 fd8_13 hl0 (y := yX0_lambda_thresholdBetween_0) rfl rfl (by decide +kernel) [.int k0, .int k1, .int 100] [.int 100] [0, 1, 2, 3, 4, 5, 6] [] ([(a0, .inr (0, [.ref b0, .ref hq, .ref tx]))] ++ LW D b0 b1 b2 b3 b4 b5 n n4 cols rows kd thr bt tm rea gr vl so dy cg) rfl rfl (by decide) (by decide) (by decide) (w_X0_lambda_thresholdBetween_0 k0 k1 100 _ hz3) (fbI3 fd8_0 fd8_1 fd8_4 fd8_5 fd8_8 fd8_9 fd8_12 fd8_13 fd8_16) hnz3 (ic_link dX1_smallest_3 q1125) q1137 qs33 0 rfl rfl q84 q1138 ⟨by decide, by decide⟩ hdX0_lambda_thresholdBetween_0.2.2.2 ifl2 ⟨Nat.le_of_ble_eq_true rfl, Nat.le_of_ble_eq_true rfl⟩ ⟨(Nat.le_of_ble_eq_true rfl), (Nat.le_of_ble_eq_true rfl)⟩ rfl (Nat.le_of_ble_eq_true rfl) dX1_smallest_3 rfl ?_
  refine v_ws (ws' := ([(a0, .inr (0, [.ref b0, .ref hq, .ref tx]))] ++ LW D b0 b1 b2 b3 b4 b5 n n4 cols rows kd thr bt tm rea gr vl so dy cg)) [0, 1, 2, 3, 4, 5, 6] (by decide) rfl ?_
  refine v_c0 4 163 rfl rfl ?_
  refine v_if_ne 11 14 X dX1_smallest_8 rfl (by decide) (fun h8 => ?_) (fun h8 => ?_)
  · replace hF := ifn h8 hF
    refine v_iconst (v := 0) 15 X dX1_smallest_14 rfl ki_0 ?_
    refine v_istore_n 16 [(1, .int 0), (0, .ref t1)] X dX1_smallest_15 rfl rfl (by decide) rfl ?_
    refine v_bipush (v := 100) 18 X dX1_smallest_16 rfl kb_100 ?_
    refine v_istore_n 19 [(2, .int 100), (1, .int 0), (0, .ref t1)] X dX1_smallest_18 rfl rfl (by decide) rfl ?_
    obtain ⟨z19, hz19, hF⟩ := ob hF
    refine v_lv [2, 1, 0] rfl (w_X1_smallest_b_19 X hAm hl0 8 4 163 (0, 100) _ (Nat.le_of_ble_eq_true rfl) (Nat.le_of_ble_eq_true rfl) hz19 ?_)
    refine v_c0 36 1467 rfl rfl ?_
    refine v_iload_n 67 X 0 dX1_smallest_66 rfl rfl rfl ?_
    obtain rfl := Option.some.inj hF
    exact v_iret X hr ⟨rfl, rfl⟩ (Nat.le_of_ble_eq_true rfl) (Nat.le_of_ble_eq_true rfl) dX1_smallest_67
  · replace hF := ifp h8 hF
    refine v_bipush (v := (-9)) 13 X dX1_smallest_11 rfl kb_m9 ?_
    obtain rfl := Option.some.inj hF
    exact v_iret X hr ⟨rfl, rfl⟩ (Nat.le_of_ble_eq_true rfl) (Nat.le_of_ble_eq_true rfl) dX1_smallest_13
end
