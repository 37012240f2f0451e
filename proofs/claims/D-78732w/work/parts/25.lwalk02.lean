set_option maxRecDepth 100000
set_option maxHeartbeats 4000000
section
variable {p : Program} {l : Launch} {e : Env} {s : State} {m : MethodId} {args : Array Value} {below : List Frame} {meth : Method} {c : Code} {D : va_G} {A : Nat → Prop} {Q : State → Prop} {ws : va_W} {t1 t2 bm bc : Nat} {k0 k1 k2 : Int32} {mk clu : Nat → Int32} {b0 b1 b2 b3 b4 b5 n n4 kd : Nat} {cols rows thr bt tm rea : Int32} {gr so dy cg : Nat → Int32} {vl : Nat → Nat}
theorem w_X1_flood_d_14 (X : CX p s m args meth c D A cX1_flood 10 "DyeLattice$Lattice") (hAm : AMB D A s) (hl0 : LamO (D.1 300) [.ref b0, .int k0] t1 A s.heap) (hl1 : LamO (D.1 301) [] (D.2 204 1) A s.heap) {q4 : Nat} {cb sb : Nat} (hcb : cb ≤ rmX1_flood_d.cells) (hsb : sb ≤ rmX1_flood_d.slots) : ∀ (fu : Nat) (x : Int32 × Int32 × (Nat → Int32)) (o : (Int32 × (Nat → Int32))), loopN (fun x => L_flood_14 n mk x.1 x.2.1 x.2.2) fu x = some o → (V p l e rmX1_flood_d s m args below meth c D A 10 Q ([(bm, .inl (D.1 101, n, .inl mk))] ++ LW D b0 b1 b2 b3 b4 b5 n n4 cols rows kd thr bt tm rea gr vl so dy cg ++ [(q4, .inl (D.1 100, n, .inl o.2))]) cb sb 46 [(0, .ref b0), (1, .ref bm), (2, .ref t1), (3, .ref (D.2 204 1)), (4, .ref q4), (5, .int o.1)] []) → V p l e rmX1_flood_d s m args below meth c D A 10 Q ([(bm, .inl (D.1 101, n, .inl mk))] ++ LW D b0 b1 b2 b3 b4 b5 n n4 cols rows kd thr bt tm rea gr vl so dy cg ++ [(q4, .inl (D.1 100, n, .inl x.2.2))]) cb sb 14 [(0, .ref b0), (1, .ref bm), (2, .ref t1), (3, .ref (D.2 204 1)), (4, .ref q4), (5, .int x.1), (6, .int x.2.1)] [] := by
  refine v_loop (fun (x : Int32 × Int32 × (Nat → Int32)) => V p l e rmX1_flood_d s m args below meth c D A 10 Q ([(bm, .inl (D.1 101, n, .inl mk))] ++ LW D b0 b1 b2 b3 b4 b5 n n4 cols rows kd thr bt tm rea gr vl so dy cg ++ [(q4, .inl (D.1 100, n, .inl x.2.2))]) cb sb 14 [(0, .ref b0), (1, .ref bm), (2, .ref t1), (3, .ref (D.2 204 1)), (4, .ref q4), (5, .int x.1), (6, .int x.2.1)] []) (fun (o : (Int32 × (Nat → Int32))) => V p l e rmX1_flood_d s m args below meth c D A 10 Q ([(bm, .inl (D.1 101, n, .inl mk))] ++ LW D b0 b1 b2 b3 b4 b5 n n4 cols rows kd thr bt tm rea gr vl so dy cg ++ [(q4, .inl (D.1 100, n, .inl o.2))]) cb sb 46 [(0, .ref b0), (1, .ref bm), (2, .ref t1), (3, .ref (D.2 204 1)), (4, .ref q4), (5, .int o.1)] []) ?_
  rintro ⟨v5, v6, kn4⟩ r hF hI hO
  replace hF : L_flood_14 n mk v5 v6 kn4 = some r := hF
  show V p l e rmX1_flood_d s m args below meth c D A 10 Q ([(bm, .inl (D.1 101, n, .inl mk))] ++ LW D b0 b1 b2 b3 b4 b5 n n4 cols rows kd thr bt tm rea gr vl so dy cg ++ [(q4, .inl (D.1 100, n, .inl kn4))]) cb sb 14 [(0, .ref b0), (1, .ref bm), (2, .ref t1), (3, .ref (D.2 204 1)), (4, .ref q4), (5, .int v5), (6, .int v6)] []
  unfold L_flood_14 at hF
  refine v_iload 16 X 6 dX1_flood_14 rfl rfl ?_
  refine v_aload_n 17 X 0 dX1_flood_16 rfl rfl rfl ?_
  have hz17 : L_cells n = some (nI n) := rfl
  refine vc_Vi (wr := ([(bm, .inl (D.1 101, n, .inl mk)), (q4, .inl (D.1 100, n, .inl kn4))])) 20 cb sb X 0 [] [1, 2, 3, 4, 5, 6] [0, 7] (LW D b0 b1 b2 b3 b4 b5 n n4 cols rows kd thr bt tm rea gr vl so dy cg) rfl rfl (by decide) (by decide) (by decide) (w_X1_cells _ hz17) q394 q345 q346 q85 q347 hdX1_cells 1 rfl rfl (pass_amb hAm) ⟨Nat.le_of_ble_eq_true rfl, Nat.le_of_ble_eq_true rfl⟩ ⟨(by exact hcb), (by exact hsb)⟩ rfl rfl (Nat.le_of_ble_eq_true rfl) dX1_flood_17 rfl (by show cb + 0 = cb + 0; omega) (by show sb + 0 = sb + 0; omega) (fun r17 u17 e17 => ?_)
  obtain ⟨e171, rfl⟩ := e17
  have e172 := e171.symm
  subst e172
  refine v_ws (ws' := ([(bm, .inl (D.1 101, n, .inl mk)), (q4, .inl (D.1 100, n, .inl kn4))] ++ LW D b0 b1 b2 b3 b4 b5 n n4 cols rows kd thr bt tm rea gr vl so dy cg)) [0, 1, 2, 3, 4, 5, 6, 7] (by decide) rfl ?_
  refine v_icmp_ge 23 46 X dX1_flood_20 rfl (by decide) (fun h20 => ?_) (fun h20 => ?_)
  · replace hF := ifp h20 hF
    obtain rfl := Option.some.inj hF
    refine v_ws (ws' := ([(bm, .inl (D.1 101, n, .inl mk))] ++ LW D b0 b1 b2 b3 b4 b5 n n4 cols rows kd thr bt tm rea gr vl so dy cg ++ [(q4, .inl (D.1 100, n, .inl kn4))])) [0, 2, 3, 4, 5, 6, 7, 1] (by decide) rfl ?_
    exact v_lv [0, 1, 2, 3, 4, 5] rfl ((hO _ rfl))
  · replace hF := ifn h20 hF
    refine v_aload_n 24 X 1 dX1_flood_23 rfl rfl rfl ?_
    refine v_iload 26 X 6 dX1_flood_24 rfl rfl ?_
    obtain ⟨z26, hz26, hF⟩ := ob hF
    refine v_zald 27 X 0 hz26 rfl dX1_flood_26 rfl ?_
    refine v_if_eq 30 40 X dX1_flood_27 rfl (by decide) (fun h27 => ?_) (fun h27 => ?_)
    · replace hF := ifp h27 hF
      refine v_iinc (v := (v6 + 1)) 43 [(6, .int (v6 + 1)), (0, .ref b0), (1, .ref bm), (2, .ref t1), (3, .ref (D.2 204 1)), (4, .ref q4), (5, .int v5)] X 6 dX1_flood_40 rfl rfl (by rfl) (by decide) rfl ?_
      refine v_goto 14 X dX1_flood_43 (by decide) ?_
      obtain rfl := Option.some.inj hF
      refine v_ws (ws' := ([(bm, .inl (D.1 101, n, .inl mk))] ++ LW D b0 b1 b2 b3 b4 b5 n n4 cols rows kd thr bt tm rea gr vl so dy cg ++ [(q4, .inl (D.1 100, n, .inl kn4))])) [0, 2, 3, 4, 5, 6, 7, 1] (by decide) rfl ?_
      exact v_lv [1, 2, 3, 4, 5, 6, 0] rfl (hI _ rfl)
    · replace hF := ifn h27 hF
      refine v_aload 32 X 4 dX1_flood_30 rfl rfl ?_
      refine v_iload 34 X 5 dX1_flood_32 rfl rfl ?_
      refine v_iload 36 X 6 dX1_flood_34 rfl rfl ?_
      obtain ⟨z36, hz36, hF⟩ := ob hF
      refine v_iast 37 ([(bm, .inl (D.1 101, n, .inl mk)), (q4, .inl (D.1 100, n, .inl z36))] ++ LW D b0 b1 b2 b3 b4 b5 n n4 cols rows kd thr bt tm rea gr vl so dy cg) X 1 hz36 rfl dX1_flood_36 rfl rfl ?_
      refine v_iinc (v := (v5 + 1)) 40 [(5, .int (v5 + 1)), (0, .ref b0), (1, .ref bm), (2, .ref t1), (3, .ref (D.2 204 1)), (4, .ref q4), (6, .int v6)] X 5 dX1_flood_37 rfl rfl (by rfl) (by decide) rfl ?_
      refine v_iinc (v := (v6 + 1)) 43 [(6, .int (v6 + 1)), (5, .int (v5 + 1)), (0, .ref b0), (1, .ref bm), (2, .ref t1), (3, .ref (D.2 204 1)), (4, .ref q4)] X 6 dX1_flood_40 rfl rfl (by rfl) (by decide) rfl ?_
      refine v_goto 14 X dX1_flood_43 (by decide) ?_
      obtain rfl := Option.some.inj hF
      refine v_ws (ws' := ([(bm, .inl (D.1 101, n, .inl mk))] ++ LW D b0 b1 b2 b3 b4 b5 n n4 cols rows kd thr bt tm rea gr vl so dy cg ++ [(q4, .inl (D.1 100, n, .inl z36))])) [0, 2, 3, 4, 5, 6, 7, 1] (by decide) rfl ?_
      exact v_lv [2, 3, 4, 5, 6, 1, 0] rfl (hI _ rfl)
theorem w_X1_flood_d_59_j149 (X : CX p s m args meth c D A cX1_flood 10 "DyeLattice$Lattice") (hAm : AMB D A s) (hl0 : LamO (D.1 300) [.ref b0, .int k0] t1 A s.heap) (hl1 : LamO (D.1 301) [] (D.2 204 1) A s.heap) {cb sb : Nat} {q4 : Nat} (v5 : Int32) (v6 : Int32) (v7 : Int32) (kn4 : (Nat → Int32)) (hcb : cb ≤ rmX1_flood_d.cells) (hsb : sb ≤ rmX1_flood_d.slots) {r : (Int32 × Int32 × (Nat → Int32) × (Nat → Int32)) ⊕ (Int32 × (Nat → Int32) × (Nat → Int32))} (hI : ∀ y, r = .inl y → V p l e rmX1_flood_d s m args below meth c D A 10 Q ([(bm, .inl (D.1 101, n, .inl y.2.2.1)), (q4, .inl (D.1 100, n, .inl y.2.2.2))] ++ LW D b0 b1 b2 b3 b4 b5 n n4 cols rows kd thr bt tm rea gr vl so dy cg) cb sb 59 [(0, .ref b0), (1, .ref bm), (2, .ref t1), (3, .ref (D.2 204 1)), (4, .ref q4), (5, .int y.1), (6, .int v6), (7, .int y.2.1)] []) (hO : ∀ y, r = .inr y → (V p l e rmX1_flood_d s m args below meth c D A 10 Q ([(bm, .inl (D.1 101, n, .inl y.2.1)), (q4, .inl (D.1 100, n, .inl y.2.2))] ++ LW D b0 b1 b2 b3 b4 b5 n n4 cols rows kd thr bt tm rea gr vl so dy cg) cb sb 230 [(0, .ref b0), (1, .ref bm), (2, .ref t1), (3, .ref (D.2 204 1)), (4, .ref q4), (5, .int y.1), (6, .int v6)] [])) (hF : L_flood_59_j149 cols rows n n4 vl (fun x => L_lambda_mark_7 n gr k0 x) (fun x y => L_lambda_mark_8 x) v5 v6 v7 kn4 mk = some r) : V p l e rmX1_flood_d s m args below meth c D A 10 Q ([(bm, .inl (D.1 101, n, .inl mk)), (q4, .inl (D.1 100, n, .inl kn4))] ++ LW D b0 b1 b2 b3 b4 b5 n n4 cols rows kd thr bt tm rea gr vl so dy cg) cb sb 149 [(0, .ref b0), (1, .ref bm), (2, .ref t1), (3, .ref (D.2 204 1)), (4, .ref q4), (5, .int v5), (6, .int v6), (7, .int v7)] [] := by
  unfold L_flood_59_j149 at hF
  refine v_aload_n 150 X 0 dX1_flood_149 rfl rfl rfl ?_
  refine v_aload 152 X 4 dX1_flood_150 rfl rfl ?_
  refine v_iload 154 X 6 dX1_flood_152 rfl rfl ?_
  obtain ⟨z154, hz154, hF⟩ := ob hF
  refine v_iald 155 X 1 hz154 rfl dX1_flood_154 rfl ?_
  refine v_iload 157 X 7 dX1_flood_155 rfl rfl ?_
  obtain ⟨z157, hz157, hF⟩ := ob hF
  refine vc_Vi (wr := ([(bm, .inl (D.1 101, n, .inl mk)), (q4, .inl (D.1 100, n, .inl kn4))])) 160 cb sb X 2 [.int z154, .int v7] [2, 3, 4, 5, 6, 7] [0, 1] (LW D b0 b1 b2 b3 b4 b5 n n4 cols rows kd thr bt tm rea gr vl so dy cg) rfl rfl (by decide) (by decide) (by decide) (w_X1_first z154 v7 _ hz157) q943 q945 qs19 q85 q946 hdX1_first 2 rfl rfl (pass_amb hAm) ⟨Nat.le_of_ble_eq_true rfl, Nat.le_of_ble_eq_true rfl⟩ ⟨(by exact hcb), (by exact hsb)⟩ rfl rfl (Nat.le_of_ble_eq_true rfl) dX1_flood_157 rfl (by show cb + 0 = cb + 0; omega) (by show sb + 0 = sb + 0; omega) (fun r157 u157 e157 => ?_)
  obtain ⟨e1571, rfl⟩ := e157
  have e1572 := e1571.symm
  subst e1572
  refine v_ws (ws' := ([(bm, .inl (D.1 101, n, .inl mk)), (q4, .inl (D.1 100, n, .inl kn4))] ++ LW D b0 b1 b2 b3 b4 b5 n n4 cols rows kd thr bt tm rea gr vl so dy cg)) [0, 1, 2, 3, 4, 5, 6, 7] (by decide) rfl ?_
  refine v_istore 162 [(9, .int z157), (0, .ref b0), (1, .ref bm), (2, .ref t1), (3, .ref (D.2 204 1)), (4, .ref q4), (5, .int v5), (6, .int v6), (7, .int v7)] X dX1_flood_160 rfl (by decide) rfl ?_
  refine v_iload 164 X 0 dX1_flood_162 rfl rfl ?_
  refine v_bipush (v := (-9)) 166 X dX1_flood_164 rfl kb_m9 ?_
  refine v_icmp_eq 169 224 X dX1_flood_166 rfl (by decide) (fun h166 => ?_) (fun h166 => ?_)
  · replace hF := ifp h166 hF
    refine v_iinc (v := (v7 + 1)) 227 [(7, .int (v7 + 1)), (9, .int z157), (0, .ref b0), (1, .ref bm), (2, .ref t1), (3, .ref (D.2 204 1)), (4, .ref q4), (5, .int v5), (6, .int v6)] X 8 dX1_flood_224 rfl rfl (by rfl) (by decide) rfl ?_
    refine v_goto 59 X dX1_flood_227 (by decide) ?_
    obtain rfl := Option.some.inj hF
    exact v_lv [2, 3, 4, 5, 6, 7, 8, 0] rfl (hI _ rfl)
  · replace hF := ifn h166 hF
    refine v_aload_n 170 X 2 dX1_flood_169 rfl rfl rfl ?_
    refine v_iload 172 X 0 dX1_flood_170 rfl rfl ?_
    obtain ⟨z172, hz172, hF⟩ := ob hF
    refine v_zald 173 X 0 hz172 rfl dX1_flood_172 rfl ?_
    refine v_if_ne 176 224 X dX1_flood_173 rfl (by decide) (fun h173 => ?_) (fun h173 => ?_)
    · replace hF := ifn h173 hF
      refine v_iinc (v := (v7 + 1)) 227 [(7, .int (v7 + 1)), (9, .int z157), (0, .ref b0), (1, .ref bm), (2, .ref t1), (3, .ref (D.2 204 1)), (4, .ref q4), (5, .int v5), (6, .int v6)] X 8 dX1_flood_224 rfl rfl (by rfl) (by decide) rfl ?_
      refine v_goto 59 X dX1_flood_227 (by decide) ?_
      obtain rfl := Option.some.inj hF
      exact v_lv [2, 3, 4, 5, 6, 7, 8, 0] rfl (hI _ rfl)
    · replace hF := ifp h173 hF
      refine v_aload_n 177 X 3 dX1_flood_176 rfl rfl rfl ?_
      refine v_iload 179 X 0 dX1_flood_177 rfl rfl ?_
      obtain ⟨z179, hz179, hF⟩ := ob hF
      obtain ⟨hz179, hnz179⟩ := tz_s hz179
      replace hz179 : L_lambda_mark_7 n gr k0 z157 = some z179 := hz179
      refine v_icI (wr := ([(bm, .inl (D.1 101, n, .inl mk)), (q4, .inl (D.1 100, n, .inl kn4))])) 184 X hAm 0 0 (by decide) (by decide) (σ := sg0) rfl rfl rfl (by decide +kernel) rfl rfl (by decide) sok0 fd0_9 hl0 (y := yX1_lambda_mark_7) rfl rfl (by decide +kernel) [.int k0, .int z157] [.int z157] [2, 3, 4, 5, 6, 7] [0, 1] (LW D b0 b1 b2 b3 b4 b5 n n4 cols rows kd thr bt tm rea gr vl so dy cg) rfl rfl (by decide) (by decide) (by decide) (w_X1_lambda_mark_7 k0 z157 _ hz179) (fbI2 fd0_0 fd0_1 fd0_4 fd0_5 fd0_8 fd0_9 fd0_12) hnz179 (ic_link dX1_flood_179 q1021) q1010 qs22 2 rfl rfl q85 q1011 ⟨by decide, by decide⟩ hdX1_lambda_mark_7.2.2.2 ifl0 ⟨Nat.le_of_ble_eq_true rfl, Nat.le_of_ble_eq_true rfl⟩ ⟨(by exact hcb), (by exact hsb)⟩ rfl (Nat.le_of_ble_eq_true rfl) dX1_flood_179 rfl ?_
      refine v_ws (ws' := ([(bm, .inl (D.1 101, n, .inl mk)), (q4, .inl (D.1 100, n, .inl kn4))] ++ LW D b0 b1 b2 b3 b4 b5 n n4 cols rows kd thr bt tm rea gr vl so dy cg)) [0, 1, 2, 3, 4, 5, 6, 7] (by decide) rfl ?_
      refine v_if_eq 187 224 X dX1_flood_184 rfl (by decide) (fun h184 => ?_) (fun h184 => ?_)
      · replace hF := ifp h184 hF
        refine v_iinc (v := (v7 + 1)) 227 [(7, .int (v7 + 1)), (9, .int z157), (0, .ref b0), (1, .ref bm), (2, .ref t1), (3, .ref (D.2 204 1)), (4, .ref q4), (5, .int v5), (6, .int v6)] X 8 dX1_flood_224 rfl rfl (by rfl) (by decide) rfl ?_
        refine v_goto 59 X dX1_flood_227 (by decide) ?_
        obtain rfl := Option.some.inj hF
        exact v_lv [2, 3, 4, 5, 6, 7, 8, 0] rfl (hI _ rfl)
      · replace hF := ifn h184 hF
        refine v_aload_n 188 X 4 dX1_flood_187 rfl rfl rfl ?_
        refine v_aload_n 189 X 1 dX1_flood_188 rfl rfl rfl ?_
        refine v_get 192 X in_X1 2 8 rfl rfl (by decide) q155 rfl rfl dX1_flood_189 rfl ?_
        refine v_iconst (v := 4) 193 X dX1_flood_192 rfl ki_4 ?_
        refine v_iload 195 X 0 dX1_flood_193 rfl rfl ?_
        refine v_imul 196 X dX1_flood_195 rfl ?_
        refine v_iload 198 X 8 dX1_flood_196 rfl rfl ?_
        refine v_iadd 199 X dX1_flood_198 rfl ?_
        obtain ⟨z199, hz199, hF⟩ := ob hF
        refine v_aldV 200 X 4 hz199 rfl dX1_flood_199 rfl ?_
        refine v_iconst (v := 0) 201 X dX1_flood_200 rfl ki_0 ?_
        obtain ⟨z201, hz201, hF⟩ := ob hF
        obtain ⟨hz201, hnz201⟩ := tz_s hz201
        replace hz201 : L_lambda_mark_8 z199 = some z201 := hz201
        refine v_icS (wr := ([(bm, .inl (D.1 101, n, .inl mk)), (q4, .inl (D.1 100, n, .inl kn4))] ++ LW D b0 b1 b2 b3 b4 b5 n n4 cols rows kd thr bt tm rea gr vl so dy cg)) 206 X hAm 1 1 (by decide) (by decide) (σ := sg1) rfl rfl rfl (by decide +kernel) rfl rfl (by decide) sok1 fd1_2 (lamC hAm 1 (by decide) (by decide)) (y := yX1_lambda_mark_8) rfl rfl (by decide +kernel) [.ref (adV D z199), .int 0] [.ref (adV D z199), .int 0] [] [0, 1, 2, 3, 4, 5, 6, 7] ([] : va_W) rfl rfl (by decide) (by decide) (by decide) (w_X1_lambda_mark_8 z199 0 _ hz201) (fbS0 fd1_0 fd1_1 fd1_2 fd1_5) hnz201 (ic_link dX1_flood_201 q1025) q1012 q85 q1013 ⟨by decide, by decide⟩ hdX1_lambda_mark_8.2.2 ifl1 ⟨Nat.le_of_ble_eq_true rfl, Nat.le_of_ble_eq_true rfl⟩ ⟨(by exact hcb), (by exact hsb)⟩ rfl (Nat.le_of_ble_eq_true rfl) dX1_flood_201 rfl ?_
        refine v_ws (ws' := ([(bm, .inl (D.1 101, n, .inl mk)), (q4, .inl (D.1 100, n, .inl kn4))] ++ LW D b0 b1 b2 b3 b4 b5 n n4 cols rows kd thr bt tm rea gr vl so dy cg)) [0, 1, 2, 3, 4, 5, 6, 7] (by decide) rfl ?_
        refine v_if_eq 209 224 X dX1_flood_206 rfl (by decide) (fun h206 => ?_) (fun h206 => ?_)
        · replace hF := ifp h206 hF
          refine v_iinc (v := (v7 + 1)) 227 [(7, .int (v7 + 1)), (9, .int z157), (0, .ref b0), (1, .ref bm), (2, .ref t1), (3, .ref (D.2 204 1)), (4, .ref q4), (5, .int v5), (6, .int v6)] X 8 dX1_flood_224 rfl rfl (by rfl) (by decide) rfl ?_
          refine v_goto 59 X dX1_flood_227 (by decide) ?_
          obtain rfl := Option.some.inj hF
          exact v_lv [2, 3, 4, 5, 6, 7, 8, 0] rfl (hI _ rfl)
        · replace hF := ifn h206 hF
          refine v_aload_n 210 X 2 dX1_flood_209 rfl rfl rfl ?_
          refine v_iload 212 X 0 dX1_flood_210 rfl rfl ?_
          refine v_iconst (v := 1) 213 X dX1_flood_212 rfl ki_1 ?_
          obtain ⟨z213, hz213, hF⟩ := ob hF
          refine v_zast 214 ([(bm, .inl (D.1 101, n, .inl z213)), (q4, .inl (D.1 100, n, .inl kn4))] ++ LW D b0 b1 b2 b3 b4 b5 n n4 cols rows kd thr bt tm rea gr vl so dy cg) X 0 hz213 rfl dX1_flood_213 rfl rfl ?_
          refine v_aload 216 X 5 dX1_flood_214 rfl rfl ?_
          refine v_iload 218 X 6 dX1_flood_216 rfl rfl ?_
          refine v_iload 220 X 0 dX1_flood_218 rfl rfl ?_
          obtain ⟨z220, hz220, hF⟩ := ob hF
          refine v_iast 221 ([(bm, .inl (D.1 101, n, .inl z213)), (q4, .inl (D.1 100, n, .inl z220))] ++ LW D b0 b1 b2 b3 b4 b5 n n4 cols rows kd thr bt tm rea gr vl so dy cg) X 1 hz220 rfl dX1_flood_220 rfl rfl ?_
          refine v_iinc (v := (v5 + 1)) 224 [(5, .int (v5 + 1)), (9, .int z157), (0, .ref b0), (1, .ref bm), (2, .ref t1), (3, .ref (D.2 204 1)), (4, .ref q4), (6, .int v6), (7, .int v7)] X 6 dX1_flood_221 rfl rfl (by rfl) (by decide) rfl ?_
          refine v_iinc (v := (v7 + 1)) 227 [(7, .int (v7 + 1)), (5, .int (v5 + 1)), (9, .int z157), (0, .ref b0), (1, .ref bm), (2, .ref t1), (3, .ref (D.2 204 1)), (4, .ref q4), (6, .int v6)] X 8 dX1_flood_224 rfl rfl (by rfl) (by decide) rfl ?_
          refine v_goto 59 X dX1_flood_227 (by decide) ?_
          obtain rfl := Option.some.inj hF
          exact v_lv [3, 4, 5, 6, 7, 1, 8, 0] rfl (hI _ rfl)
theorem w_X1_flood_d_59 (X : CX p s m args meth c D A cX1_flood 10 "DyeLattice$Lattice") (hAm : AMB D A s) (hl0 : LamO (D.1 300) [.ref b0, .int k0] t1 A s.heap) (hl1 : LamO (D.1 301) [] (D.2 204 1) A s.heap) {q4 : Nat} {cb sb : Nat} (hcb : cb ≤ rmX1_flood_d.cells) (hsb : sb ≤ rmX1_flood_d.slots) (v6 : Int32) : ∀ (fu : Nat) (x : Int32 × Int32 × (Nat → Int32) × (Nat → Int32)) (o : (Int32 × (Nat → Int32) × (Nat → Int32))), loopN (fun x => L_flood_59 v6 cols rows kd n n4 vl (fun x => L_lambda_mark_7 n gr k0 x) (fun x y => L_lambda_mark_8 x) x.1 x.2.1 x.2.2.1 x.2.2.2) fu x = some o → (V p l e rmX1_flood_d s m args below meth c D A 10 Q ([(bm, .inl (D.1 101, n, .inl o.2.1)), (q4, .inl (D.1 100, n, .inl o.2.2))] ++ LW D b0 b1 b2 b3 b4 b5 n n4 cols rows kd thr bt tm rea gr vl so dy cg) cb sb 230 [(0, .ref b0), (1, .ref bm), (2, .ref t1), (3, .ref (D.2 204 1)), (4, .ref q4), (5, .int o.1), (6, .int v6)] []) → V p l e rmX1_flood_d s m args below meth c D A 10 Q ([(bm, .inl (D.1 101, n, .inl x.2.2.1)), (q4, .inl (D.1 100, n, .inl x.2.2.2))] ++ LW D b0 b1 b2 b3 b4 b5 n n4 cols rows kd thr bt tm rea gr vl so dy cg) cb sb 59 [(0, .ref b0), (1, .ref bm), (2, .ref t1), (3, .ref (D.2 204 1)), (4, .ref q4), (5, .int x.1), (6, .int v6), (7, .int x.2.1)] [] := by
  refine v_loop (fun (x : Int32 × Int32 × (Nat → Int32) × (Nat → Int32)) => V p l e rmX1_flood_d s m args below meth c D A 10 Q ([(bm, .inl (D.1 101, n, .inl x.2.2.1)), (q4, .inl (D.1 100, n, .inl x.2.2.2))] ++ LW D b0 b1 b2 b3 b4 b5 n n4 cols rows kd thr bt tm rea gr vl so dy cg) cb sb 59 [(0, .ref b0), (1, .ref bm), (2, .ref t1), (3, .ref (D.2 204 1)), (4, .ref q4), (5, .int x.1), (6, .int v6), (7, .int x.2.1)] []) (fun (o : (Int32 × (Nat → Int32) × (Nat → Int32))) => V p l e rmX1_flood_d s m args below meth c D A 10 Q ([(bm, .inl (D.1 101, n, .inl o.2.1)), (q4, .inl (D.1 100, n, .inl o.2.2))] ++ LW D b0 b1 b2 b3 b4 b5 n n4 cols rows kd thr bt tm rea gr vl so dy cg) cb sb 230 [(0, .ref b0), (1, .ref bm), (2, .ref t1), (3, .ref (D.2 204 1)), (4, .ref q4), (5, .int o.1), (6, .int v6)] []) ?_
  rintro ⟨v5, v7, mk, kn4⟩ r hF hI hO
  replace hF : L_flood_59 v6 cols rows kd n n4 vl (fun x => L_lambda_mark_7 n gr k0 x) (fun x y => L_lambda_mark_8 x) v5 v7 mk kn4 = some r := hF
  show V p l e rmX1_flood_d s m args below meth c D A 10 Q ([(bm, .inl (D.1 101, n, .inl mk)), (q4, .inl (D.1 100, n, .inl kn4))] ++ LW D b0 b1 b2 b3 b4 b5 n n4 cols rows kd thr bt tm rea gr vl so dy cg) cb sb 59 [(0, .ref b0), (1, .ref bm), (2, .ref t1), (3, .ref (D.2 204 1)), (4, .ref q4), (5, .int v5), (6, .int v6), (7, .int v7)] []
  unfold L_flood_59 at hF
  refine v_iload 61 X 7 dX1_flood_59 rfl rfl ?_
  refine v_aload_n 62 X 0 dX1_flood_61 rfl rfl rfl ?_
  refine v_get 65 X in_X1 2 2 rfl rfl (by decide) q141 rfl rfl dX1_flood_62 rfl ?_
  obtain ⟨z65, hz65, hF⟩ := ob hF
  refine v_dir 68 X hAm hz65 q1579 dX1_flood_65 rfl ?_
  refine v_icmp_ge 71 230 X dX1_flood_68 rfl (by decide) (fun h68 => ?_) (fun h68 => ?_)
  · replace hF := ifp h68 hF
    obtain rfl := Option.some.inj hF
    exact v_lv [0, 1, 2, 3, 4, 5, 6] rfl ((hO _ rfl))
  · replace hF := ifn h68 hF
    refine v_aload_n 72 X 0 dX1_flood_71 rfl rfl rfl ?_
    refine v_aload 74 X 4 dX1_flood_72 rfl rfl ?_
    refine v_iload 76 X 6 dX1_flood_74 rfl rfl ?_
    obtain ⟨z76, hz76, hF⟩ := ob hF
    refine v_iald 77 X 1 hz76 rfl dX1_flood_76 rfl ?_
    refine v_iload 79 X 7 dX1_flood_77 rfl rfl ?_
    obtain ⟨z79, hz79, hF⟩ := ob hF
    refine vc_Vi (wr := ([(bm, .inl (D.1 101, n, .inl mk)), (q4, .inl (D.1 100, n, .inl kn4))])) 82 cb sb X 2 [.int z76, .int v7] [2, 3, 4, 5, 6, 7] [0, 1] (LW D b0 b1 b2 b3 b4 b5 n n4 cols rows kd thr bt tm rea gr vl so dy cg) rfl rfl (by decide) (by decide) (by decide) (w_X1_second z76 v7 _ hz79) q396 q397 q398 q85 q399 hdX1_second 2 rfl rfl (pass_amb hAm) ⟨Nat.le_of_ble_eq_true rfl, Nat.le_of_ble_eq_true rfl⟩ ⟨(by exact hcb), (by exact hsb)⟩ rfl rfl (Nat.le_of_ble_eq_true rfl) dX1_flood_79 rfl (by show cb + 0 = cb + 0; omega) (by show sb + 0 = sb + 0; omega) (fun r79 u79 e79 => ?_)
    obtain ⟨e791, rfl⟩ := e79
    have e792 := e791.symm
    subst e792
    refine v_ws (ws' := ([(bm, .inl (D.1 101, n, .inl mk)), (q4, .inl (D.1 100, n, .inl kn4))] ++ LW D b0 b1 b2 b3 b4 b5 n n4 cols rows kd thr bt tm rea gr vl so dy cg)) [0, 1, 2, 3, 4, 5, 6, 7] (by decide) rfl ?_
    refine v_istore 84 [(8, .int z79), (0, .ref b0), (1, .ref bm), (2, .ref t1), (3, .ref (D.2 204 1)), (4, .ref q4), (5, .int v5), (6, .int v6), (7, .int v7)] X dX1_flood_82 rfl (by decide) rfl ?_
    refine v_iload 86 X 0 dX1_flood_84 rfl rfl ?_
    refine v_bipush (v := (-9)) 88 X dX1_flood_86 rfl kb_m9 ?_
    refine v_icmp_eq 91 149 X dX1_flood_88 rfl (by decide) (fun h88 => ?_) (fun h88 => ?_)
    · replace hF := ifp h88 hF
      exact v_lv [1, 2, 3, 4, 5, 6, 7, 8] rfl (w_X1_flood_d_59_j149 X hAm hl0 hl1 v5 v6 v7 kn4 hcb hsb hI hO hF)
    · replace hF := ifn h88 hF
      refine v_aload_n 92 X 2 dX1_flood_91 rfl rfl rfl ?_
      refine v_iload 94 X 0 dX1_flood_92 rfl rfl ?_
      obtain ⟨z94, hz94, hF⟩ := ob hF
      refine v_zald 95 X 0 hz94 rfl dX1_flood_94 rfl ?_
      refine v_if_ne 98 149 X dX1_flood_95 rfl (by decide) (fun h95 => ?_) (fun h95 => ?_)
      · replace hF := ifn h95 hF
        exact v_lv [1, 2, 3, 4, 5, 6, 7, 8] rfl (w_X1_flood_d_59_j149 X hAm hl0 hl1 v5 v6 v7 kn4 hcb hsb hI hO hF)
      · replace hF := ifp h95 hF
        refine v_aload_n 99 X 3 dX1_flood_98 rfl rfl rfl ?_
        refine v_iload 101 X 0 dX1_flood_99 rfl rfl ?_
        obtain ⟨z101, hz101, hF⟩ := ob hF
        obtain ⟨hz101, hnz101⟩ := tz_s hz101
        replace hz101 : L_lambda_mark_7 n gr k0 z79 = some z101 := hz101
        refine v_icI (wr := ([(bm, .inl (D.1 101, n, .inl mk)), (q4, .inl (D.1 100, n, .inl kn4))])) 106 X hAm 0 0 (by decide) (by decide) (σ := sg0) rfl rfl rfl (by decide +kernel) rfl rfl (by decide) sok0 fd0_9 hl0 (y := yX1_lambda_mark_7) rfl rfl (by decide +kernel) [.int k0, .int z79] [.int z79] [2, 3, 4, 5, 6, 7] [0, 1] (LW D b0 b1 b2 b3 b4 b5 n n4 cols rows kd thr bt tm rea gr vl so dy cg) rfl rfl (by decide) (by decide) (by decide) (w_X1_lambda_mark_7 k0 z79 _ hz101) (fbI2 fd0_0 fd0_1 fd0_4 fd0_5 fd0_8 fd0_9 fd0_12) hnz101 (ic_link dX1_flood_101 q1021) q1010 qs22 2 rfl rfl q85 q1011 ⟨by decide, by decide⟩ hdX1_lambda_mark_7.2.2.2 ifl0 ⟨Nat.le_of_ble_eq_true rfl, Nat.le_of_ble_eq_true rfl⟩ ⟨(by exact hcb), (by exact hsb)⟩ rfl (Nat.le_of_ble_eq_true rfl) dX1_flood_101 rfl ?_
        refine v_ws (ws' := ([(bm, .inl (D.1 101, n, .inl mk)), (q4, .inl (D.1 100, n, .inl kn4))] ++ LW D b0 b1 b2 b3 b4 b5 n n4 cols rows kd thr bt tm rea gr vl so dy cg)) [0, 1, 2, 3, 4, 5, 6, 7] (by decide) rfl ?_
        refine v_if_eq 109 149 X dX1_flood_106 rfl (by decide) (fun h106 => ?_) (fun h106 => ?_)
        · replace hF := ifp h106 hF
          exact v_lv [1, 2, 3, 4, 5, 6, 7, 8] rfl (w_X1_flood_d_59_j149 X hAm hl0 hl1 v5 v6 v7 kn4 hcb hsb hI hO hF)
        · replace hF := ifn h106 hF
          refine v_aload_n 110 X 4 dX1_flood_109 rfl rfl rfl ?_
          refine v_aload_n 111 X 1 dX1_flood_110 rfl rfl rfl ?_
          refine v_get 114 X in_X1 2 8 rfl rfl (by decide) q155 rfl rfl dX1_flood_111 rfl ?_
          refine v_iconst (v := 4) 115 X dX1_flood_114 rfl ki_4 ?_
          refine v_aload 117 X 5 dX1_flood_115 rfl rfl ?_
          refine v_iload 119 X 7 dX1_flood_117 rfl rfl ?_
          obtain ⟨z119, hz119, hF⟩ := ob hF
          refine v_iald 120 X 1 hz119 rfl dX1_flood_119 rfl ?_
          refine v_imul 121 X dX1_flood_120 rfl ?_
          refine v_iload 123 X 8 dX1_flood_121 rfl rfl ?_
          refine v_iadd 124 X dX1_flood_123 rfl ?_
          obtain ⟨z124, hz124, hF⟩ := ob hF
          refine v_aldV 125 X 4 hz124 rfl dX1_flood_124 rfl ?_
          refine v_iconst (v := 1) 126 X dX1_flood_125 rfl ki_1 ?_
          obtain ⟨z126, hz126, hF⟩ := ob hF
          obtain ⟨hz126, hnz126⟩ := tz_s hz126
          replace hz126 : L_lambda_mark_8 z124 = some z126 := hz126
          refine v_icS (wr := ([(bm, .inl (D.1 101, n, .inl mk)), (q4, .inl (D.1 100, n, .inl kn4))] ++ LW D b0 b1 b2 b3 b4 b5 n n4 cols rows kd thr bt tm rea gr vl so dy cg)) 131 X hAm 1 1 (by decide) (by decide) (σ := sg1) rfl rfl rfl (by decide +kernel) rfl rfl (by decide) sok1 fd1_2 (lamC hAm 1 (by decide) (by decide)) (y := yX1_lambda_mark_8) rfl rfl (by decide +kernel) [.ref (adV D z124), .int 1] [.ref (adV D z124), .int 1] [] [0, 1, 2, 3, 4, 5, 6, 7] ([] : va_W) rfl rfl (by decide) (by decide) (by decide) (w_X1_lambda_mark_8 z124 1 _ hz126) (fbS0 fd1_0 fd1_1 fd1_2 fd1_5) hnz126 (ic_link dX1_flood_126 q1025) q1012 q85 q1013 ⟨by decide, by decide⟩ hdX1_lambda_mark_8.2.2 ifl1 ⟨Nat.le_of_ble_eq_true rfl, Nat.le_of_ble_eq_true rfl⟩ ⟨(by exact hcb), (by exact hsb)⟩ rfl (Nat.le_of_ble_eq_true rfl) dX1_flood_126 rfl ?_
          refine v_ws (ws' := ([(bm, .inl (D.1 101, n, .inl mk)), (q4, .inl (D.1 100, n, .inl kn4))] ++ LW D b0 b1 b2 b3 b4 b5 n n4 cols rows kd thr bt tm rea gr vl so dy cg)) [0, 1, 2, 3, 4, 5, 6, 7] (by decide) rfl ?_
          refine v_if_eq 134 149 X dX1_flood_131 rfl (by decide) (fun h131 => ?_) (fun h131 => ?_)
          · replace hF := ifp h131 hF
            exact v_lv [1, 2, 3, 4, 5, 6, 7, 8] rfl (w_X1_flood_d_59_j149 X hAm hl0 hl1 v5 v6 v7 kn4 hcb hsb hI hO hF)
          · replace hF := ifn h131 hF
            refine v_aload_n 135 X 2 dX1_flood_134 rfl rfl rfl ?_
            refine v_iload 137 X 0 dX1_flood_135 rfl rfl ?_
            refine v_iconst (v := 1) 138 X dX1_flood_137 rfl ki_1 ?_
            obtain ⟨z138, hz138, hF⟩ := ob hF
            refine v_zast 139 ([(bm, .inl (D.1 101, n, .inl z138)), (q4, .inl (D.1 100, n, .inl kn4))] ++ LW D b0 b1 b2 b3 b4 b5 n n4 cols rows kd thr bt tm rea gr vl so dy cg) X 0 hz138 rfl dX1_flood_138 rfl rfl ?_
            refine v_aload 141 X 5 dX1_flood_139 rfl rfl ?_
            refine v_iload 143 X 6 dX1_flood_141 rfl rfl ?_
            refine v_iload 145 X 0 dX1_flood_143 rfl rfl ?_
            obtain ⟨z145, hz145, hF⟩ := ob hF
            refine v_iast 146 ([(bm, .inl (D.1 101, n, .inl z138)), (q4, .inl (D.1 100, n, .inl z145))] ++ LW D b0 b1 b2 b3 b4 b5 n n4 cols rows kd thr bt tm rea gr vl so dy cg) X 1 hz145 rfl dX1_flood_145 rfl rfl ?_
            refine v_iinc (v := (v5 + 1)) 149 [(5, .int (v5 + 1)), (8, .int z79), (0, .ref b0), (1, .ref bm), (2, .ref t1), (3, .ref (D.2 204 1)), (4, .ref q4), (6, .int v6), (7, .int v7)] X 6 dX1_flood_146 rfl rfl (by rfl) (by decide) rfl ?_
            exact v_lv [2, 3, 4, 5, 6, 0, 7, 8] rfl (w_X1_flood_d_59_j149 X hAm hl0 hl1 (v5 + 1) v6 v7 z145 hcb hsb hI hO hF)
theorem w_X1_flood_d_49 (X : CX p s m args meth c D A cX1_flood 10 "DyeLattice$Lattice") (hAm : AMB D A s) (hl0 : LamO (D.1 300) [.ref b0, .int k0] t1 A s.heap) (hl1 : LamO (D.1 301) [] (D.2 204 1) A s.heap) {q4 : Nat} {cb sb : Nat} (hcb : cb ≤ rmX1_flood_d.cells) (hsb : sb ≤ rmX1_flood_d.slots) : ∀ (fu : Nat) (x : Int32 × Int32 × (Nat → Int32) × (Nat → Int32)) (o : ((Nat → Int32) × (Nat → Int32))), loopN (fun x => L_flood_49 cols rows kd n n4 vl (fun x => L_lambda_mark_7 n gr k0 x) (fun x y => L_lambda_mark_8 x) x.1 x.2.1 x.2.2.1 x.2.2.2) fu x = some o → (V p l e rmX1_flood_d s m args below meth c D A 10 Q ([(bm, .inl (D.1 101, n, .inl o.1)), (q4, .inl (D.1 100, n, .inl o.2))] ++ LW D b0 b1 b2 b3 b4 b5 n n4 cols rows kd thr bt tm rea gr vl so dy cg) cb sb 236 [] []) → V p l e rmX1_flood_d s m args below meth c D A 10 Q ([(bm, .inl (D.1 101, n, .inl x.2.2.1)), (q4, .inl (D.1 100, n, .inl x.2.2.2))] ++ LW D b0 b1 b2 b3 b4 b5 n n4 cols rows kd thr bt tm rea gr vl so dy cg) cb sb 49 [(0, .ref b0), (1, .ref bm), (2, .ref t1), (3, .ref (D.2 204 1)), (4, .ref q4), (5, .int x.1), (6, .int x.2.1)] [] := by
  refine v_loop (fun (x : Int32 × Int32 × (Nat → Int32) × (Nat → Int32)) => V p l e rmX1_flood_d s m args below meth c D A 10 Q ([(bm, .inl (D.1 101, n, .inl x.2.2.1)), (q4, .inl (D.1 100, n, .inl x.2.2.2))] ++ LW D b0 b1 b2 b3 b4 b5 n n4 cols rows kd thr bt tm rea gr vl so dy cg) cb sb 49 [(0, .ref b0), (1, .ref bm), (2, .ref t1), (3, .ref (D.2 204 1)), (4, .ref q4), (5, .int x.1), (6, .int x.2.1)] []) (fun (o : ((Nat → Int32) × (Nat → Int32))) => V p l e rmX1_flood_d s m args below meth c D A 10 Q ([(bm, .inl (D.1 101, n, .inl o.1)), (q4, .inl (D.1 100, n, .inl o.2))] ++ LW D b0 b1 b2 b3 b4 b5 n n4 cols rows kd thr bt tm rea gr vl so dy cg) cb sb 236 [] []) ?_
  rintro ⟨v5, v6, mk, kn4⟩ r hF hI hO
  replace hF : L_flood_49 cols rows kd n n4 vl (fun x => L_lambda_mark_7 n gr k0 x) (fun x y => L_lambda_mark_8 x) v5 v6 mk kn4 = some r := hF
  show V p l e rmX1_flood_d s m args below meth c D A 10 Q ([(bm, .inl (D.1 101, n, .inl mk)), (q4, .inl (D.1 100, n, .inl kn4))] ++ LW D b0 b1 b2 b3 b4 b5 n n4 cols rows kd thr bt tm rea gr vl so dy cg) cb sb 49 [(0, .ref b0), (1, .ref bm), (2, .ref t1), (3, .ref (D.2 204 1)), (4, .ref q4), (5, .int v5), (6, .int v6)] []
  unfold L_flood_49 at hF
  refine v_iload 51 X 6 dX1_flood_49 rfl rfl ?_
  refine v_iload 53 X 5 dX1_flood_51 rfl rfl ?_
  refine v_icmp_ge 56 236 X dX1_flood_53 rfl (by decide) (fun h53 => ?_) (fun h53 => ?_)
  · replace hF := ifp h53 hF
    obtain rfl := Option.some.inj hF
    exact v_lv [] rfl ((hO _ rfl))
  · replace hF := ifn h53 hF
    refine v_iconst (v := 0) 57 X dX1_flood_56 rfl ki_0 ?_
    refine v_istore 59 [(7, .int 0), (0, .ref b0), (1, .ref bm), (2, .ref t1), (3, .ref (D.2 204 1)), (4, .ref q4), (5, .int v5), (6, .int v6)] X dX1_flood_57 rfl (by decide) rfl ?_
    obtain ⟨z59, hz59, hF⟩ := ob hF
    refine v_lv [1, 2, 3, 4, 5, 6, 7, 0] rfl (w_X1_flood_d_59 X hAm hl0 hl1 (by exact hcb) (by exact hsb) v6 _ (v5, 0, mk, kn4) _ hz59 ?_)
    refine v_iinc (v := (v6 + 1)) 233 [(6, .int (v6 + 1)), (0, .ref b0), (1, .ref bm), (2, .ref t1), (3, .ref (D.2 204 1)), (4, .ref q4), (5, .int z59.1)] X 6 dX1_flood_230 rfl rfl (by rfl) (by decide) rfl ?_
    refine v_goto 49 X dX1_flood_233 (by decide) ?_
    obtain rfl := Option.some.inj hF
    exact v_lv [1, 2, 3, 4, 5, 6, 0] rfl (hI _ rfl)
theorem w_X1_flood_d (r : (Nat → Int32)) (hF : L_flood cols rows kd n n4 vl mk (fun x => L_lambda_mark_7 n gr k0 x) (fun x y => L_lambda_mark_8 x) = some r) : CTv l yX1_flood cX1_flood 10 (Option.none : Option Jvm.ClassFile.FieldType) rmX1_flood_d D (LW D b0 b1 b2 b3 b4 b5 n n4 cols rows kd thr bt tm rea gr vl so dy cg ++ [(bm, .inl (D.1 101, n, .inl mk))]) [.ref b0, .ref bm, .ref t1, .ref (D.2 204 1)] (AML D [(t1, D.1 300, [.ref b0, .int k0]), ((D.2 204 1), D.1 301, [])]) (fun u => u = (LW D b0 b1 b2 b3 b4 b5 n n4 cols rows kd thr bt tm rea gr vl so dy cg ++ [(bm, .inl (D.1 101, n, .inl r))])) := by
  refine m_v (by decide) (Nat.le_of_ble_eq_true rfl) ?_
  intro p e s m args below meth c A B
  obtain ⟨X, hr, hAm, -, hnm, hnmd⟩ := B
  obtain ⟨hAm, hL⟩ := hAm
  have hl0 : LamO (D.1 300) [.ref b0, .int k0] t1 A s.heap := hL _ (List.Mem.head _)
  have hl1 : LamO (D.1 301) [] (D.2 204 1) A s.heap := hL _ (List.Mem.tail _ (List.Mem.head _))
  replace X : CX p s m args meth c D A cX1_flood 10 "DyeLattice$Lattice" := X
  refine v_lv (lv' := [(0, .ref b0), (1, .ref bm), (2, .ref t1), (3, .ref (D.2 204 1))]) [0, 1, 2, 3] rfl ?_
  unfold L_flood at hF
  refine v_aload_n 1 X 0 dX1_flood_0 rfl rfl rfl ?_
  have hz1 : L_cells n = some (nI n) := rfl
  refine vc_Vi (wr := ([(bm, .inl (D.1 101, n, .inl mk))])) 4 0 0 X 0 [] [0, 1, 2, 3, 4, 5] [6] (LW D b0 b1 b2 b3 b4 b5 n n4 cols rows kd thr bt tm rea gr vl so dy cg) rfl rfl (by decide) (by decide) (by decide) (w_X1_cells _ hz1) q394 q345 q346 q85 q347 hdX1_cells 0 rfl rfl (pass_amb hAm) ⟨Nat.le_of_ble_eq_true rfl, Nat.le_of_ble_eq_true rfl⟩ ⟨(Nat.le_of_ble_eq_true rfl), (Nat.le_of_ble_eq_true rfl)⟩ rfl rfl (Nat.le_of_ble_eq_true rfl) dX1_flood_1 rfl rfl rfl (fun r1 u1 e1 => ?_)
  obtain ⟨e11, rfl⟩ := e1
  have e12 := e11.symm
  subst e12
  refine v_ws (ws' := ([(bm, .inl (D.1 101, n, .inl mk))] ++ LW D b0 b1 b2 b3 b4 b5 n n4 cols rows kd thr bt tm rea gr vl so dy cg)) [0, 1, 2, 3, 4, 5, 6] (by decide) rfl ?_
  obtain ⟨z4, hz4, hF⟩ := ob hF
  refine v_newa (atype := .int) (mx := 80) (t0 := 0) (ty := .int) 6 1 80 X (lenN_s (Nat.le_of_ble_eq_true rfl) hz4) q190 rfl rfl (fun _ h1 h2 => ra_prim rfl rfl h1 h2) rfl (Nat.le_of_ble_eq_true rfl) (Nat.le_of_ble_eq_true rfl) (Nat.le_of_ble_eq_true rfl) dX1_flood_4 rfl rfl rfl (fun q4 => ?_)
  refine v_ws (ws' := ([(bm, .inl (D.1 101, n, .inl mk))] ++ LW D b0 b1 b2 b3 b4 b5 n n4 cols rows kd thr bt tm rea gr vl so dy cg ++ [(q4, .inl (D.1 100, n, .inl (fun _ => 0)))])) [0, 1, 2, 3, 4, 5, 6, 7] (by decide) rfl ?_
  refine v_astore 8 [(4, .ref q4), (0, .ref b0), (1, .ref bm), (2, .ref t1), (3, .ref (D.2 204 1))] X dX1_flood_6 rfl (by decide) rfl ?_
  refine v_iconst (v := 0) 9 X dX1_flood_8 rfl ki_0 ?_
  refine v_istore 11 [(5, .int 0), (4, .ref q4), (0, .ref b0), (1, .ref bm), (2, .ref t1), (3, .ref (D.2 204 1))] X dX1_flood_9 rfl (by decide) rfl ?_
  refine v_iconst (v := 0) 12 X dX1_flood_11 rfl ki_0 ?_
  refine v_istore 14 [(6, .int 0), (5, .int 0), (4, .ref q4), (0, .ref b0), (1, .ref bm), (2, .ref t1), (3, .ref (D.2 204 1))] X dX1_flood_12 rfl (by decide) rfl ?_
  obtain ⟨z14, hz14, hF⟩ := ob hF
  refine v_lv [3, 4, 5, 6, 2, 1, 0] rfl (w_X1_flood_d_14 X hAm hl0 hl1 (Nat.le_of_ble_eq_true rfl) (Nat.le_of_ble_eq_true rfl) _ (0, 0, (fun _ => 0)) _ hz14 ?_)
  refine v_iconst (v := 0) 47 X dX1_flood_46 rfl ki_0 ?_
  refine v_istore 49 [(6, .int 0), (0, .ref b0), (1, .ref bm), (2, .ref t1), (3, .ref (D.2 204 1)), (4, .ref q4), (5, .int z14.1)] X dX1_flood_47 rfl (by decide) rfl ?_
  obtain ⟨z49, hz49, hF⟩ := ob hF
  refine v_ws (ws' := ([(bm, .inl (D.1 101, n, .inl mk)), (q4, .inl (D.1 100, n, .inl z14.2))] ++ LW D b0 b1 b2 b3 b4 b5 n n4 cols rows kd thr bt tm rea gr vl so dy cg)) [0, 7, 1, 2, 3, 4, 5, 6] (by decide) rfl ?_
  refine v_lv [1, 2, 3, 4, 5, 6, 0] rfl (w_X1_flood_d_49 X hAm hl0 hl1 (Nat.le_of_ble_eq_true rfl) (Nat.le_of_ble_eq_true rfl) _ (z14.1, 0, mk, z14.2) _ hz49 ?_)
  obtain rfl := Option.some.inj hF
  refine v_ws (ws' := (LW D b0 b1 b2 b3 b4 b5 n n4 cols rows kd thr bt tm rea gr vl so dy cg ++ [(bm, .inl (D.1 101, n, .inl z49.1))])) [2, 3, 4, 5, 6, 7, 0] (by decide) rfl ?_
  exact v_vret X hr rfl (Nat.le_of_ble_eq_true rfl) (Nat.le_of_ble_eq_true rfl) dX1_flood_236
theorem w_X1_reached_a_10 (X : CX p s m args meth c D A cX1_reached 5 "DyeLattice$Lattice") (hAm : AMB D A s) (hl0 : LamO (D.1 305) [.ref b0] t2 A s.heap) (hl1 : LamO (D.1 306) [.ref b0, .int k0, .int k1] t1 A s.heap) (hnmd : s.methodNamed? yX1_reached = some m) {q4 : Nat} {cb sb : Nat} (hcb : cb ≤ rmX1_reached_a.cells) (hsb : sb ≤ rmX1_reached_a.slots) : ∀ (fu : Nat) (x : Int32 × (Nat → Int32)) (o : ((Nat → Int32))), loopN (fun x => L_reached_10 n (fun x => L_lambda_spans_2 n gr k0 k1 x) (fun x => L_lambda_spans_1 cols x) x.1 x.2) fu x = some o → (V p l e rmX1_reached_a s m args below meth c D A 5 Q (LW D b0 b1 b2 b3 b4 b5 n n4 cols rows kd thr bt tm rea gr vl so dy cg ++ [(q4, .inl (D.1 101, n, .inl o))]) cb sb 56 [(0, .ref b0), (2, .ref t1), (3, .ref q4)] []) → V p l e rmX1_reached_a s m args below meth c D A 5 Q (LW D b0 b1 b2 b3 b4 b5 n n4 cols rows kd thr bt tm rea gr vl so dy cg ++ [(q4, .inl (D.1 101, n, .inl x.2))]) cb sb 10 [(0, .ref b0), (1, .ref t2), (2, .ref t1), (3, .ref q4), (4, .int x.1)] [] := by
  refine v_loop (fun (x : Int32 × (Nat → Int32)) => V p l e rmX1_reached_a s m args below meth c D A 5 Q (LW D b0 b1 b2 b3 b4 b5 n n4 cols rows kd thr bt tm rea gr vl so dy cg ++ [(q4, .inl (D.1 101, n, .inl x.2))]) cb sb 10 [(0, .ref b0), (1, .ref t2), (2, .ref t1), (3, .ref q4), (4, .int x.1)] []) (fun (o : ((Nat → Int32))) => V p l e rmX1_reached_a s m args below meth c D A 5 Q (LW D b0 b1 b2 b3 b4 b5 n n4 cols rows kd thr bt tm rea gr vl so dy cg ++ [(q4, .inl (D.1 101, n, .inl o))]) cb sb 56 [(0, .ref b0), (2, .ref t1), (3, .ref q4)] []) ?_
  rintro ⟨v4, kn4⟩ r hF hI hO
  replace hF : L_reached_10 n (fun x => L_lambda_spans_2 n gr k0 k1 x) (fun x => L_lambda_spans_1 cols x) v4 kn4 = some r := hF
  show V p l e rmX1_reached_a s m args below meth c D A 5 Q (LW D b0 b1 b2 b3 b4 b5 n n4 cols rows kd thr bt tm rea gr vl so dy cg ++ [(q4, .inl (D.1 101, n, .inl kn4))]) cb sb 10 [(0, .ref b0), (1, .ref t2), (2, .ref t1), (3, .ref q4), (4, .int v4)] []
  unfold L_reached_10 at hF
  refine v_iload 12 X 4 dX1_reached_10 rfl rfl ?_
  refine v_aload_n 13 X 0 dX1_reached_12 rfl rfl rfl ?_
  have hz13 : L_cells n = some (nI n) := rfl
  refine vc_Vi (wr := ([(q4, .inl (D.1 101, n, .inl kn4))])) 16 cb sb X 0 [] [0, 1, 2, 3, 4, 5] [6] (LW D b0 b1 b2 b3 b4 b5 n n4 cols rows kd thr bt tm rea gr vl so dy cg) rfl rfl (by decide) (by decide) (by decide) (w_X1_cells _ hz13) q394 q345 q346 q85 q347 hdX1_cells 0 rfl rfl (pass_amb hAm) ⟨Nat.le_of_ble_eq_true rfl, Nat.le_of_ble_eq_true rfl⟩ ⟨(by exact hcb), (by exact hsb)⟩ rfl rfl (Nat.le_of_ble_eq_true rfl) dX1_reached_13 rfl (by show cb + 0 = cb + 0; omega) (by show sb + 0 = sb + 0; omega) (fun r13 u13 e13 => ?_)
  obtain ⟨e131, rfl⟩ := e13
  have e132 := e131.symm
  subst e132
  refine v_ws (ws' := ([(q4, .inl (D.1 101, n, .inl kn4))] ++ LW D b0 b1 b2 b3 b4 b5 n n4 cols rows kd thr bt tm rea gr vl so dy cg)) [0, 1, 2, 3, 4, 5, 6] (by decide) rfl ?_
  refine v_icmp_ge 19 56 X dX1_reached_16 rfl (by decide) (fun h16 => ?_) (fun h16 => ?_)
  · replace hF := ifp h16 hF
    obtain rfl := Option.some.inj hF
    refine v_ws (ws' := (LW D b0 b1 b2 b3 b4 b5 n n4 cols rows kd thr bt tm rea gr vl so dy cg ++ [(q4, .inl (D.1 101, n, .inl kn4))])) [1, 2, 3, 4, 5, 6, 0] (by decide) rfl ?_
    exact v_lv [0, 2, 3] rfl ((hO _ rfl))
  · replace hF := ifn h16 hF
    refine v_aload_n 20 X 3 dX1_reached_19 rfl rfl rfl ?_
    refine v_iload 22 X 4 dX1_reached_20 rfl rfl ?_
    refine v_aload_n 23 X 2 dX1_reached_22 rfl rfl rfl ?_
    refine v_iload 25 X 4 dX1_reached_23 rfl rfl ?_
    obtain ⟨z25, hz25, hF⟩ := ob hF
    obtain ⟨hz25, hnz25⟩ := tz_s hz25
    replace hz25 : L_lambda_spans_2 n gr k0 k1 v4 = some z25 := hz25
    refine v_icI (wr := ([(q4, .inl (D.1 101, n, .inl kn4))])) 30 X hAm 0 6 (by decide) (by decide) (σ := sg6) rfl rfl rfl (by decide +kernel) rfl rfl (by decide) sok6 fd6_13 hl1 (y := yX1_lambda_spans_2) rfl rfl (by decide +kernel) [.int k0, .int k1, .int v4] [.int v4] [1, 2, 3, 4, 5, 6] [0] (LW D b0 b1 b2 b3 b4 b5 n n4 cols rows kd thr bt tm rea gr vl so dy cg) rfl rfl (by decide) (by decide) (by decide) (w_X1_lambda_spans_2 k0 k1 v4 _ hz25) (fbI3 fd6_0 fd6_1 fd6_4 fd6_5 fd6_8 fd6_9 fd6_12 fd6_13 fd6_16) hnz25 (ic_link dX1_reached_25 q1021) q1107 qs31 1 rfl rfl q85 q1108 ⟨by decide, by decide⟩ hdX1_lambda_spans_2.2.2.2 ifl0 ⟨Nat.le_of_ble_eq_true rfl, Nat.le_of_ble_eq_true rfl⟩ ⟨(by exact hcb), (by exact hsb)⟩ rfl (Nat.le_of_ble_eq_true rfl) dX1_reached_25 rfl ?_
    refine v_ws (ws' := ([(q4, .inl (D.1 101, n, .inl kn4))] ++ LW D b0 b1 b2 b3 b4 b5 n n4 cols rows kd thr bt tm rea gr vl so dy cg)) [0, 1, 2, 3, 4, 5, 6] (by decide) rfl ?_
    refine v_if_eq 33 48 X dX1_reached_30 rfl (by decide) (fun h30 => ?_) (fun h30 => ?_)
    · replace hF := ifp h30 hF
      refine v_iconst (v := 0) 49 X dX1_reached_48 rfl ki_0 ?_
      obtain ⟨z49, hz49, hF⟩ := ob hF
      refine v_zast 50 ([(q4, .inl (D.1 101, n, .inl z49))] ++ LW D b0 b1 b2 b3 b4 b5 n n4 cols rows kd thr bt tm rea gr vl so dy cg) X 0 hz49 rfl dX1_reached_49 rfl rfl ?_
      refine v_iinc (v := (v4 + 1)) 53 [(4, .int (v4 + 1)), (0, .ref b0), (1, .ref t2), (2, .ref t1), (3, .ref q4)] X 4 dX1_reached_50 rfl rfl (by rfl) (by decide) rfl ?_
      refine v_goto 10 X dX1_reached_53 (by decide) ?_
      obtain rfl := Option.some.inj hF
      refine v_ws (ws' := (LW D b0 b1 b2 b3 b4 b5 n n4 cols rows kd thr bt tm rea gr vl so dy cg ++ [(q4, .inl (D.1 101, n, .inl z49))])) [1, 2, 3, 4, 5, 6, 0] (by decide) rfl ?_
      exact v_lv [1, 2, 3, 4, 0] rfl (hI _ rfl)
    · replace hF := ifn h30 hF
      refine v_aload_n 34 X 1 dX1_reached_33 rfl rfl rfl ?_
      refine v_iload 36 X 4 dX1_reached_34 rfl rfl ?_
      obtain ⟨z36, hz36, hF⟩ := ob hF
      obtain ⟨hz36, hnz36⟩ := tz_s hz36
      replace hz36 : L_lambda_spans_1 cols v4 = some z36 := hz36
      refine v_icI (wr := ([(q4, .inl (D.1 101, n, .inl kn4))])) 41 X hAm 0 5 (by decide) (by decide) (σ := sg5) rfl rfl rfl (by decide +kernel) rfl rfl (by decide) sok5 fd5_5 hl0 (y := yX1_lambda_spans_1) rfl rfl (by decide +kernel) [.int v4] [.int v4] [1, 2, 3, 4, 5, 6] [0] (LW D b0 b1 b2 b3 b4 b5 n n4 cols rows kd thr bt tm rea gr vl so dy cg) rfl rfl (by decide) (by decide) (by decide) (w_X1_lambda_spans_1 v4 _ hz36) (fbI1 fd5_0 fd5_1 fd5_4 fd5_5 fd5_8) hnz36 (ic_link dX1_reached_36 q1021) q1104 qs30 1 rfl rfl q85 q1105 ⟨by decide, by decide⟩ hdX1_lambda_spans_1.2.2.2 ifl0 ⟨Nat.le_of_ble_eq_true rfl, Nat.le_of_ble_eq_true rfl⟩ ⟨(by exact hcb), (by exact hsb)⟩ rfl (Nat.le_of_ble_eq_true rfl) dX1_reached_36 rfl ?_
      refine v_ws (ws' := ([(q4, .inl (D.1 101, n, .inl kn4))] ++ LW D b0 b1 b2 b3 b4 b5 n n4 cols rows kd thr bt tm rea gr vl so dy cg)) [0, 1, 2, 3, 4, 5, 6] (by decide) rfl ?_
      refine v_if_eq 44 48 X dX1_reached_41 rfl (by decide) (fun h41 => ?_) (fun h41 => ?_)
      · replace hF := ifp h41 hF
        refine v_iconst (v := 0) 49 X dX1_reached_48 rfl ki_0 ?_
        obtain ⟨z49, hz49, hF⟩ := ob hF
        refine v_zast 50 ([(q4, .inl (D.1 101, n, .inl z49))] ++ LW D b0 b1 b2 b3 b4 b5 n n4 cols rows kd thr bt tm rea gr vl so dy cg) X 0 hz49 rfl dX1_reached_49 rfl rfl ?_
        refine v_iinc (v := (v4 + 1)) 53 [(4, .int (v4 + 1)), (0, .ref b0), (1, .ref t2), (2, .ref t1), (3, .ref q4)] X 4 dX1_reached_50 rfl rfl (by rfl) (by decide) rfl ?_
        refine v_goto 10 X dX1_reached_53 (by decide) ?_
        obtain rfl := Option.some.inj hF
        refine v_ws (ws' := (LW D b0 b1 b2 b3 b4 b5 n n4 cols rows kd thr bt tm rea gr vl so dy cg ++ [(q4, .inl (D.1 101, n, .inl z49))])) [1, 2, 3, 4, 5, 6, 0] (by decide) rfl ?_
        exact v_lv [1, 2, 3, 4, 0] rfl (hI _ rfl)
      · replace hF := ifn h41 hF
        refine v_iconst (v := 1) 45 X dX1_reached_44 rfl ki_1 ?_
        refine v_goto 49 X dX1_reached_45 (by decide) ?_
        obtain ⟨z49, hz49, hF⟩ := ob hF
        refine v_zast 50 ([(q4, .inl (D.1 101, n, .inl z49))] ++ LW D b0 b1 b2 b3 b4 b5 n n4 cols rows kd thr bt tm rea gr vl so dy cg) X 0 hz49 rfl dX1_reached_49 rfl rfl ?_
        refine v_iinc (v := (v4 + 1)) 53 [(4, .int (v4 + 1)), (0, .ref b0), (1, .ref t2), (2, .ref t1), (3, .ref q4)] X 4 dX1_reached_50 rfl rfl (by rfl) (by decide) rfl ?_
        refine v_goto 10 X dX1_reached_53 (by decide) ?_
        obtain rfl := Option.some.inj hF
        refine v_ws (ws' := (LW D b0 b1 b2 b3 b4 b5 n n4 cols rows kd thr bt tm rea gr vl so dy cg ++ [(q4, .inl (D.1 101, n, .inl z49))])) [1, 2, 3, 4, 5, 6, 0] (by decide) rfl ?_
        exact v_lv [1, 2, 3, 4, 0] rfl (hI _ rfl)
theorem w_X1_reached_a (r : (Nat → Int32)) (hF : L_reached cols rows kd n n4 vl (fun x => L_lambda_spans_2 n gr k0 k1 x) (fun x => L_lambda_spans_1 cols x) = some r) : CTr l yX1_reached cX1_reached 5 (Option.some (Jvm.ClassFile.FieldType.array Jvm.ClassFile.FieldType.boolean)) rmX1_reached_a D (LW D b0 b1 b2 b3 b4 b5 n n4 cols rows kd thr bt tm rea gr vl so dy cg) [.ref b0, .ref t2, .ref t1] (AML D [(t2, D.1 305, [.ref b0]), (t1, D.1 306, [.ref b0, .int k0, .int k1])]) (fun a1 u => ∃ qa6 : Nat, a1 = qa6 ∧ u = (LW D b0 b1 b2 b3 b4 b5 n n4 cols rows kd thr bt tm rea gr vl so dy cg ++ [(qa6, .inl (D.1 101, n, .inl r))])) := by
  refine m_r (by decide) (Nat.le_of_ble_eq_true rfl) ?_
  intro p e s m args below meth c A B
  obtain ⟨X, hr, hAm, -, hnm, hnmd⟩ := B
  obtain ⟨hAm, hL⟩ := hAm
  have hl0 : LamO (D.1 305) [.ref b0] t2 A s.heap := hL _ (List.Mem.head _)
  have hl1 : LamO (D.1 306) [.ref b0, .int k0, .int k1] t1 A s.heap := hL _ (List.Mem.tail _ (List.Mem.head _))
  replace X : CX p s m args meth c D A cX1_reached 5 "DyeLattice$Lattice" := X
  refine v_lv (lv' := [(0, .ref b0), (1, .ref t2), (2, .ref t1)]) [0, 1, 2] rfl ?_
  unfold L_reached at hF
  refine v_aload_n 1 X 0 dX1_reached_0 rfl rfl rfl ?_
  have hz1 : L_cells n = some (nI n) := rfl
  refine v_mVi 4 X 0 [] (w_X1_cells _ hz1) q394 q345 q346 q85 q347 hdX1_cells 0 rfl rfl (pass_amb hAm) ⟨rfl, rfl⟩ ⟨Nat.le_of_ble_eq_true rfl, Nat.le_of_ble_eq_true rfl⟩ ⟨(Nat.le_of_ble_eq_true rfl), (Nat.le_of_ble_eq_true rfl)⟩ rfl rfl (Nat.le_of_ble_eq_true rfl) dX1_reached_1 rfl ?_
  obtain ⟨z4, hz4, hF⟩ := ob hF
  refine v_newa (atype := .boolean) (mx := 80) (t0 := 1) (ty := .boolean) 6 1 80 X (lenN_s (Nat.le_of_ble_eq_true rfl) hz4) q191 rfl rfl (fun _ h1 h2 => ra_prim rfl rfl h1 h2) rfl (Nat.le_of_ble_eq_true rfl) (Nat.le_of_ble_eq_true rfl) (Nat.le_of_ble_eq_true rfl) dX1_reached_4 rfl rfl rfl (fun q4 => ?_)
  refine v_ws (ws' := (LW D b0 b1 b2 b3 b4 b5 n n4 cols rows kd thr bt tm rea gr vl so dy cg ++ [(q4, .inl (D.1 101, n, .inl (fun _ => 0)))])) [0, 1, 2, 3, 4, 5, 6] (by decide) rfl ?_
  refine v_astore_n 7 [(3, .ref q4), (0, .ref b0), (1, .ref t2), (2, .ref t1)] X dX1_reached_6 rfl rfl (by decide) rfl ?_
  refine v_iconst (v := 0) 8 X dX1_reached_7 rfl ki_0 ?_
  refine v_istore 10 [(4, .int 0), (3, .ref q4), (0, .ref b0), (1, .ref t2), (2, .ref t1)] X dX1_reached_8 rfl (by decide) rfl ?_
  obtain ⟨z10, hz10, hF⟩ := ob hF
  refine v_lv [2, 3, 4, 1, 0] rfl (w_X1_reached_a_10 X hAm hl0 hl1 hnmd (Nat.le_of_ble_eq_true rfl) (Nat.le_of_ble_eq_true rfl) _ (0, (fun _ => 0)) _ hz10 ?_)
  refine v_aload_n 57 X 0 dX1_reached_56 rfl rfl rfl ?_
  refine v_aload_n 58 X 2 dX1_reached_57 rfl rfl rfl ?_
  refine v_aload_n 59 X 1 dX1_reached_58 rfl rfl rfl ?_
  refine vl_of ?_
  refine vl_const 64 X hAm 4 (by decide) (by decide) (x := yX1_reached) rfl hnmd rfl (Nat.le_of_ble_eq_true rfl) dX1_reached_59 rfl ?_
  obtain ⟨z64, hz64, hF⟩ := ob hF
  refine vl_Vv (wr := ([] : va_W)) 67 2 160 X 3 [.ref q4, .ref t1, .ref (D.2 204 4)] [0, 1, 2, 3, 4, 5, 6] [] (LW D b0 b1 b2 b3 b4 b5 n n4 cols rows kd thr bt tm rea gr vl so dy cg ++ [(q4, .inl (D.1 101, n, .inl z10))]) rfl rfl (by decide) (by decide) (by decide) (w_X1_flood_a _ hz64) q1016 q1018 qs23 q85 q1019 hdX1_flood 0 rfl rfl (aml_blind hAm) (aml_xp hAm (List.forall_mem_cons.mpr ⟨Or.inr hl1, (List.forall_mem_cons.mpr ⟨Or.inr (lamC hAm 4 (by decide) (by decide)), (fun _ h => by cases h)⟩)⟩)) ⟨Nat.le_of_ble_eq_true rfl, Nat.le_of_ble_eq_true rfl⟩ ⟨(Nat.le_of_ble_eq_true rfl), (Nat.le_of_ble_eq_true rfl)⟩ rfl rfl (Nat.le_of_ble_eq_true rfl) dX1_reached_64 rfl rfl rfl (fun u64 e64 => ?_)
  subst e64
  refine v_ws (ws' := (LW D b0 b1 b2 b3 b4 b5 n n4 cols rows kd thr bt tm rea gr vl so dy cg ++ [(q4, .inl (D.1 101, n, .inl z64))])) [0, 1, 2, 3, 4, 5, 6] (by decide) rfl ?_
  refine v_aload_n 68 X 2 dX1_reached_67 rfl rfl rfl ?_
  obtain rfl := Option.some.inj hF
  refine v_aret (post := (fun r : (Nat → Int32) => (fun a1 u => ∃ qa6 : Nat, a1 = qa6 ∧ u = (LW D b0 b1 b2 b3 b4 b5 n n4 cols rows kd thr bt tm rea gr vl so dy cg ++ [(qa6, .inl (D.1 101, n, .inl r))]))) z64) X hr (Or.inr ⟨_, rfl⟩) ?_ ?_ ?_ dX1_reached_68
  · exact ⟨q4, rfl, rfl⟩
  · exact Nat.le_of_ble_eq_true rfl
  · exact Nat.le_of_ble_eq_true rfl
theorem w_X1_reached_b_10 (X : CX p s m args meth c D A cX1_reached 5 "DyeLattice$Lattice") (hAm : AMB D A s) (hl0 : LamO (D.1 309) [.int k2] t2 A s.heap) (hl1 : LamO (D.1 310) [.ref b0, .int k0] t1 A s.heap) (hnmd : s.methodNamed? yX1_reached = some m) {q4 : Nat} {cb sb : Nat} (hcb : cb ≤ rmX1_reached_b.cells) (hsb : sb ≤ rmX1_reached_b.slots) : ∀ (fu : Nat) (x : Int32 × (Nat → Int32)) (o : ((Nat → Int32))), loopN (fun x => L_reached_10 n (fun x => L_lambda_hasWay_4 n gr k0 x) (fun x => L_lambda_hasWay_3 k2 x) x.1 x.2) fu x = some o → (V p l e rmX1_reached_b s m args below meth c D A 5 Q (LW D b0 b1 b2 b3 b4 b5 n n4 cols rows kd thr bt tm rea gr vl so dy cg ++ [(q4, .inl (D.1 101, n, .inl o))]) cb sb 56 [(0, .ref b0), (2, .ref t1), (3, .ref q4)] []) → V p l e rmX1_reached_b s m args below meth c D A 5 Q (LW D b0 b1 b2 b3 b4 b5 n n4 cols rows kd thr bt tm rea gr vl so dy cg ++ [(q4, .inl (D.1 101, n, .inl x.2))]) cb sb 10 [(0, .ref b0), (1, .ref t2), (2, .ref t1), (3, .ref q4), (4, .int x.1)] [] := by
  refine v_loop (fun (x : Int32 × (Nat → Int32)) => V p l e rmX1_reached_b s m args below meth c D A 5 Q (LW D b0 b1 b2 b3 b4 b5 n n4 cols rows kd thr bt tm rea gr vl so dy cg ++ [(q4, .inl (D.1 101, n, .inl x.2))]) cb sb 10 [(0, .ref b0), (1, .ref t2), (2, .ref t1), (3, .ref q4), (4, .int x.1)] []) (fun (o : ((Nat → Int32))) => V p l e rmX1_reached_b s m args below meth c D A 5 Q (LW D b0 b1 b2 b3 b4 b5 n n4 cols rows kd thr bt tm rea gr vl so dy cg ++ [(q4, .inl (D.1 101, n, .inl o))]) cb sb 56 [(0, .ref b0), (2, .ref t1), (3, .ref q4)] []) ?_
  rintro ⟨v4, kn4⟩ r hF hI hO
  replace hF : L_reached_10 n (fun x => L_lambda_hasWay_4 n gr k0 x) (fun x => L_lambda_hasWay_3 k2 x) v4 kn4 = some r := hF
  show V p l e rmX1_reached_b s m args below meth c D A 5 Q (LW D b0 b1 b2 b3 b4 b5 n n4 cols rows kd thr bt tm rea gr vl so dy cg ++ [(q4, .inl (D.1 101, n, .inl kn4))]) cb sb 10 [(0, .ref b0), (1, .ref t2), (2, .ref t1), (3, .ref q4), (4, .int v4)] []
  unfold L_reached_10 at hF
  refine v_iload 12 X 4 dX1_reached_10 rfl rfl ?_
  refine v_aload_n 13 X 0 dX1_reached_12 rfl rfl rfl ?_
  have hz13 : L_cells n = some (nI n) := rfl
  refine vc_Vi (wr := ([(q4, .inl (D.1 101, n, .inl kn4))])) 16 cb sb X 0 [] [0, 1, 2, 3, 4, 5] [6] (LW D b0 b1 b2 b3 b4 b5 n n4 cols rows kd thr bt tm rea gr vl so dy cg) rfl rfl (by decide) (by decide) (by decide) (w_X1_cells _ hz13) q394 q345 q346 q85 q347 hdX1_cells 0 rfl rfl (pass_amb hAm) ⟨Nat.le_of_ble_eq_true rfl, Nat.le_of_ble_eq_true rfl⟩ ⟨(by exact hcb), (by exact hsb)⟩ rfl rfl (Nat.le_of_ble_eq_true rfl) dX1_reached_13 rfl (by show cb + 0 = cb + 0; omega) (by show sb + 0 = sb + 0; omega) (fun r13 u13 e13 => ?_)
  obtain ⟨e131, rfl⟩ := e13
  have e132 := e131.symm
  subst e132
  refine v_ws (ws' := ([(q4, .inl (D.1 101, n, .inl kn4))] ++ LW D b0 b1 b2 b3 b4 b5 n n4 cols rows kd thr bt tm rea gr vl so dy cg)) [0, 1, 2, 3, 4, 5, 6] (by decide) rfl ?_
  refine v_icmp_ge 19 56 X dX1_reached_16 rfl (by decide) (fun h16 => ?_) (fun h16 => ?_)
  · replace hF := ifp h16 hF
    obtain rfl := Option.some.inj hF
    refine v_ws (ws' := (LW D b0 b1 b2 b3 b4 b5 n n4 cols rows kd thr bt tm rea gr vl so dy cg ++ [(q4, .inl (D.1 101, n, .inl kn4))])) [1, 2, 3, 4, 5, 6, 0] (by decide) rfl ?_
    exact v_lv [0, 2, 3] rfl ((hO _ rfl))
  · replace hF := ifn h16 hF
    refine v_aload_n 20 X 3 dX1_reached_19 rfl rfl rfl ?_
    refine v_iload 22 X 4 dX1_reached_20 rfl rfl ?_
    refine v_aload_n 23 X 2 dX1_reached_22 rfl rfl rfl ?_
    refine v_iload 25 X 4 dX1_reached_23 rfl rfl ?_
    obtain ⟨z25, hz25, hF⟩ := ob hF
    obtain ⟨hz25, hnz25⟩ := tz_s hz25
    replace hz25 : L_lambda_hasWay_4 n gr k0 v4 = some z25 := hz25
    refine v_icI (wr := ([(q4, .inl (D.1 101, n, .inl kn4))])) 30 X hAm 0 10 (by decide) (by decide) (σ := sg10) rfl rfl rfl (by decide +kernel) rfl rfl (by decide) sok10 fd10_9 hl1 (y := yX1_lambda_hasWay_4) rfl rfl (by decide +kernel) [.int k0, .int v4] [.int v4] [1, 2, 3, 4, 5, 6] [0] (LW D b0 b1 b2 b3 b4 b5 n n4 cols rows kd thr bt tm rea gr vl so dy cg) rfl rfl (by decide) (by decide) (by decide) (w_X1_lambda_hasWay_4 k0 v4 _ hz25) (fbI2 fd10_0 fd10_1 fd10_4 fd10_5 fd10_8 fd10_9 fd10_12) hnz25 (ic_link dX1_reached_25 q1021) q1146 qs34 1 rfl rfl q85 q1147 ⟨by decide, by decide⟩ hdX1_lambda_hasWay_4.2.2.2 ifl0 ⟨Nat.le_of_ble_eq_true rfl, Nat.le_of_ble_eq_true rfl⟩ ⟨(by exact hcb), (by exact hsb)⟩ rfl (Nat.le_of_ble_eq_true rfl) dX1_reached_25 rfl ?_
    refine v_ws (ws' := ([(q4, .inl (D.1 101, n, .inl kn4))] ++ LW D b0 b1 b2 b3 b4 b5 n n4 cols rows kd thr bt tm rea gr vl so dy cg)) [0, 1, 2, 3, 4, 5, 6] (by decide) rfl ?_
    refine v_if_eq 33 48 X dX1_reached_30 rfl (by decide) (fun h30 => ?_) (fun h30 => ?_)
    · replace hF := ifp h30 hF
      refine v_iconst (v := 0) 49 X dX1_reached_48 rfl ki_0 ?_
      obtain ⟨z49, hz49, hF⟩ := ob hF
      refine v_zast 50 ([(q4, .inl (D.1 101, n, .inl z49))] ++ LW D b0 b1 b2 b3 b4 b5 n n4 cols rows kd thr bt tm rea gr vl so dy cg) X 0 hz49 rfl dX1_reached_49 rfl rfl ?_
      refine v_iinc (v := (v4 + 1)) 53 [(4, .int (v4 + 1)), (0, .ref b0), (1, .ref t2), (2, .ref t1), (3, .ref q4)] X 4 dX1_reached_50 rfl rfl (by rfl) (by decide) rfl ?_
      refine v_goto 10 X dX1_reached_53 (by decide) ?_
      obtain rfl := Option.some.inj hF
      refine v_ws (ws' := (LW D b0 b1 b2 b3 b4 b5 n n4 cols rows kd thr bt tm rea gr vl so dy cg ++ [(q4, .inl (D.1 101, n, .inl z49))])) [1, 2, 3, 4, 5, 6, 0] (by decide) rfl ?_
      exact v_lv [1, 2, 3, 4, 0] rfl (hI _ rfl)
    · replace hF := ifn h30 hF
      refine v_aload_n 34 X 1 dX1_reached_33 rfl rfl rfl ?_
      refine v_iload 36 X 4 dX1_reached_34 rfl rfl ?_
      obtain ⟨z36, hz36, hF⟩ := ob hF
      obtain ⟨hz36, hnz36⟩ := tz_s hz36
      replace hz36 : L_lambda_hasWay_3 k2 v4 = some z36 := hz36
      refine v_icS (wr := ([(q4, .inl (D.1 101, n, .inl kn4))] ++ LW D b0 b1 b2 b3 b4 b5 n n4 cols rows kd thr bt tm rea gr vl so dy cg)) 41 X hAm 0 9 (by decide) (by decide) (σ := sg9) rfl rfl rfl (by decide +kernel) rfl rfl (by decide) sok9 fd9_5 hl0 (y := yX1_lambda_hasWay_3) rfl rfl (by decide +kernel) [.int k2, .int v4] [.int v4] [] [0, 1, 2, 3, 4, 5, 6] ([] : va_W) rfl rfl (by decide) (by decide) (by decide) (w_X1_lambda_hasWay_3 k2 v4 _ hz36) (fbS1 fd9_0 fd9_1 fd9_4 fd9_5 fd9_8) hnz36 (ic_link dX1_reached_36 q1021) q1143 q85 q1144 ⟨by decide, by decide⟩ hdX1_lambda_hasWay_3.2.2 ifl0 ⟨Nat.le_of_ble_eq_true rfl, Nat.le_of_ble_eq_true rfl⟩ ⟨(by exact hcb), (by exact hsb)⟩ rfl (Nat.le_of_ble_eq_true rfl) dX1_reached_36 rfl ?_
      refine v_ws (ws' := ([(q4, .inl (D.1 101, n, .inl kn4))] ++ LW D b0 b1 b2 b3 b4 b5 n n4 cols rows kd thr bt tm rea gr vl so dy cg)) [0, 1, 2, 3, 4, 5, 6] (by decide) rfl ?_
      refine v_if_eq 44 48 X dX1_reached_41 rfl (by decide) (fun h41 => ?_) (fun h41 => ?_)
      · replace hF := ifp h41 hF
        refine v_iconst (v := 0) 49 X dX1_reached_48 rfl ki_0 ?_
        obtain ⟨z49, hz49, hF⟩ := ob hF
        refine v_zast 50 ([(q4, .inl (D.1 101, n, .inl z49))] ++ LW D b0 b1 b2 b3 b4 b5 n n4 cols rows kd thr bt tm rea gr vl so dy cg) X 0 hz49 rfl dX1_reached_49 rfl rfl ?_
        refine v_iinc (v := (v4 + 1)) 53 [(4, .int (v4 + 1)), (0, .ref b0), (1, .ref t2), (2, .ref t1), (3, .ref q4)] X 4 dX1_reached_50 rfl rfl (by rfl) (by decide) rfl ?_
        refine v_goto 10 X dX1_reached_53 (by decide) ?_
        obtain rfl := Option.some.inj hF
        refine v_ws (ws' := (LW D b0 b1 b2 b3 b4 b5 n n4 cols rows kd thr bt tm rea gr vl so dy cg ++ [(q4, .inl (D.1 101, n, .inl z49))])) [1, 2, 3, 4, 5, 6, 0] (by decide) rfl ?_
        exact v_lv [1, 2, 3, 4, 0] rfl (hI _ rfl)
      · replace hF := ifn h41 hF
        refine v_iconst (v := 1) 45 X dX1_reached_44 rfl ki_1 ?_
        refine v_goto 49 X dX1_reached_45 (by decide) ?_
        obtain ⟨z49, hz49, hF⟩ := ob hF
        refine v_zast 50 ([(q4, .inl (D.1 101, n, .inl z49))] ++ LW D b0 b1 b2 b3 b4 b5 n n4 cols rows kd thr bt tm rea gr vl so dy cg) X 0 hz49 rfl dX1_reached_49 rfl rfl ?_
        refine v_iinc (v := (v4 + 1)) 53 [(4, .int (v4 + 1)), (0, .ref b0), (1, .ref t2), (2, .ref t1), (3, .ref q4)] X 4 dX1_reached_50 rfl rfl (by rfl) (by decide) rfl ?_
        refine v_goto 10 X dX1_reached_53 (by decide) ?_
        obtain rfl := Option.some.inj hF
        refine v_ws (ws' := (LW D b0 b1 b2 b3 b4 b5 n n4 cols rows kd thr bt tm rea gr vl so dy cg ++ [(q4, .inl (D.1 101, n, .inl z49))])) [1, 2, 3, 4, 5, 6, 0] (by decide) rfl ?_
        exact v_lv [1, 2, 3, 4, 0] rfl (hI _ rfl)
theorem w_X1_reached_b (r : (Nat → Int32)) (hF : L_reached cols rows kd n n4 vl (fun x => L_lambda_hasWay_4 n gr k0 x) (fun x => L_lambda_hasWay_3 k2 x) = some r) : CTr l yX1_reached cX1_reached 5 (Option.some (Jvm.ClassFile.FieldType.array Jvm.ClassFile.FieldType.boolean)) rmX1_reached_b D (LW D b0 b1 b2 b3 b4 b5 n n4 cols rows kd thr bt tm rea gr vl so dy cg) [.ref b0, .ref t2, .ref t1] (AML D [(t2, D.1 309, [.int k2]), (t1, D.1 310, [.ref b0, .int k0])]) (fun a1 u => ∃ qa6 : Nat, a1 = qa6 ∧ u = (LW D b0 b1 b2 b3 b4 b5 n n4 cols rows kd thr bt tm rea gr vl so dy cg ++ [(qa6, .inl (D.1 101, n, .inl r))])) := by
  refine m_r (by decide) (Nat.le_of_ble_eq_true rfl) ?_
  intro p e s m args below meth c A B
  obtain ⟨X, hr, hAm, -, hnm, hnmd⟩ := B
  obtain ⟨hAm, hL⟩ := hAm
  have hl0 : LamO (D.1 309) [.int k2] t2 A s.heap := hL _ (List.Mem.head _)
  have hl1 : LamO (D.1 310) [.ref b0, .int k0] t1 A s.heap := hL _ (List.Mem.tail _ (List.Mem.head _))
  replace X : CX p s m args meth c D A cX1_reached 5 "DyeLattice$Lattice" := X
  refine v_lv (lv' := [(0, .ref b0), (1, .ref t2), (2, .ref t1)]) [0, 1, 2] rfl ?_
  unfold L_reached at hF
  refine v_aload_n 1 X 0 dX1_reached_0 rfl rfl rfl ?_
  have hz1 : L_cells n = some (nI n) := rfl
  refine v_mVi 4 X 0 [] (w_X1_cells _ hz1) q394 q345 q346 q85 q347 hdX1_cells 0 rfl rfl (pass_amb hAm) ⟨rfl, rfl⟩ ⟨Nat.le_of_ble_eq_true rfl, Nat.le_of_ble_eq_true rfl⟩ ⟨(Nat.le_of_ble_eq_true rfl), (Nat.le_of_ble_eq_true rfl)⟩ rfl rfl (Nat.le_of_ble_eq_true rfl) dX1_reached_1 rfl ?_
  obtain ⟨z4, hz4, hF⟩ := ob hF
  refine v_newa (atype := .boolean) (mx := 80) (t0 := 1) (ty := .boolean) 6 1 80 X (lenN_s (Nat.le_of_ble_eq_true rfl) hz4) q191 rfl rfl (fun _ h1 h2 => ra_prim rfl rfl h1 h2) rfl (Nat.le_of_ble_eq_true rfl) (Nat.le_of_ble_eq_true rfl) (Nat.le_of_ble_eq_true rfl) dX1_reached_4 rfl rfl rfl (fun q4 => ?_)
  refine v_ws (ws' := (LW D b0 b1 b2 b3 b4 b5 n n4 cols rows kd thr bt tm rea gr vl so dy cg ++ [(q4, .inl (D.1 101, n, .inl (fun _ => 0)))])) [0, 1, 2, 3, 4, 5, 6] (by decide) rfl ?_
  refine v_astore_n 7 [(3, .ref q4), (0, .ref b0), (1, .ref t2), (2, .ref t1)] X dX1_reached_6 rfl rfl (by decide) rfl ?_
  refine v_iconst (v := 0) 8 X dX1_reached_7 rfl ki_0 ?_
  refine v_istore 10 [(4, .int 0), (3, .ref q4), (0, .ref b0), (1, .ref t2), (2, .ref t1)] X dX1_reached_8 rfl (by decide) rfl ?_
  obtain ⟨z10, hz10, hF⟩ := ob hF
  refine v_lv [2, 3, 4, 1, 0] rfl (w_X1_reached_b_10 X hAm hl0 hl1 hnmd (Nat.le_of_ble_eq_true rfl) (Nat.le_of_ble_eq_true rfl) _ (0, (fun _ => 0)) _ hz10 ?_)
  refine v_aload_n 57 X 0 dX1_reached_56 rfl rfl rfl ?_
  refine v_aload_n 58 X 2 dX1_reached_57 rfl rfl rfl ?_
  refine v_aload_n 59 X 1 dX1_reached_58 rfl rfl rfl ?_
  refine vl_of ?_
  refine vl_const 64 X hAm 4 (by decide) (by decide) (x := yX1_reached) rfl hnmd rfl (Nat.le_of_ble_eq_true rfl) dX1_reached_59 rfl ?_
  obtain ⟨z64, hz64, hF⟩ := ob hF
  refine vl_Vv (wr := ([] : va_W)) 67 2 160 X 3 [.ref q4, .ref t1, .ref (D.2 204 4)] [0, 1, 2, 3, 4, 5, 6] [] (LW D b0 b1 b2 b3 b4 b5 n n4 cols rows kd thr bt tm rea gr vl so dy cg ++ [(q4, .inl (D.1 101, n, .inl z10))]) rfl rfl (by decide) (by decide) (by decide) (w_X1_flood_b _ hz64) q1016 q1018 qs23 q85 q1019 hdX1_flood 0 rfl rfl (aml_blind hAm) (aml_xp hAm (List.forall_mem_cons.mpr ⟨Or.inr hl1, (List.forall_mem_cons.mpr ⟨Or.inr (lamC hAm 4 (by decide) (by decide)), (fun _ h => by cases h)⟩)⟩)) ⟨Nat.le_of_ble_eq_true rfl, Nat.le_of_ble_eq_true rfl⟩ ⟨(Nat.le_of_ble_eq_true rfl), (Nat.le_of_ble_eq_true rfl)⟩ rfl rfl (Nat.le_of_ble_eq_true rfl) dX1_reached_64 rfl rfl rfl (fun u64 e64 => ?_)
  subst e64
  refine v_ws (ws' := (LW D b0 b1 b2 b3 b4 b5 n n4 cols rows kd thr bt tm rea gr vl so dy cg ++ [(q4, .inl (D.1 101, n, .inl z64))])) [0, 1, 2, 3, 4, 5, 6] (by decide) rfl ?_
  refine v_aload_n 68 X 2 dX1_reached_67 rfl rfl rfl ?_
  obtain rfl := Option.some.inj hF
  refine v_aret (post := (fun r : (Nat → Int32) => (fun a1 u => ∃ qa6 : Nat, a1 = qa6 ∧ u = (LW D b0 b1 b2 b3 b4 b5 n n4 cols rows kd thr bt tm rea gr vl so dy cg ++ [(qa6, .inl (D.1 101, n, .inl r))]))) z64) X hr (Or.inr ⟨_, rfl⟩) ?_ ?_ ?_ dX1_reached_68
  · exact ⟨q4, rfl, rfl⟩
  · exact Nat.le_of_ble_eq_true rfl
  · exact Nat.le_of_ble_eq_true rfl
theorem w_X1_reached_c_10 (X : CX p s m args meth c D A cX1_reached 5 "DyeLattice$Lattice") (hAm : AMB D A s) (hl0 : LamO (D.1 302) [.ref b0, .int k2] t2 A s.heap) (hl1 : LamO (D.1 303) [.ref b0] t1 A s.heap) (hnmd : s.methodNamed? yX1_reached = some m) {q4 : Nat} {cb sb : Nat} (hcb : cb ≤ rmX1_reached_c.cells) (hsb : sb ≤ rmX1_reached_c.slots) : ∀ (fu : Nat) (x : Int32 × (Nat → Int32)) (o : ((Nat → Int32))), loopN (fun x => L_reached_10 n (fun x => L_lambda_reach_6 thr n gr x) (fun x => L_lambda_reach_5 n so k2 x) x.1 x.2) fu x = some o → (V p l e rmX1_reached_c s m args below meth c D A 5 Q (LW D b0 b1 b2 b3 b4 b5 n n4 cols rows kd thr bt tm rea gr vl so dy cg ++ [(q4, .inl (D.1 101, n, .inl o))]) cb sb 56 [(0, .ref b0), (2, .ref t1), (3, .ref q4)] []) → V p l e rmX1_reached_c s m args below meth c D A 5 Q (LW D b0 b1 b2 b3 b4 b5 n n4 cols rows kd thr bt tm rea gr vl so dy cg ++ [(q4, .inl (D.1 101, n, .inl x.2))]) cb sb 10 [(0, .ref b0), (1, .ref t2), (2, .ref t1), (3, .ref q4), (4, .int x.1)] [] := by
  refine v_loop (fun (x : Int32 × (Nat → Int32)) => V p l e rmX1_reached_c s m args below meth c D A 5 Q (LW D b0 b1 b2 b3 b4 b5 n n4 cols rows kd thr bt tm rea gr vl so dy cg ++ [(q4, .inl (D.1 101, n, .inl x.2))]) cb sb 10 [(0, .ref b0), (1, .ref t2), (2, .ref t1), (3, .ref q4), (4, .int x.1)] []) (fun (o : ((Nat → Int32))) => V p l e rmX1_reached_c s m args below meth c D A 5 Q (LW D b0 b1 b2 b3 b4 b5 n n4 cols rows kd thr bt tm rea gr vl so dy cg ++ [(q4, .inl (D.1 101, n, .inl o))]) cb sb 56 [(0, .ref b0), (2, .ref t1), (3, .ref q4)] []) ?_
  rintro ⟨v4, kn4⟩ r hF hI hO
  replace hF : L_reached_10 n (fun x => L_lambda_reach_6 thr n gr x) (fun x => L_lambda_reach_5 n so k2 x) v4 kn4 = some r := hF
  show V p l e rmX1_reached_c s m args below meth c D A 5 Q (LW D b0 b1 b2 b3 b4 b5 n n4 cols rows kd thr bt tm rea gr vl so dy cg ++ [(q4, .inl (D.1 101, n, .inl kn4))]) cb sb 10 [(0, .ref b0), (1, .ref t2), (2, .ref t1), (3, .ref q4), (4, .int v4)] []
  unfold L_reached_10 at hF
  refine v_iload 12 X 4 dX1_reached_10 rfl rfl ?_
  refine v_aload_n 13 X 0 dX1_reached_12 rfl rfl rfl ?_
  have hz13 : L_cells n = some (nI n) := rfl
  refine vc_Vi (wr := ([(q4, .inl (D.1 101, n, .inl kn4))])) 16 cb sb X 0 [] [0, 1, 2, 3, 4, 5] [6] (LW D b0 b1 b2 b3 b4 b5 n n4 cols rows kd thr bt tm rea gr vl so dy cg) rfl rfl (by decide) (by decide) (by decide) (w_X1_cells _ hz13) q394 q345 q346 q85 q347 hdX1_cells 0 rfl rfl (pass_amb hAm) ⟨Nat.le_of_ble_eq_true rfl, Nat.le_of_ble_eq_true rfl⟩ ⟨(by exact hcb), (by exact hsb)⟩ rfl rfl (Nat.le_of_ble_eq_true rfl) dX1_reached_13 rfl (by show cb + 0 = cb + 0; omega) (by show sb + 0 = sb + 0; omega) (fun r13 u13 e13 => ?_)
  obtain ⟨e131, rfl⟩ := e13
  have e132 := e131.symm
  subst e132
  refine v_ws (ws' := ([(q4, .inl (D.1 101, n, .inl kn4))] ++ LW D b0 b1 b2 b3 b4 b5 n n4 cols rows kd thr bt tm rea gr vl so dy cg)) [0, 1, 2, 3, 4, 5, 6] (by decide) rfl ?_
  refine v_icmp_ge 19 56 X dX1_reached_16 rfl (by decide) (fun h16 => ?_) (fun h16 => ?_)
  · replace hF := ifp h16 hF
    obtain rfl := Option.some.inj hF
    refine v_ws (ws' := (LW D b0 b1 b2 b3 b4 b5 n n4 cols rows kd thr bt tm rea gr vl so dy cg ++ [(q4, .inl (D.1 101, n, .inl kn4))])) [1, 2, 3, 4, 5, 6, 0] (by decide) rfl ?_
    exact v_lv [0, 2, 3] rfl ((hO _ rfl))
  · replace hF := ifn h16 hF
    refine v_aload_n 20 X 3 dX1_reached_19 rfl rfl rfl ?_
    refine v_iload 22 X 4 dX1_reached_20 rfl rfl ?_
    refine v_aload_n 23 X 2 dX1_reached_22 rfl rfl rfl ?_
    refine v_iload 25 X 4 dX1_reached_23 rfl rfl ?_
    obtain ⟨z25, hz25, hF⟩ := ob hF
    obtain ⟨hz25, hnz25⟩ := tz_s hz25
    replace hz25 : L_lambda_reach_6 thr n gr v4 = some z25 := hz25
    refine v_icI (wr := ([(q4, .inl (D.1 101, n, .inl kn4))])) 30 X hAm 0 3 (by decide) (by decide) (σ := sg3) rfl rfl rfl (by decide +kernel) rfl rfl (by decide) sok3 fd3_5 hl1 (y := yX1_lambda_reach_6) rfl rfl (by decide +kernel) [.int v4] [.int v4] [1, 2, 3, 4, 5, 6] [0] (LW D b0 b1 b2 b3 b4 b5 n n4 cols rows kd thr bt tm rea gr vl so dy cg) rfl rfl (by decide) (by decide) (by decide) (w_X1_lambda_reach_6 v4 _ hz25) (fbI1 fd3_0 fd3_1 fd3_4 fd3_5 fd3_8) hnz25 (ic_link dX1_reached_25 q1021) q1069 qs26 1 rfl rfl q85 q1070 ⟨by decide, by decide⟩ hdX1_lambda_reach_6.2.2.2 ifl0 ⟨Nat.le_of_ble_eq_true rfl, Nat.le_of_ble_eq_true rfl⟩ ⟨(by exact hcb), (by exact hsb)⟩ rfl (Nat.le_of_ble_eq_true rfl) dX1_reached_25 rfl ?_
    refine v_ws (ws' := ([(q4, .inl (D.1 101, n, .inl kn4))] ++ LW D b0 b1 b2 b3 b4 b5 n n4 cols rows kd thr bt tm rea gr vl so dy cg)) [0, 1, 2, 3, 4, 5, 6] (by decide) rfl ?_
    refine v_if_eq 33 48 X dX1_reached_30 rfl (by decide) (fun h30 => ?_) (fun h30 => ?_)
    · replace hF := ifp h30 hF
      refine v_iconst (v := 0) 49 X dX1_reached_48 rfl ki_0 ?_
      obtain ⟨z49, hz49, hF⟩ := ob hF
      refine v_zast 50 ([(q4, .inl (D.1 101, n, .inl z49))] ++ LW D b0 b1 b2 b3 b4 b5 n n4 cols rows kd thr bt tm rea gr vl so dy cg) X 0 hz49 rfl dX1_reached_49 rfl rfl ?_
      refine v_iinc (v := (v4 + 1)) 53 [(4, .int (v4 + 1)), (0, .ref b0), (1, .ref t2), (2, .ref t1), (3, .ref q4)] X 4 dX1_reached_50 rfl rfl (by rfl) (by decide) rfl ?_
      refine v_goto 10 X dX1_reached_53 (by decide) ?_
      obtain rfl := Option.some.inj hF
      refine v_ws (ws' := (LW D b0 b1 b2 b3 b4 b5 n n4 cols rows kd thr bt tm rea gr vl so dy cg ++ [(q4, .inl (D.1 101, n, .inl z49))])) [1, 2, 3, 4, 5, 6, 0] (by decide) rfl ?_
      exact v_lv [1, 2, 3, 4, 0] rfl (hI _ rfl)
    · replace hF := ifn h30 hF
      refine v_aload_n 34 X 1 dX1_reached_33 rfl rfl rfl ?_
      refine v_iload 36 X 4 dX1_reached_34 rfl rfl ?_
      obtain ⟨z36, hz36, hF⟩ := ob hF
      obtain ⟨hz36, hnz36⟩ := tz_s hz36
      replace hz36 : L_lambda_reach_5 n so k2 v4 = some z36 := hz36
      refine v_icI (wr := ([(q4, .inl (D.1 101, n, .inl kn4))])) 41 X hAm 0 2 (by decide) (by decide) (σ := sg2) rfl rfl rfl (by decide +kernel) rfl rfl (by decide) sok2 fd2_9 hl0 (y := yX1_lambda_reach_5) rfl rfl (by decide +kernel) [.int k2, .int v4] [.int v4] [1, 2, 3, 4, 5, 6] [0] (LW D b0 b1 b2 b3 b4 b5 n n4 cols rows kd thr bt tm rea gr vl so dy cg) rfl rfl (by decide) (by decide) (by decide) (w_X1_lambda_reach_5 k2 v4 _ hz36) (fbI2 fd2_0 fd2_1 fd2_4 fd2_5 fd2_8 fd2_9 fd2_12) hnz36 (ic_link dX1_reached_36 q1021) q1066 qs25 1 rfl rfl q85 q1067 ⟨by decide, by decide⟩ hdX1_lambda_reach_5.2.2.2 ifl0 ⟨Nat.le_of_ble_eq_true rfl, Nat.le_of_ble_eq_true rfl⟩ ⟨(by exact hcb), (by exact hsb)⟩ rfl (Nat.le_of_ble_eq_true rfl) dX1_reached_36 rfl ?_
      refine v_ws (ws' := ([(q4, .inl (D.1 101, n, .inl kn4))] ++ LW D b0 b1 b2 b3 b4 b5 n n4 cols rows kd thr bt tm rea gr vl so dy cg)) [0, 1, 2, 3, 4, 5, 6] (by decide) rfl ?_
      refine v_if_eq 44 48 X dX1_reached_41 rfl (by decide) (fun h41 => ?_) (fun h41 => ?_)
      · replace hF := ifp h41 hF
        refine v_iconst (v := 0) 49 X dX1_reached_48 rfl ki_0 ?_
        obtain ⟨z49, hz49, hF⟩ := ob hF
        refine v_zast 50 ([(q4, .inl (D.1 101, n, .inl z49))] ++ LW D b0 b1 b2 b3 b4 b5 n n4 cols rows kd thr bt tm rea gr vl so dy cg) X 0 hz49 rfl dX1_reached_49 rfl rfl ?_
        refine v_iinc (v := (v4 + 1)) 53 [(4, .int (v4 + 1)), (0, .ref b0), (1, .ref t2), (2, .ref t1), (3, .ref q4)] X 4 dX1_reached_50 rfl rfl (by rfl) (by decide) rfl ?_
        refine v_goto 10 X dX1_reached_53 (by decide) ?_
        obtain rfl := Option.some.inj hF
        refine v_ws (ws' := (LW D b0 b1 b2 b3 b4 b5 n n4 cols rows kd thr bt tm rea gr vl so dy cg ++ [(q4, .inl (D.1 101, n, .inl z49))])) [1, 2, 3, 4, 5, 6, 0] (by decide) rfl ?_
        exact v_lv [1, 2, 3, 4, 0] rfl (hI _ rfl)
      · replace hF := ifn h41 hF
        refine v_iconst (v := 1) 45 X dX1_reached_44 rfl ki_1 ?_
        refine v_goto 49 X dX1_reached_45 (by decide) ?_
        obtain ⟨z49, hz49, hF⟩ := ob hF
        refine v_zast 50 ([(q4, .inl (D.1 101, n, .inl z49))] ++ LW D b0 b1 b2 b3 b4 b5 n n4 cols rows kd thr bt tm rea gr vl so dy cg) X 0 hz49 rfl dX1_reached_49 rfl rfl ?_
        refine v_iinc (v := (v4 + 1)) 53 [(4, .int (v4 + 1)), (0, .ref b0), (1, .ref t2), (2, .ref t1), (3, .ref q4)] X 4 dX1_reached_50 rfl rfl (by rfl) (by decide) rfl ?_
        refine v_goto 10 X dX1_reached_53 (by decide) ?_
        obtain rfl := Option.some.inj hF
        refine v_ws (ws' := (LW D b0 b1 b2 b3 b4 b5 n n4 cols rows kd thr bt tm rea gr vl so dy cg ++ [(q4, .inl (D.1 101, n, .inl z49))])) [1, 2, 3, 4, 5, 6, 0] (by decide) rfl ?_
        exact v_lv [1, 2, 3, 4, 0] rfl (hI _ rfl)
theorem w_X1_reached_c (r : (Nat → Int32)) (hF : L_reached cols rows kd n n4 vl (fun x => L_lambda_reach_6 thr n gr x) (fun x => L_lambda_reach_5 n so k2 x) = some r) : CTr l yX1_reached cX1_reached 5 (Option.some (Jvm.ClassFile.FieldType.array Jvm.ClassFile.FieldType.boolean)) rmX1_reached_c D (LW D b0 b1 b2 b3 b4 b5 n n4 cols rows kd thr bt tm rea gr vl so dy cg) [.ref b0, .ref t2, .ref t1] (AML D [(t2, D.1 302, [.ref b0, .int k2]), (t1, D.1 303, [.ref b0])]) (fun a1 u => ∃ qa6 : Nat, a1 = qa6 ∧ u = (LW D b0 b1 b2 b3 b4 b5 n n4 cols rows kd thr bt tm rea gr vl so dy cg ++ [(qa6, .inl (D.1 101, n, .inl r))])) := by
  refine m_r (by decide) (Nat.le_of_ble_eq_true rfl) ?_
  intro p e s m args below meth c A B
  obtain ⟨X, hr, hAm, -, hnm, hnmd⟩ := B
  obtain ⟨hAm, hL⟩ := hAm
  have hl0 : LamO (D.1 302) [.ref b0, .int k2] t2 A s.heap := hL _ (List.Mem.head _)
  have hl1 : LamO (D.1 303) [.ref b0] t1 A s.heap := hL _ (List.Mem.tail _ (List.Mem.head _))
  replace X : CX p s m args meth c D A cX1_reached 5 "DyeLattice$Lattice" := X
  refine v_lv (lv' := [(0, .ref b0), (1, .ref t2), (2, .ref t1)]) [0, 1, 2] rfl ?_
  unfold L_reached at hF
  refine v_aload_n 1 X 0 dX1_reached_0 rfl rfl rfl ?_
  have hz1 : L_cells n = some (nI n) := rfl
  refine v_mVi 4 X 0 [] (w_X1_cells _ hz1) q394 q345 q346 q85 q347 hdX1_cells 0 rfl rfl (pass_amb hAm) ⟨rfl, rfl⟩ ⟨Nat.le_of_ble_eq_true rfl, Nat.le_of_ble_eq_true rfl⟩ ⟨(Nat.le_of_ble_eq_true rfl), (Nat.le_of_ble_eq_true rfl)⟩ rfl rfl (Nat.le_of_ble_eq_true rfl) dX1_reached_1 rfl ?_
  obtain ⟨z4, hz4, hF⟩ := ob hF
  refine v_newa (atype := .boolean) (mx := 80) (t0 := 1) (ty := .boolean) 6 1 80 X (lenN_s (Nat.le_of_ble_eq_true rfl) hz4) q191 rfl rfl (fun _ h1 h2 => ra_prim rfl rfl h1 h2) rfl (Nat.le_of_ble_eq_true rfl) (Nat.le_of_ble_eq_true rfl) (Nat.le_of_ble_eq_true rfl) dX1_reached_4 rfl rfl rfl (fun q4 => ?_)
  refine v_ws (ws' := (LW D b0 b1 b2 b3 b4 b5 n n4 cols rows kd thr bt tm rea gr vl so dy cg ++ [(q4, .inl (D.1 101, n, .inl (fun _ => 0)))])) [0, 1, 2, 3, 4, 5, 6] (by decide) rfl ?_
  refine v_astore_n 7 [(3, .ref q4), (0, .ref b0), (1, .ref t2), (2, .ref t1)] X dX1_reached_6 rfl rfl (by decide) rfl ?_
  refine v_iconst (v := 0) 8 X dX1_reached_7 rfl ki_0 ?_
  refine v_istore 10 [(4, .int 0), (3, .ref q4), (0, .ref b0), (1, .ref t2), (2, .ref t1)] X dX1_reached_8 rfl (by decide) rfl ?_
  obtain ⟨z10, hz10, hF⟩ := ob hF
  refine v_lv [2, 3, 4, 1, 0] rfl (w_X1_reached_c_10 X hAm hl0 hl1 hnmd (Nat.le_of_ble_eq_true rfl) (Nat.le_of_ble_eq_true rfl) _ (0, (fun _ => 0)) _ hz10 ?_)
  refine v_aload_n 57 X 0 dX1_reached_56 rfl rfl rfl ?_
  refine v_aload_n 58 X 2 dX1_reached_57 rfl rfl rfl ?_
  refine v_aload_n 59 X 1 dX1_reached_58 rfl rfl rfl ?_
  refine vl_of ?_
  refine vl_const 64 X hAm 4 (by decide) (by decide) (x := yX1_reached) rfl hnmd rfl (Nat.le_of_ble_eq_true rfl) dX1_reached_59 rfl ?_
  obtain ⟨z64, hz64, hF⟩ := ob hF
  refine vl_Vv (wr := ([] : va_W)) 67 2 160 X 3 [.ref q4, .ref t1, .ref (D.2 204 4)] [0, 1, 2, 3, 4, 5, 6] [] (LW D b0 b1 b2 b3 b4 b5 n n4 cols rows kd thr bt tm rea gr vl so dy cg ++ [(q4, .inl (D.1 101, n, .inl z10))]) rfl rfl (by decide) (by decide) (by decide) (w_X1_flood_c _ hz64) q1016 q1018 qs23 q85 q1019 hdX1_flood 0 rfl rfl (aml_blind hAm) (aml_xp hAm (List.forall_mem_cons.mpr ⟨Or.inr hl1, (List.forall_mem_cons.mpr ⟨Or.inr (lamC hAm 4 (by decide) (by decide)), (fun _ h => by cases h)⟩)⟩)) ⟨Nat.le_of_ble_eq_true rfl, Nat.le_of_ble_eq_true rfl⟩ ⟨(Nat.le_of_ble_eq_true rfl), (Nat.le_of_ble_eq_true rfl)⟩ rfl rfl (Nat.le_of_ble_eq_true rfl) dX1_reached_64 rfl rfl rfl (fun u64 e64 => ?_)
  subst e64
  refine v_ws (ws' := (LW D b0 b1 b2 b3 b4 b5 n n4 cols rows kd thr bt tm rea gr vl so dy cg ++ [(q4, .inl (D.1 101, n, .inl z64))])) [0, 1, 2, 3, 4, 5, 6] (by decide) rfl ?_
  refine v_aload_n 68 X 2 dX1_reached_67 rfl rfl rfl ?_
  obtain rfl := Option.some.inj hF
  refine v_aret (post := (fun r : (Nat → Int32) => (fun a1 u => ∃ qa6 : Nat, a1 = qa6 ∧ u = (LW D b0 b1 b2 b3 b4 b5 n n4 cols rows kd thr bt tm rea gr vl so dy cg ++ [(qa6, .inl (D.1 101, n, .inl r))]))) z64) X hr (Or.inr ⟨_, rfl⟩) ?_ ?_ ?_ dX1_reached_68
  · exact ⟨q4, rfl, rfl⟩
  · exact Nat.le_of_ble_eq_true rfl
  · exact Nat.le_of_ble_eq_true rfl
end
