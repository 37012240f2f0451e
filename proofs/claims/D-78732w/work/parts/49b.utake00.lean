set_option maxRecDepth 100000
set_option maxHeartbeats 4000000
section
variable {p : Program} {l : Launch} {e : Env} {s : State} {m : MethodId} {args : Array Value} {below : List Frame} {meth : Method} {c : Code} {D : va_G} {A : Nat → Prop} {Q : State → Prop} {ws : va_W} {tkq : TQ3} {tkt : Tok} {b0i b1i b2i b3i b4i b5i ni n4i kdi : Nat} {colsi rowsi thri bti tmi reai : Int32} {vli : Nat → Nat} {gri soi dyi cgi : Nat → Int32} {pq io tk0 : Nat} {pp : Int32} {tq an na : Nat} {ts tv : Int32} {sa : Nat → Nat} {av nb wq wb nw : Nat} {wby : Nat → Int32} {wh wz : Int32} {byt : Nat → Int32} {ml cnt : Int32} {t1 t2 bm bc a0 hq tx he ne b0u : Nat} {el : Nat → Option Nat} {hd tl : Int32} {hs : List Nat} {fst fsu : List Value} {k0 k1 k2 : Int32} {mk clu : Nat → Int32} {b0 b1 b2 b3 b4 b5 n n4 kd : Nat} {cols rows thr bt tm rea : Int32} {gr so dy cg : Nat → Int32} {vl : Nat → Nat}
theorem w_X5_take (v1 : Int32) (r : Int32 × Tok) (hF : P_take nb byt cnt pp v1 = some r) : CTv l yX5_take cX5_take 2 (Option.none : Option Jvm.ClassFile.FieldType) rmX5_take D (([(a0, .inr (0, [.ref b0, .ref hq, .ref tx])), (tx, .inr (9, [.ref av, .int 0, .int ml, .int cnt])), (av, .inl (D.1 102, nb, .inl byt)), (pq, .inr (3, [.ref io, .int pp, .ref tkq.1, .ref a0]))]) ++ TKW D tkq tkt) [.ref pq, .int v1] (AMB D) (fun u => ∃ (qa4 : TQ3), u = (([(a0, .inr (0, [.ref b0, .ref hq, .ref tx])), (tx, .inr (9, [.ref av, .int 0, .int ml, .int cnt])), (av, .inl (D.1 102, nb, .inl byt)), (pq, .inr (3, [.ref io, .int r.1, .ref qa4.1, .ref a0]))]) ++ TKW D qa4 r.2)) := by
  refine m_v (by decide) (Nat.le_of_ble_eq_true rfl) ?_
  intro p e s m args below meth c A B
  obtain ⟨X, hr, hAm, -, hnm, hnmd⟩ := B
  replace X : CX p s m args meth c D A cX5_take 2 "DyeLattice$Parser" := X
  refine v_lv (lv' := [(0, .ref pq), (1, .int v1)]) [0, 1] rfl ?_
  unfold P_take at hF
  refine v_iload_n 1 X 1 dX5_take_0 rfl rfl rfl ?_
  refine v_if_ne 4 19 X dX5_take_1 rfl (by decide) (fun h1 => ?_) (fun h1 => ?_)
  · replace hF := ifn h1 hF
    refine v_aload_n 20 X 0 dX5_take_19 rfl rfl rfl ?_
    refine v_wsF ?_
    obtain ⟨z20, hz20, hF⟩ := ob hF
    refine vc_Vv (wr := ([] : va_W)) 23 3 70 X 0 [] [0, 1, 2, 3] [] ([(a0, .inr (0, [.ref b0, .ref hq, .ref tx])), (tx, .inr (9, [.ref av, .int 0, .int ml, .int cnt])), (av, .inl (D.1 102, nb, .inl byt)), (pq, .inr (3, [.ref io, .int pp, .ref tkq.1, .ref a0]))]) rfl rfl (by decide) (by decide) (by decide) (w_X5_adv _ hz20) q663 q665 qs5 q103 q666 hdX5_advance 3 rfl rfl (pass_amb hAm) ⟨Nat.le_of_ble_eq_true rfl, Nat.le_of_ble_eq_true rfl⟩ ⟨(Nat.le_of_ble_eq_true rfl), (Nat.le_of_ble_eq_true rfl)⟩ rfl rfl (Nat.le_of_ble_eq_true rfl) dX5_take_20 rfl rfl rfl (fun u20 e20 => ?_)
    obtain ⟨qt20_4, rfl⟩ := e20
    refine v_wq (ws' := (([(a0, .inr (0, [.ref b0, .ref hq, .ref tx])), (tx, .inr (9, [.ref av, .int 0, .int ml, .int cnt])), (av, .inl (D.1 102, nb, .inl byt)), (pq, .inr (3, [.ref io, .int z20.1, .ref qt20_4.1, .ref a0]))]) ++ TKW D qt20_4 z20.2)) rfl ?_
    obtain rfl := Option.some.inj hF
    exact v_vret X hr ⟨qt20_4, rfl⟩ (Nat.le_of_ble_eq_true rfl) (Nat.le_of_ble_eq_true rfl) dX5_take_23
  · replace hF := ifp h1 hF
    cases hF
end
