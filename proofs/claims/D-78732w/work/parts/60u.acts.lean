/-! PLAIN LAWS, 19: the actions, both sides -/
set_option maxRecDepth 100000
abbrev pu_R1 : Type := Int32 × Int32 × Int32 × (Nat → Option Nat)
abbrev pu_R2 : Type := Int32 × Int32 × Int32 × Nat × Int32 × Int32 × Int32 × Int32 × Nat × (Nat → Int32) × Nat × (Nat → Nat) × (Nat → Int32) × (Nat → Int32) × (Nat → Int32) × Int32 × Int32 × (Nat → Option Nat)
/-- an answer, a lattice, a deque, as the component's functions give them -/
def pu_f2 (r : Int32) (y : pu_LT) (hd tl : Int32) (el : Nat → Option Nat) : pu_R2 := (r, y.1, y.2.1, y.2.2.1, y.2.2.2.1, y.2.2.2.2.1, y.2.2.2.2.2.1, y.2.2.2.2.2.2.1, y.2.2.2.2.2.2.2.1, y.2.2.2.2.2.2.2.2.1, y.2.2.2.2.2.2.2.2.2.1, y.2.2.2.2.2.2.2.2.2.2.1, y.2.2.2.2.2.2.2.2.2.2.2.1, y.2.2.2.2.2.2.2.2.2.2.2.2.1, y.2.2.2.2.2.2.2.2.2.2.2.2.2, hd, tl, el)
/-- how the history stands: its addresses in the deque, its rows in the reference -/
def pu_HH (sh : Nat) (hist : List pu_KL) (el : Nat → Option Nat) (hd tl : Int32) (past : Nat → Int32) (saved : Int32) : Prop := pu_DQ (hist.map (fun x => x.1.1)) el hd tl ∧ pu_HI sh hist past saved
/-- what an action leaves -/
def pu_AR (sh sh2 : Nat) (hist : List pu_KL) (x : pu_KL) (now past : Nat → Int32) (saved : Int32) (el : Nat → Option Nat) (hd tl : Int32) (C : Option (pu_R1 ⊕ pu_R2)) (M : Option (Int32 × (Nat → Int32) × (Nat → Int32) × Int32)) : Prop :=
  ∃ r, (C = some (.inl (r, hd, tl, el)) ∧ M = some (r, now, past, saved)) ∨ ∃ now2 past2 saved2 y hd2 tl2 el2, C = some (.inr (pu_f2 r y hd2 tl2 el2)) ∧ M = some (r, now2, past2, saved2) ∧ pu_LI sh2 y now2 ∧ pu_HH sh (pu_push hist x) el2 hd2 tl2 past2 saved2
theorem pu_bt2 {v : Int32} (a b : Nat) (hb : b < 2 ^ 31) (h : (OfNat.ofNat a : Int32).toInt ≤ v.toInt ∧ v.toInt ≤ (OfNat.ofNat b : Int32).toInt) (ha : a < 2 ^ 31) : ∃ j, a ≤ j ∧ j ≤ b ∧ v = nI j := by
  rw [pu_lit_toInt a ha, pu_lit_toInt b hb] at h
  refine ⟨v.toInt.toNat, by omega, by omega, pu_eqI ?_⟩
  rw [nI_toInt (by omega)]; omega
section AC
variable {sh w h kd : Nat} {thr bt tm rea : Int32} {gr : Nat → Int32} {vl : Nat → Nat} {so dy cg now past : Nat → Int32} {saved hd tl : Int32} {el : Nat → Option Nat} {hist : List pu_KL} {hs : List Nat} {b0 : Nat} {bs : Nat × Nat × Nat × Nat × Nat}
abbrev pu_X (w h kd : Nat) (thr bt tm rea : Int32) (gr : Nat → Int32) (vl : Nat → Nat) (so dy cg : Nat → Int32) : pu_LT := (nI w, nI h, kd, thr, bt, tm, rea, w * h, gr, 4 * (w * h), vl, so, dy, cg)
theorem pu_LI_of (L : pu_LJ sh w h kd thr bt tm rea gr vl so dy cg now) : pu_LI sh (pu_X w h kd thr bt tm rea gr vl so dy cg) now := ⟨w, h, rfl, rfl, rfl, rfl, L⟩
/-- replaced: the deque and the rows -/
theorem pu_rep (L : pu_LJ sh w h kd thr bt tm rea gr vl so dy cg now) (H : pu_HH sh hist el hd tl past saved) (hm : ∀ a ∈ hist.map (fun x => x.1.1), a ∈ hs) : ∃ hd2 tl2 el2 past2 saved2, C_replace b0 17 el hd tl hs = some (hd2, tl2, el2) ∧ M_saves now past saved = some (past2, saved2) ∧ pu_HH sh (pu_push hist ((b0, bs), pu_X w h kd thr bt tm rea gr vl so dy cg)) el2 hd2 tl2 past2 saved2 := by
  obtain ⟨hd2, tl2, el2, a1, a2⟩ := pu_Creplace H.1 b0 hs hm
  obtain ⟨past2, saved2, b1, b2⟩ := pu_Msaves H.2 (x := ((b0, bs), pu_X w h kd thr bt tm rea gr vl so dy cg)) (pu_LI_of L)
  exact ⟨hd2, tl2, el2, past2, saved2, a1, b1, by rw [pu_push_map]; exact a2, b2⟩
theorem pu_act (L : pu_LJ sh w h kd thr bt tm rea gr vl so dy cg now) (H : pu_HH sh hist el hd tl past saved) (hm : ∀ a ∈ hist.map (fun x => x.1.1), a ∈ hs) : ∃ gr2 so2 dy2 cg2 hd2 tl2 el2 past2 saved2, C_act (nI w) (nI h) thr bt tm rea kd (w * h) (4 * (w * h)) vl gr so dy cg b0 17 el hd tl hs = some (nI w, nI h, kd, thr, bt, tm, rea, w * h, gr2, 4 * (w * h), vl, so2, dy2, cg2, hd2, tl2, el2) ∧ pu_LJ sh w h kd thr bt tm rea gr2 vl so2 dy2 cg2 now ∧ M_saves now past saved = some (past2, saved2) ∧ pu_HH sh (pu_push hist ((b0, bs), pu_X w h kd thr bt tm rea gr vl so dy cg)) el2 hd2 tl2 past2 saved2 := by
  obtain ⟨gr2, so2, dy2, cg2, a1, a2⟩ := pu_Lcopy L
  obtain ⟨hd2, tl2, el2, past2, saved2, b1, b2, b3⟩ := pu_rep (bs := bs) (b0 := b0) L H hm
  refine ⟨gr2, so2, dy2, cg2, hd2, tl2, el2, past2, saved2, ?_, a2, b2, b3⟩
  unfold C_act
  rw [a1, pu_bind, b1, pu_bind]
theorem pu_setSize (L : pu_LJ sh w h kd thr bt tm rea gr vl so dy cg now) (H : pu_HH sh hist el hd tl past saved) (hm : ∀ a ∈ hist.map (fun x => x.1.1), a ∈ hs) (v1 v2 : Int32) : pu_AR sh sh hist ((b0, bs), pu_X w h kd thr bt tm rea gr vl so dy cg) now past saved el hd tl (C_setSize thr bt rea kd b0 17 el hd tl hs v1 v2) (M_setSize now past saved v1 v2) := by
  unfold C_setSize M_setSize
  rw [pu_wit, pu_btw, pu_bind, pu_bind]
  split
  · rename_i e1
    rw [if_neg pu_10, if_neg pu_10, pu_wit, pu_btw, pu_bind, pu_bind]
    split
    · rename_i e2
      obtain ⟨w2, c1, c2, rfl⟩ := pu_bt2 2 10 (by decide) e1 (by decide)
      obtain ⟨h2, c3, c4, rfl⟩ := pu_bt2 2 8 (by decide) e2 (by decide)
      have G2 : pu_G w2 h2 kd := ⟨c1, c2, c3, c4, L.1.2.2.2.2⟩
      obtain ⟨gr2, vl2, d1, d2, d3⟩ := pu_Lresized G2 kd thr bt rea
      obtain ⟨hd2, tl2, el2, past2, saved2, f1, f2, f3⟩ := pu_rep (bs := bs) (b0 := b0) L H hm
      obtain ⟨now2, g1, g2⟩ := pu_Msizes now w2 h2
      obtain ⟨s0, s1, s2, s3, s4, s5, s6, s7, s8⟩ := g2
      have L2 : pu_LJ sh w2 h2 kd thr bt 0 rea gr2 vl2 (fun _ => 0) (fun _ => 0) (fun _ => 0) now2 := pu_LJ_new G2 L.2.2.1.1 L.2.2.1.2.2.1 d2 d3 s0 s1 (by rw [s2]; exact L.2.1.1.1.2.2) (by rw [s3]; exact L.2.1.2.1) (by rw [s4]; exact L.2.1.2.2.1) s5 (by rw [s6]; exact L.2.1.2.2.2.2.1) s7 s8
      rw [if_neg pu_10, if_neg pu_10, d1, pu_bind, f1, pu_bind, f2, pu_bind, g1, pu_bind, pu_Mcells L2.2.1.1.1, pu_bind]
      exact ⟨nI (w2 * h2), Or.inr ⟨now2, past2, saved2, pu_X w2 h2 kd thr bt 0 rea gr2 vl2 (fun _ => 0) (fun _ => 0) (fun _ => 0), hd2, tl2, el2, rfl, rfl, pu_LI_of L2, f3⟩⟩
    · rw [if_pos rfl, if_pos rfl]; exact ⟨-1, Or.inl ⟨rfl, rfl⟩⟩
  · rw [if_pos rfl, if_pos rfl]; exact ⟨-1, Or.inl ⟨rfl, rfl⟩⟩
theorem pu_ofK {j : Nat} (h : j ≤ 2) : ofK (nI j) = some j := by
  unfold ofK
  rw [nI_clamp (by omega), if_neg]
  rintro (a | a)
  · exact nI_pos (by omega) a
  · omega
theorem pu_ofV {j : Nat} (h : j ≤ 4) : ofV (nI j) = some j := by
  unfold ofV
  rw [nI_clamp (by omega), if_neg]
  rintro (a | a)
  · exact nI_pos (by omega) a
  · omega
theorem pu_setKind (L : pu_LJ sh w h kd thr bt tm rea gr vl so dy cg now) (H : pu_HH sh hist el hd tl past saved) (hm : ∀ a ∈ hist.map (fun x => x.1.1), a ∈ hs) (v1 : Int32) : pu_AR sh sh hist ((b0, bs), pu_X w h kd thr bt tm rea gr vl so dy cg) now past saved el hd tl (C_setKind (nI w) (nI h) thr bt tm rea kd (w * h) (4 * (w * h)) vl gr so dy cg b0 17 el hd tl hs v1) (M_setKind now past saved v1) := by
  obtain ⟨n4, n80⟩ := pu_G80 L.1
  unfold C_setKind M_setKind
  rw [pu_wit, pu_btw, pu_bind, pu_bind]
  split
  · rename_i e1
    obtain ⟨j, -, c2, rfl⟩ := pu_bt2 0 2 (by decide) e1 (by decide)
    obtain ⟨gr2, so2, dy2, cg2, hd2, tl2, el2, past2, saved2, a1, a2, a3, a4⟩ := pu_act (bs := bs) (b0 := b0) L H hm
    obtain ⟨vl2, b1, b2⟩ := pu_fill (N := 4 * (w * h)) (by omega) vl
    obtain ⟨now2, d1, d2, d3, d4⟩ := pu_Mkinds now (nI j)
    have L2 := pu_LJ_kd a2 c2 b2 d2 d3 d4
    rw [if_neg pu_10, if_neg pu_10, a1, pu_bind]
    dsimp only
    unfold C_changeKind
    rw [pu_ofK c2, pu_bind, b1, pu_bind, pu_bind]
    dsimp only
    rw [pu_Lbonds L2.1, pu_bind, a3, pu_bind, d1, pu_bind, pu_Mbonds L2.2.1.1.1 L2.1, pu_bind]
    exact ⟨pu_bondsN w h j, Or.inr ⟨now2, past2, saved2, pu_X w h j thr bt tm rea gr2 vl2 so2 dy2 cg2, hd2, tl2, el2, rfl, rfl, pu_LI_of L2, a4⟩⟩
  · rw [if_pos rfl, if_pos rfl]; exact ⟨-1, Or.inl ⟨rfl, rfl⟩⟩
theorem pu_setGrain (L : pu_LJ sh w h kd thr bt tm rea gr vl so dy cg now) (H : pu_HH sh hist el hd tl past saved) (hm : ∀ a ∈ hist.map (fun x => x.1.1), a ∈ hs) (v1 v2 : Int32) : pu_AR sh sh hist ((b0, bs), pu_X w h kd thr bt tm rea gr vl so dy cg) now past saved el hd tl (C_setGrain (nI w) (nI h) thr bt tm rea kd (w * h) (4 * (w * h)) vl gr so dy cg b0 17 el hd tl hs v1 v2) (M_setGrain now past saved v1 v2) := by
  obtain ⟨n4, n80⟩ := pu_G80 L.1
  unfold C_setGrain M_setGrain
  rcases pu_dich v1 (w * h) with ⟨c, hc, rfl⟩ | hn
  · rw [pu_LisC1 (by omega) hc, pu_bind, if_neg pu_10, pu_MisC1 L.2.1.1.1 (by omega) hc, pu_bind, if_neg pu_10, pu_wit, pu_btw, pu_bind, pu_bind]
    split
    · rename_i e1
      obtain ⟨j, -, c2, rfl⟩ := pu_bt2 0 99 (by decide) e1 (by decide)
      obtain ⟨gr2, so2, dy2, cg2, hd2, tl2, el2, past2, saved2, a1, a2, a3, a4⟩ := pu_act (bs := bs) (b0 := b0) L H hm
      have L2 := pu_LJ_gr a2 hc (v := nI j) (nI_pos' (by omega))
      rw [if_neg pu_10, if_neg pu_10, pu_ald hc (by omega), pu_bind, a1, pu_bind]
      dsimp only
      rw [pu_ast hc (by omega), pu_bind, pu_nowG L.2.1.1 L.1 hc, pu_bind, a3, pu_bind, pu_nows now 7 c _ (by omega), pu_bind]
      exact ⟨gr c, Or.inr ⟨upd now (7 + c) (nI j), past2, saved2, pu_X w h kd thr bt tm rea (upd gr2 c (nI j)) vl so2 dy2 cg2, hd2, tl2, el2, rfl, rfl, pu_LI_of L2, a4⟩⟩
    · rw [if_pos rfl, if_pos rfl]; exact ⟨-1, Or.inl ⟨rfl, rfl⟩⟩
  · rw [pu_LisC0 (by omega) (by omega) hn, pu_bind, if_pos rfl, pu_MisC0 L.2.1.1.1 (by omega) (by omega) hn, pu_bind, if_pos rfl]; exact ⟨-1, Or.inl ⟨rfl, rfl⟩⟩
theorem pu_Cfill (L : pu_LJ sh w h kd thr bt tm rea gr vl so dy cg now) (H : pu_HH sh hist el hd tl past saved) (hm : ∀ a ∈ hist.map (fun x => x.1.1), a ∈ hs) (v1 : Int32) : pu_AR sh sh hist ((b0, bs), pu_X w h kd thr bt tm rea gr vl so dy cg) now past saved el hd tl (C_fill (nI w) (nI h) thr bt tm rea kd (w * h) (4 * (w * h)) vl gr so dy cg b0 17 el hd tl hs v1) (M_fill now past saved v1) := by
  unfold C_fill M_fill
  rw [pu_wit, pu_btw, pu_bind, pu_bind]
  split
  · rename_i e1
    obtain ⟨j, -, c2, rfl⟩ := pu_bt2 0 9999 (by decide) e1 (by decide)
    obtain ⟨gr2, so2, dy2, cg2, hd2, tl2, el2, past2, saved2, a1, a2, a3, a4⟩ := pu_act (bs := bs) (b0 := b0) L H hm
    obtain ⟨r, gr3, now2, b1, b2, b3, b4⟩ := pu_fill2 a2 c2
    rw [if_neg pu_10, if_neg pu_10, a1, pu_bind]
    dsimp only
    rw [b1, pu_bind, a3, pu_bind, b2, pu_bind, pu_now3 b4.2.1, pu_bind, b3, pu_bind]
    exact ⟨r, Or.inr ⟨now2, past2, saved2, pu_X w h kd thr bt tm rea gr3 vl so2 dy2 cg2, hd2, tl2, el2, rfl, rfl, pu_LI_of b4, a4⟩⟩
  · rw [if_pos rfl, if_pos rfl]; exact ⟨-1, Or.inl ⟨rfl, rfl⟩⟩
theorem pu_setValve (L : pu_LJ sh w h kd thr bt tm rea gr vl so dy cg now) (H : pu_HH sh hist el hd tl past saved) (hm : ∀ a ∈ hist.map (fun x => x.1.1), a ∈ hs) (v1 v2 v3 : Int32) : pu_AR sh (sh + 1) hist ((b0, bs), pu_X w h kd thr bt tm rea gr vl so dy cg) now past saved el hd tl (C_setValve (nI w) (nI h) thr bt tm rea kd (w * h) (4 * (w * h)) vl gr so dy cg b0 17 el hd tl hs v1 v2 v3) (M_setValve now past saved v1 v2 v3) := by
  obtain ⟨n4, n80⟩ := pu_G80 L.1
  unfold C_setValve M_setValve
  rcases pu_dich v1 (w * h) with ⟨c, hc, rfl⟩ | hn
  · rcases pu_dich v2 (kd + 2) with ⟨d, hd0, rfl⟩ | hn
    · have hd4 : d < 4 := by have := L.1.2.2.2.2; omega
      rw [pu_LisB L.1 hc hd4, pu_bind, pu_Msec L.2.1.1.1 L.1 hc hd4, pu_bind, pu_Msec9 L.2.1.1.1 L.1 hc hd4]
      have hv := (L.2.1.1.2.2 (4 * c + d) (by omega)).2
      rcases Bool.eq_false_or_eq_true (pu_bd w h kd c d) with e | e
      · rw [e, pu_01t, if_neg pu_10, if_pos rfl, pu_wit, pu_btw, pu_bind, pu_bind]
        split
        · rename_i e1
          obtain ⟨j, -, c2, rfl⟩ := pu_bt2 0 4 (by decide) e1 (by decide)
          obtain ⟨gr2, so2, dy2, cg2, hd2, tl2, el2, past2, saved2, a1, a2, a3, a4⟩ := pu_act (bs := bs) (b0 := b0) L H hm
          have L2 := pu_LJ_vl a2 hc hd4 e (v := j) (by omega)
          have ho : ordV (vl (4 * c + d)) = some (nI (vl (4 * c + d))) := by unfold ordV; rw [if_pos hv]
          rw [if_neg pu_10, if_neg pu_10, pu_4, pu_aldN (by omega) (by omega) hv, pu_bind, ho, pu_bind, a1, pu_bind]
          dsimp only
          rw [pu_ofV c2, pu_bind, pu_astN (by omega) (by omega) (by omega), pu_bind, pu_Mval L.2.1.1 L.1 hc hd4, pu_bind, a3, pu_bind]
          rw [show (87 : Int32) + 4 * nI c + nI d = nI (87 + (4 * c + d)) from by rw [show (87 : Int32) + 4 * nI c + nI d = nI 87 + nI 4 * nI c + nI d from rfl, pk_mul, nI_add, nI_add, Nat.add_assoc], pu_ast (by omega) (by decide), pu_bind]
          exact ⟨nI (vl (4 * c + d)), Or.inr ⟨upd now (87 + (4 * c + d)) (nI j), past2, saved2, pu_X w h kd thr bt tm rea gr2 (updN vl (4 * c + d) j) so2 dy2 cg2, hd2, tl2, el2, rfl, rfl, pu_LI_of L2, a4⟩⟩
        · rw [if_pos rfl, if_pos rfl]; exact ⟨-1, Or.inl ⟨rfl, rfl⟩⟩
      · rw [e, pu_01f, if_pos rfl, if_neg (by decide)]; exact ⟨-1, Or.inl ⟨rfl, rfl⟩⟩
    · rw [pu_LisBD L.1 hn, pu_bind, if_pos rfl, pu_MsecD L.2.1.1.1 L.1 hn, pu_bind, if_pos rfl]; exact ⟨-1, Or.inl ⟨rfl, rfl⟩⟩
  · rw [pu_LisBC L.1 hn, pu_bind, if_pos rfl, pu_MsecC L.2.1.1.1 L.1 hn, pu_bind, if_pos rfl]; exact ⟨-1, Or.inl ⟨rfl, rfl⟩⟩
theorem pu_setThreshold (L : pu_LJ sh w h kd thr bt tm rea gr vl so dy cg now) (H : pu_HH sh hist el hd tl past saved) (hm : ∀ a ∈ hist.map (fun x => x.1.1), a ∈ hs) (v1 : Int32) : pu_AR sh sh hist ((b0, bs), pu_X w h kd thr bt tm rea gr vl so dy cg) now past saved el hd tl (C_setThreshold (nI w) (nI h) thr bt tm rea kd (w * h) (4 * (w * h)) vl gr so dy cg b0 17 el hd tl hs v1) (M_setThreshold now past saved v1) := by
  obtain ⟨n4, n80⟩ := pu_G80 L.1
  unfold C_setThreshold M_setThreshold
  rw [pu_wit, pu_btw, pu_bind, pu_bind]
  split
  · obtain ⟨gr2, so2, dy2, cg2, hd2, tl2, el2, past2, saved2, a1, a2, a3, a4⟩ := pu_act (bs := bs) (b0 := b0) L H hm
    have L2 := pu_LJ_thr a2 v1
    rw [if_neg pu_10, if_neg pu_10, a1, pu_bind]
    dsimp only
    rw [pu_Lopen n80, pu_bind, a3, pu_bind, show ast now 647 3 v1 = _ from pu_nowset now 3 (by decide) _, pu_bind, pu_Mopen L2.2.1.1 L2.1, pu_bind]
    exact ⟨pu_open (w * h) gr2 v1, Or.inr ⟨upd now 3 v1, past2, saved2, pu_X w h kd v1 bt tm rea gr2 vl so2 dy2 cg2, hd2, tl2, el2, rfl, rfl, pu_LI_of L2, a4⟩⟩
  · rw [if_pos rfl, if_pos rfl]; exact ⟨-1, Or.inl ⟨rfl, rfl⟩⟩
theorem pu_setBeat (L : pu_LJ sh w h kd thr bt tm rea gr vl so dy cg now) (H : pu_HH sh hist el hd tl past saved) (hm : ∀ a ∈ hist.map (fun x => x.1.1), a ∈ hs) (v1 : Int32) : pu_AR sh sh hist ((b0, bs), pu_X w h kd thr bt tm rea gr vl so dy cg) now past saved el hd tl (C_setBeat (nI w) (nI h) thr bt tm rea kd (w * h) (4 * (w * h)) vl gr so dy cg b0 17 el hd tl hs v1) (M_setBeat now past saved v1) := by
  unfold C_setBeat M_setBeat
  rw [pu_wit, pu_btw, pu_bind, pu_bind]
  split
  · rename_i e1
    obtain ⟨gr2, so2, dy2, cg2, hd2, tl2, el2, past2, saved2, a1, a2, a3, a4⟩ := pu_act (bs := bs) (b0 := b0) L H hm
    have L2 := pu_LJ_bt a2 (pu_bt2 1 9 (by decide) e1 (by decide))
    rw [if_neg pu_10, if_neg pu_10, a1, pu_bind]
    dsimp only
    rw [pu_now4 L.2.1, pu_bind, a3, pu_bind, show ast now 647 4 v1 = _ from pu_nowset now 4 (by decide) _, pu_bind]
    exact ⟨bt, Or.inr ⟨upd now 4 v1, past2, saved2, pu_X w h kd thr v1 tm rea gr2 vl so2 dy2 cg2, hd2, tl2, el2, rfl, rfl, pu_LI_of L2, a4⟩⟩
  · rw [if_pos rfl, if_pos rfl]; exact ⟨-1, Or.inl ⟨rfl, rfl⟩⟩
/-! a bit set or taken off -/
theorem pu_flip1 : ∀ s, s < 8 → ∀ d, d < 3 → pu_bit (nI s) (nI d) = 0 → nI s + (1 <<< (nI d &&& 31)) = nI s ^^^ ((1 : Int32) <<< (nI d &&& 31)) ∧ ∃ k, k < 8 ∧ nI s ^^^ ((1 : Int32) <<< (nI d &&& 31)) = nI k := by decide +kernel
theorem pu_flip0 : ∀ s, s < 8 → ∀ d, d < 3 → pu_bit (nI s) (nI d) = 1 → nI s + -(1 <<< (nI d &&& 31)) = nI s ^^^ ((1 : Int32) <<< (nI d &&& 31)) ∧ ∃ k, k < 8 ∧ nI s ^^^ ((1 : Int32) <<< (nI d &&& 31)) = nI k := by decide +kernel
theorem pu_setSource (L : pu_LJ sh w h kd thr bt tm rea gr vl so dy cg now) (H : pu_HH sh hist el hd tl past saved) (hm : ∀ a ∈ hist.map (fun x => x.1.1), a ∈ hs) (v1 v2 v3 : Int32) : pu_AR sh sh hist ((b0, bs), pu_X w h kd thr bt tm rea gr vl so dy cg) now past saved el hd tl (C_setSource (nI w) (nI h) thr bt tm rea kd (w * h) (4 * (w * h)) vl gr so dy cg b0 17 el hd tl hs v1 v2 v3) (M_setSource now past saved v1 v2 v3) := by
  obtain ⟨n4, n80⟩ := pu_G80 L.1
  unfold C_setSource M_setSource C_isDye
  rcases pu_dich v1 (w * h) with ⟨c, hc, rfl⟩ | hn
  · rw [pu_LisC1 (by omega) hc, pu_bind, if_neg pu_10, pu_MisC1 L.2.1.1.1 (by omega) hc, pu_bind, if_neg pu_10, pu_wit, pu_btw v2, pu_bind, pu_bind]
    split
    · rename_i e1
      obtain ⟨d, -, c2, rfl⟩ := pu_bt2 0 2 (by decide) e1 (by decide)
      rw [pu_zck1, pu_bind, pu_bind, if_neg pu_10, if_neg pu_10, pu_wit, pu_btw v3, pu_bind, pu_bind]
      split
      · rename_i e2
        obtain ⟨on, -, c3, rfl⟩ := pu_bt2 0 1 (by decide) e2 (by decide)
        rw [if_neg pu_10, if_neg pu_10, pu_ald hc (by omega), pu_bind, pu_nowS L.2.1 L.1 hc, pu_bind, pu_has, pu_bind]
        unfold M_setSource_j52
        show pu_AR sh sh hist _ now past saved el hd tl (if pu_bit (so c) (nI d) = nI on then _ else _) _
        have hon : ∀ (A : Option (Int32 × (Nat → Int32) × (Nat → Int32) × Int32)) (F : Int32 → (Nat → Int32) × Int32 → Option (Int32 × (Nat → Int32) × (Nat → Int32) × Int32)), (if nI on = 1 then (if pu_bit (so c) (nI d) = 1 then A else (M_saves now past saved).bind fun z59 => (ald now 647 (407 + nI c)).bind fun z72 => if nI on = 1 then F (z72 + (1 <<< (nI d &&& 31))) z59 else F (z72 + -(1 <<< (nI d &&& 31))) z59) else (if pu_bit (so c) (nI d) = 0 then A else (M_saves now past saved).bind fun z59 => (ald now 647 (407 + nI c)).bind fun z72 => if nI on = 1 then F (z72 + (1 <<< (nI d &&& 31))) z59 else F (z72 + -(1 <<< (nI d &&& 31))) z59)) = if pu_bit (so c) (nI d) = nI on then A else (M_saves now past saved).bind fun z59 => (ald now 647 (407 + nI c)).bind fun z72 => F (if nI on = 1 then z72 + (1 <<< (nI d &&& 31)) else z72 + -(1 <<< (nI d &&& 31))) z59 := by
          intro A F
          have : on = 0 ∨ on = 1 := by omega
          rcases this with rfl | rfl
          · simp only [if_neg (show ¬ nI 0 = (1 : Int32) from by decide)]; rfl
          · simp only [if_pos (show nI 1 = (1 : Int32) from by decide)]; rfl
        rw [hon (some (-2, now, past, saved)) (fun v z59 => (ast now 647 (407 + nI c) v).bind fun z89 => (M_withDye z89 407 (nI d)).bind fun z95 => some (z95, z89, z59.1, z59.2))]
        by_cases e3 : pu_bit (so c) (nI d) = nI on
        · rw [if_pos e3, if_pos e3]; exact ⟨-2, Or.inl ⟨rfl, rfl⟩⟩
        · rw [if_neg e3, if_neg e3]
          obtain ⟨gr2, so2, dy2, cg2, hd2, tl2, el2, past2, saved2, a1, a2, a3, a4⟩ := pu_act (bs := bs) (b0 := b0) L H hm
          have es : so2 c = so c := by rw [← (a2.2.1.2.2.2.2.2 c hc).1, ← (L.2.1.2.2.2.2.2 c hc).1]
          obtain ⟨s, hs8, hse⟩ := (L.2.2.1.2.2.2 c hc).1
          have key : (if nI on = 1 then so c + (1 <<< (nI d &&& 31)) else so c + -(1 <<< (nI d &&& 31))) = so c ^^^ ((1 : Int32) <<< (nI d &&& 31)) ∧ pu_8 (so c ^^^ ((1 : Int32) <<< (nI d &&& 31))) := by
            rw [hse] at e3 ⊢
            have : on = 0 ∨ on = 1 := by omega
            rcases this with rfl | rfl
            · rw [if_neg (by decide)]
              have eb : pu_bit (nI s) (nI d) = 1 := (pu_bit01 _ _).resolve_left e3
              exact pu_flip0 s hs8 d (by omega) eb
            · rw [if_pos (by decide)]
              have eb : pu_bit (nI s) (nI d) = 0 := (pu_bit01 _ _).resolve_right e3
              exact pu_flip1 s hs8 d (by omega) eb
          have L2 := pu_LJ_so a2 hc key.2
          rw [a1, pu_bind]
          dsimp only
          rw [pu_ald hc (by omega), pu_bind, pu_ast hc (by omega), pu_bind, pu_Lso n80, pu_bind, es, a3, pu_bind, pu_nowS L.2.1 L.1 hc, pu_bind, key.1, pu_nows now 407 c _ (by omega), pu_bind, show M_withDye (upd now (407 + c) (so c ^^^ ((1 : Int32) <<< (nI d &&& 31)))) 407 (nI d) = _ from pu_Mwd L2.2.1.1.1 L2.1 407 (by decide) _ (fun x hx => (L2.2.1.2.2.2.2.2 x hx).1) (nI d), pu_bind]
          exact ⟨pu_dyes (w * h) (upd so2 c (so c ^^^ ((1 : Int32) <<< (nI d &&& 31)))) (nI d), Or.inr ⟨upd now (407 + c) (so c ^^^ ((1 : Int32) <<< (nI d &&& 31))), past2, saved2, pu_X w h kd thr bt tm rea gr2 vl (upd so2 c (so c ^^^ ((1 : Int32) <<< (nI d &&& 31)))) dy2 cg2, hd2, tl2, el2, rfl, rfl, pu_LI_of L2, a4⟩⟩
      · rw [if_pos rfl, if_pos rfl]; exact ⟨-1, Or.inl ⟨rfl, rfl⟩⟩
    · rw [pu_zck0, pu_bind, pu_bind, if_pos rfl, if_pos rfl]; exact ⟨-1, Or.inl ⟨rfl, rfl⟩⟩
  · rw [pu_LisC0 (by omega) (by omega) hn, pu_bind, if_pos rfl, pu_MisC0 L.2.1.1.1 (by omega) (by omega) hn, pu_bind, if_pos rfl]; exact ⟨-1, Or.inl ⟨rfl, rfl⟩⟩
end AC
