/-! PLAIN LAWS, 20: reactions, rinse, run, arrival, undo -/
set_option maxRecDepth 100000
section A2
variable {sh w h kd : Nat} {thr bt tm rea : Int32} {gr : Nat → Int32} {vl : Nat → Nat} {so dy cg now past : Nat → Int32} {saved hd tl : Int32} {el : Nat → Option Nat} {hist : List pu_KL} {hs : List Nat} {b0 : Nat} {bs : Nat × Nat × Nat × Nat × Nat}
theorem pu_setReaction (L : pu_LJ sh w h kd thr bt tm rea gr vl so dy cg now) (H : pu_HH sh hist el hd tl past saved) (hm : ∀ a ∈ hist.map (fun x => x.1.1), a ∈ hs) (v1 v2 v3 : Int32) : pu_AR sh sh hist ((b0, bs), pu_X w h kd thr bt tm rea gr vl so dy cg) now past saved el hd tl (C_setReaction (nI w) (nI h) thr bt tm rea kd (w * h) (4 * (w * h)) vl gr so dy cg b0 17 el hd tl hs v1 v2 v3) (M_setReaction now past saved v1 v2 v3) := by
  unfold C_setReaction M_setReaction C_isDye
  rw [pu_wit v1, pu_wit v2, pu_wit v3, pu_btw v1, pu_bind, pu_bind]
  split
  · rename_i e1
    obtain ⟨a, -, c1, rfl⟩ := pu_bt2 0 2 (by decide) e1 (by decide)
    rw [pu_zck1, pu_bind, pu_bind, if_neg pu_10, if_neg pu_10, pu_btw v2, pu_bind, pu_bind]
    split
    · rename_i e2
      obtain ⟨b, -, c2, rfl⟩ := pu_bt2 0 2 (by decide) e2 (by decide)
      rw [pu_zck1, pu_bind, pu_bind, if_neg pu_10, if_neg pu_10, pu_btw v3, pu_bind, pu_bind]
      by_cases e3 : nI a = nI b
      · rw [if_pos e3]
        split
        · rw [if_neg pu_10]; exact ⟨-1, Or.inl ⟨rfl, rfl⟩⟩
        · rw [if_pos rfl]; exact ⟨-1, Or.inl ⟨rfl, rfl⟩⟩
      · rw [if_neg e3]
        have hab : a ≠ b := fun z => e3 (by rw [z])
        split
        · rename_i e4
          obtain ⟨on, -, c3, rfl⟩ := pu_bt2 0 1 (by decide) e4 (by decide)
          rw [if_neg pu_10, if_neg pu_10]
          have hp : nI a + nI b - 1 = nI (a + b - 1) := by rw [nI_add, pu_s1 (by omega)]
          unfold C_pair M_setReaction_j63
          rw [hp, pu_bind, pu_now6 L.2.1, pu_bind, pu_has, pu_bind]
          show pu_AR sh sh hist _ now past saved el hd tl (if pu_bit rea (nI (a + b - 1)) = nI on then _ else _) _
          have hon : ∀ (A : Option (Int32 × (Nat → Int32) × (Nat → Int32) × Int32)) (F : Int32 → (Nat → Int32) × Int32 → Option (Int32 × (Nat → Int32) × (Nat → Int32) × Int32)), (if nI on = 1 then (if pu_bit rea (nI (a + b - 1)) = 1 then A else (M_saves now past saved).bind fun z70 => (some rea).bind fun z80 => if nI on = 1 then F (z80 + (1 <<< (nI (a + b - 1) &&& 31))) z70 else F (z80 + -(1 <<< (nI (a + b - 1) &&& 31))) z70) else (if pu_bit rea (nI (a + b - 1)) = 0 then A else (M_saves now past saved).bind fun z70 => (some rea).bind fun z80 => if nI on = 1 then F (z80 + (1 <<< (nI (a + b - 1) &&& 31))) z70 else F (z80 + -(1 <<< (nI (a + b - 1) &&& 31))) z70)) = if pu_bit rea (nI (a + b - 1)) = nI on then A else (M_saves now past saved).bind fun z70 => F (if nI on = 1 then rea + (1 <<< (nI (a + b - 1) &&& 31)) else rea + -(1 <<< (nI (a + b - 1) &&& 31))) z70 := by
            intro A F
            have : on = 0 ∨ on = 1 := by omega
            rcases this with rfl | rfl
            · simp only [if_neg (show ¬ nI 0 = (1 : Int32) from by decide)]; rfl
            · simp only [if_pos (show nI 1 = (1 : Int32) from by decide)]; rfl
          rw [hon (some (-2, now, past, saved)) (fun v z70 => (ast now 647 6 v).bind fun z99 => (M_pairs z99).bind fun z101 => some (z101, z99, z70.1, z70.2))]
          by_cases e5 : pu_bit rea (nI (a + b - 1)) = nI on
          · rw [if_pos e5, if_pos e5]; exact ⟨-2, Or.inl ⟨rfl, rfl⟩⟩
          · rw [if_neg e5, if_neg e5]
            obtain ⟨gr2, so2, dy2, cg2, hd2, tl2, el2, past2, saved2, a1, a2, a3, a4⟩ := pu_act (bs := bs) (b0 := b0) L H hm
            obtain ⟨s, hs8, hse⟩ := L.2.2.1.2.2.1
            have key : (if nI on = 1 then rea + (1 <<< (nI (a + b - 1) &&& 31)) else rea + -(1 <<< (nI (a + b - 1) &&& 31))) = rea ^^^ ((1 : Int32) <<< (nI (a + b - 1) &&& 31)) ∧ pu_8 (rea ^^^ ((1 : Int32) <<< (nI (a + b - 1) &&& 31))) := by
              rw [hse] at e5 ⊢
              have : on = 0 ∨ on = 1 := by omega
              rcases this with rfl | rfl
              · rw [if_neg (by decide)]
                have eb : pu_bit (nI s) (nI (a + b - 1)) = 1 := (pu_bit01 _ _).resolve_left e5
                exact pu_flip0 s hs8 (a + b - 1) (by omega) eb
              · rw [if_pos (by decide)]
                have eb : pu_bit (nI s) (nI (a + b - 1)) = 0 := (pu_bit01 _ _).resolve_right e5
                exact pu_flip1 s hs8 (a + b - 1) (by omega) eb
            have L2 := pu_LJ_rea a2 key.2
            obtain ⟨k, hk8, hke⟩ := key.2
            obtain ⟨r, p1, p2⟩ := pu_pairs L2.2.1 hke hk8
            rw [a1, pu_bind, pu_bind]
            dsimp only
            rw [p1, pu_bind, a3, pu_bind, key.1, show ast now 647 6 (rea ^^^ ((1 : Int32) <<< (nI (a + b - 1) &&& 31))) = _ from pu_nowset now 6 (by decide) _, pu_bind, p2, pu_bind]
            exact ⟨r, Or.inr ⟨upd now 6 (rea ^^^ ((1 : Int32) <<< (nI (a + b - 1) &&& 31))), past2, saved2, pu_X w h kd thr bt tm (rea ^^^ ((1 : Int32) <<< (nI (a + b - 1) &&& 31))) gr2 vl so2 dy2 cg2, hd2, tl2, el2, rfl, rfl, pu_LI_of L2, a4⟩⟩
        · rw [if_pos rfl, if_pos rfl]; exact ⟨-1, Or.inl ⟨rfl, rfl⟩⟩
    · rw [pu_zck0, pu_bind, pu_bind, if_pos rfl, if_pos rfl]; exact ⟨-1, Or.inl ⟨rfl, rfl⟩⟩
  · rw [pu_zck0, pu_bind, pu_bind, if_pos rfl, if_pos rfl]; exact ⟨-1, Or.inl ⟨rfl, rfl⟩⟩
theorem pu_LJ_dc (L : pu_LJ sh w h kd thr bt tm rea gr vl so dy cg now) {c : Nat} (hc : c < w * h) : pu_LJ sh w h kd thr bt tm rea gr vl so (upd dy c 0) (upd cg c 0) (upd (upd now (487 + c) 0) (567 + c) 0) := by
  obtain ⟨G, Q, V, T, g0, vb, vs⟩ := L
  obtain ⟨n4, n80⟩ := pu_G80 G
  refine ⟨G, ⟨⟨⟨by rw [pu_un (by omega), pu_un (by omega)]; exact Q.1.1.1, by rw [pu_un (by omega), pu_un (by omega)]; exact Q.1.1.2.1, by rw [pu_un (by omega), pu_un (by omega)]; exact Q.1.1.2.2⟩, fun x hx => by rw [pu_un (by omega), pu_un (by omega)]; exact Q.1.2.1 x hx, fun i hi => by rw [pu_un (by omega), pu_un (by omega)]; exact Q.1.2.2 i hi⟩, by rw [pu_un (by omega), pu_un (by omega)]; exact Q.2.1, by rw [pu_un (by omega), pu_un (by omega)]; exact Q.2.2.1, by rw [pu_un (by omega), pu_un (by omega)]; exact Q.2.2.2.1, by rw [pu_un (by omega), pu_un (by omega)]; exact Q.2.2.2.2.1, fun x hx => ?_⟩, ⟨V.1, V.2.1, V.2.2.1, fun x hx => ⟨(V.2.2.2 x hx).1, ?_, ?_⟩⟩, T, g0, vb, vs⟩
  · obtain ⟨q1, q2, q3⟩ := Q.2.2.2.2.2 x hx
    refine ⟨by rw [pu_un (by omega), pu_un (by omega)]; exact q1, ?_, ?_⟩
    · rw [pu_un (by omega)]
      by_cases e : x = c
      · subst e; rw [pu_us, pu_us]
      · rw [pu_un (by omega), pu_un e]; exact q2
    · by_cases e : x = c
      · subst e; rw [pu_us, pu_us]
      · rw [pu_un (by omega), pu_un (by omega), pu_un e]; exact q3
  · by_cases e : x = c
    · subst e; rw [pu_us]; exact pu_8_0
    · rw [pu_un e]; exact (V.2.2.2 x hx).2.1
  · by_cases e : x = c
    · subst e; exact Or.inl pu_us
    · rw [pu_un e]; exact (V.2.2.2 x hx).2.2
theorem pu_LJ_tm0 (L : pu_LJ sh w h kd thr bt tm rea gr vl so dy cg now) : pu_LJ sh w h kd thr bt 0 rea gr vl so dy cg (upd now 5 0) := by
  obtain ⟨G, Q, V, T, g0, vb, vs⟩ := L
  exact ⟨G, ⟨⟨⟨by rw [pu_un (by omega)]; exact Q.1.1.1, by rw [pu_un (by omega)]; exact Q.1.1.2.1, by rw [pu_un (by omega)]; exact Q.1.1.2.2⟩, fun x hx => by rw [pu_un (by omega)]; exact Q.1.2.1 x hx, fun i hi => by rw [pu_un (by omega)]; exact Q.1.2.2 i hi⟩, by rw [pu_un (by omega)]; exact Q.2.1, by rw [pu_un (by omega)]; exact Q.2.2.1, pu_us, by rw [pu_un (by omega)]; exact Q.2.2.2.2.1, fun x hx => by rw [pu_un (by omega), pu_un (by omega), pu_un (by omega)]; exact Q.2.2.2.2.2 x hx⟩, ⟨V.1, ⟨0, by decide, rfl⟩, V.2.2⟩, ⟨0, by decide, rfl⟩, g0, vb, vs⟩
theorem pu_rinse (L : pu_LJ sh w h kd thr bt tm rea gr vl so dy cg now) (H : pu_HH sh hist el hd tl past saved) (hm : ∀ a ∈ hist.map (fun x => x.1.1), a ∈ hs) : ∃ r now2 past2 saved2 y hd2 tl2 el2, C_rinse (nI w) (nI h) thr bt tm rea kd (w * h) (4 * (w * h)) vl gr so dy cg b0 17 el hd tl hs = some (pu_f2 r y hd2 tl2 el2) ∧ M_rinse now past saved = some (r, now2, past2, saved2) ∧ pu_LI sh y now2 ∧ pu_HH sh (pu_push hist ((b0, bs), pu_X w h kd thr bt tm rea gr vl so dy cg)) el2 hd2 tl2 past2 saved2 := by
  obtain ⟨n4, n80⟩ := pu_G80 L.1
  obtain ⟨gr2, so2, dy2, cg2, hd2, tl2, el2, past2, saved2, a1, a2, a3, a4⟩ := pu_act (bs := bs) (b0 := b0) L H hm
  have key : ∀ m c f1 f2 (a : Int32) (dy cg now : Nat → Int32), c + m = w * h → m < f1 → m < f2 → pu_LJ sh w h kd thr bt tm rea gr2 vl so2 dy cg now → ∃ r dy3 cg3 now3, loopN (fun x => C_rinse_9 el2 hd2 tl2 (nI w, nI h, kd, thr, bt, tm, rea, w * h, gr2, 4 * (w * h), vl, so2, dy2, cg2, hd2, tl2, el2) tm x.1 x.2.1 x.2.2.1 x.2.2.2) f1 (a, nI c, dy, cg) = some (r, dy3, cg3) ∧ loopN (fun x => M_rinse_8 x.1 x.2.1 x.2.2) f2 (a, nI c, now) = some (r, now3) ∧ pu_LJ sh w h kd thr bt tm rea gr2 vl so2 dy3 cg3 now3 := by
    intro m
    induction m with
    | zero =>
      intro c f1 f2 a dy cg now hc h1 h2 L
      obtain ⟨f1, rfl⟩ : ∃ f', f1 = f' + 1 := ⟨f1 - 1, by omega⟩
      obtain ⟨f2, rfl⟩ : ∃ f', f2 = f' + 1 := ⟨f2 - 1, by omega⟩
      refine ⟨a, dy, cg, now, pu_lx ?_, pu_lx ?_, L⟩
      · show C_rinse_9 el2 hd2 tl2 (nI w, nI h, kd, thr, bt, tm, rea, w * h, gr2, 4 * (w * h), vl, so2, dy2, cg2, hd2, tl2, el2) tm a (nI c) dy cg = _
        unfold C_rinse_9
        rw [if_pos (nI_le (by dsimp only; omega) (by omega))]
      · show M_rinse_8 a (nI c) now = _
        unfold M_rinse_8
        rw [pu_Mcells L.2.1.1.1, pu_bind, if_pos (nI_le (by omega) (by omega))]
    | succ m ih =>
      intro c f1 f2 a dy cg now hc h1 h2 L
      obtain ⟨f1, rfl⟩ : ∃ f', f1 = f' + 1 := ⟨f1 - 1, by omega⟩
      obtain ⟨f2, rfl⟩ : ∃ f', f2 = f' + 1 := ⟨f2 - 1, by omega⟩
      have hcn : c < w * h := by omega
      have L2 := pu_LJ_dc L hcn
      obtain ⟨r, dy3, cg3, now3, b1, b2, b3⟩ := ih (c + 1) f1 f2 (a + if dy c = 0 then 0 else 1) _ _ _ (by omega) (by omega) (by omega) L2
      refine ⟨r, dy3, cg3, now3, ?_, ?_, b3⟩
      · rw [pu_lp (y := (a + (if dy c = 0 then 0 else 1), nI (c + 1), upd dy c 0, upd cg c 0))]
        · exact b1
        · show C_rinse_9 el2 hd2 tl2 (nI w, nI h, kd, thr, bt, tm, rea, w * h, gr2, 4 * (w * h), vl, so2, dy2, cg2, hd2, tl2, el2) tm a (nI c) dy cg = _
          unfold C_rinse_9 C_rinse_9_j32
          dsimp only
          rw [if_neg (nI_ge hcn (by omega)), pu_ald hcn (by omega), pu_bind, pu_ast hcn (by omega), pu_bind, pu_zst0 hcn (by omega), pu_bind, pu_bind, pu_bind, pu_a1]
          by_cases e : dy c = 0
          · rw [if_pos e, if_pos e]
          · rw [if_neg e, if_neg e]
      · rw [pu_lp (y := (a + (if dy c = 0 then 0 else 1), nI (c + 1), upd (upd now (487 + c) 0) (567 + c) 0))]
        · exact b2
        · show M_rinse_8 a (nI c) now = _
          unfold M_rinse_8 M_rinse_8_j35
          rw [pu_Mcells L.2.1.1.1, pu_bind, if_neg (nI_ge hcn (by omega)), pu_nowD L.2.1 L.1 hcn, pu_bind]
          simp only [pu_nows now 487 c 0 (by omega), pu_nows (upd now (487 + c) 0) 567 c 0 (by omega), pu_bind, pu_a1]
          by_cases e : dy c = 0
          · rw [if_pos e, if_pos e]
          · rw [if_neg e, if_neg e]
  obtain ⟨r, dy3, cg3, now3, b1, b2, b3⟩ := key (w * h) 0 FU FU 0 dy2 cg2 now (by omega) (pu_FU (by omega)) (pu_FU (by omega)) a2
  have L3 := pu_LJ_tm0 b3
  refine ⟨r, upd now3 5 0, past2, saved2, pu_X w h kd thr bt 0 rea gr2 vl so2 dy3 cg3, hd2, tl2, el2, ?_, ?_, pu_LI_of L3, a4⟩
  · unfold C_rinse
    rw [a1, pu_bind]
    dsimp only
    rw [show loopN (fun x => C_rinse_9 el2 hd2 tl2 (nI w, nI h, kd, thr, bt, tm, rea, w * h, gr2, 4 * (w * h), vl, so2, dy2, cg2, hd2, tl2, el2) tm x.1 x.2.1 x.2.2.1 x.2.2.2) FU (0, 0, dy2, cg2) = _ from b1, pu_bind]
    rfl
  · unfold M_rinse
    rw [a3, pu_bind, show loopN (fun x => M_rinse_8 x.1 x.2.1 x.2.2) FU (0, 0, now) = _ from b2, pu_bind, show ast now3 647 5 0 = _ from pu_nowset now3 5 (by decide) _, pu_bind]
/-- all of a lattice but that its time is at most 1000 -/
def pu_LK (sh w h kd : Nat) (thr bt tm rea : Int32) (gr : Nat → Int32) (vl : Nat → Nat) (so dy cg now : Nat → Int32) : Prop := pu_G w h kd ∧ pu_Q w h kd thr bt tm rea gr vl so dy cg now ∧ pu_V (w * h) bt tm rea so dy cg ∧ (∀ c, c < w * h → 0 ≤ gr c) ∧ (∀ c d, c < w * h → d < 4 → ¬ vl (4 * c + d) = 0 → pu_bd w h kd c d = true) ∧ fb_ct (fun i => decide (vl i = 1)) (4 * (w * h)) ≤ sh
theorem pu_LK_of (L : pu_LJ sh w h kd thr bt tm rea gr vl so dy cg now) : pu_LK sh w h kd thr bt tm rea gr vl so dy cg now := ⟨L.1, L.2.1, L.2.2.1, L.2.2.2.2⟩
theorem pu_LJ_of {t : Nat} (ht : t ≤ 1000) (L : pu_LK sh w h kd thr bt (nI t) rea gr vl so dy cg now) : pu_LJ sh w h kd thr bt (nI t) rea gr vl so dy cg now := ⟨L.1, L.2.1, L.2.2.1, ⟨t, ht, rfl⟩, L.2.2.2⟩
theorem pu_LK_step {t : Nat} (ht : t < 5000) (L : pu_LK sh w h kd thr bt (nI t) rea gr vl so dy cg now) (fr : Nat → Int32) : ∃ r dy2 cg2 now2 fr2, L_step (nI w) (nI h) thr bt (nI t) rea kd (w * h) (4 * (w * h)) vl gr so dy cg = some (r, nI (t + 1), dy2, cg2) ∧ M_steps now fr = some (r, now2, fr2) ∧ pu_LK sh w h kd thr bt (nI (t + 1)) rea gr vl so dy2 cg2 now2 := by
  obtain ⟨G, Q, V, g0, vb, vs⟩ := L
  obtain ⟨r, dy2, cg2, now2, fr2, a1, a2, a3, a4⟩ := pu_step Q G V fr
  rw [pu_a1] at a1 a3
  exact ⟨r, dy2, cg2, now2, fr2, a1, a2, G, a3, ⟨V.1, ⟨t + 1, by omega, rfl⟩, V.2.2.1, fun c hc => ⟨(V.2.2.2 c hc).1, a4 c hc⟩⟩, g0, vb, vs⟩
theorem pu_run2 (L : pu_LJ sh w h kd thr bt tm rea gr vl so dy cg now) (H : pu_HH sh hist el hd tl past saved) (hm : ∀ a ∈ hist.map (fun x => x.1.1), a ∈ hs) (fr : Nat → Int32) (v1 : Int32) : ∃ r fr2, (C_run (nI w) (nI h) thr bt tm rea kd (w * h) (4 * (w * h)) vl gr so dy cg b0 17 el hd tl hs v1 = some (.inl (r, hd, tl, el)) ∧ M_run now past fr saved v1 = some (r, now, past, fr2, saved)) ∨ ∃ now2 past2 saved2 y hd2 tl2 el2, C_run (nI w) (nI h) thr bt tm rea kd (w * h) (4 * (w * h)) vl gr so dy cg b0 17 el hd tl hs v1 = some (.inr (pu_f2 r y hd2 tl2 el2)) ∧ M_run now past fr saved v1 = some (r, now2, past2, fr2, saved2) ∧ pu_LI sh y now2 ∧ pu_HH sh (pu_push hist ((b0, bs), pu_X w h kd thr bt tm rea gr vl so dy cg)) el2 hd2 tl2 past2 saved2 := by
  obtain ⟨n4, n80⟩ := pu_G80 L.1
  obtain ⟨t, ht, rfl⟩ := L.2.2.2.1
  unfold C_run M_run
  rw [pu_wit, pu_btw, pu_bind, pu_bind]
  split
  · rename_i e1
    obtain ⟨v, c1, c2, rfl⟩ := pu_bt2 1 60 (by decide) e1 (by decide)
    rw [if_neg pu_10, if_neg pu_10, pu_now5 L.2.1, pu_bind, nI_add]
    by_cases e2 : nI (t + v) ≤ 1000
    · rw [if_pos e2, if_pos e2]
      have htv : t + v ≤ 1000 := (nI_leI (b := 1000) (by omega) (by decide)).mp e2
      obtain ⟨gr2, so2, dy2, cg2, hd2, tl2, el2, past2, saved2, a1, a2, a3, a4⟩ := pu_act (bs := bs) (b0 := b0) L H hm
      have key : ∀ m k f1 f2 (a : Int32) (dy cg now fr : Nat → Int32), k + m = v → m < f1 → m < f2 → pu_LK sh w h kd thr bt (nI (t + k)) rea gr2 vl so2 dy cg now → ∃ r dy3 cg3 now3 fr3, loopN (fun x => C_run_40 (nI v) (nI w, nI h, kd, thr, bt, nI t, rea, w * h, gr2, 4 * (w * h), vl, so2, dy2, cg2, hd2, tl2, el2) x.1 x.2.1 x.2.2.1 x.2.2.2.1 x.2.2.2.2) f1 (a, nI k, nI (t + k), dy, cg) = some (r, nI (t + v), dy3, cg3) ∧ loopN (fun x => M_run_37 (nI v) x.1 x.2.1 x.2.2.1 x.2.2.2) f2 (a, nI k, now, fr) = some (r, now3, fr3) ∧ pu_LK sh w h kd thr bt (nI (t + v)) rea gr2 vl so2 dy3 cg3 now3 := by
        intro m
        induction m with
        | zero =>
          intro k f1 f2 a dy cg now fr hk h1 h2 L
          obtain ⟨f1, rfl⟩ : ∃ f', f1 = f' + 1 := ⟨f1 - 1, by omega⟩
          obtain ⟨f2, rfl⟩ : ∃ f', f2 = f' + 1 := ⟨f2 - 1, by omega⟩
          obtain rfl : k = v := by omega
          refine ⟨a, dy, cg, now, fr, pu_lx ?_, pu_lx ?_, L⟩
          · show C_run_40 (nI k) (nI w, nI h, kd, thr, bt, nI t, rea, w * h, gr2, 4 * (w * h), vl, so2, dy2, cg2, hd2, tl2, el2) a (nI k) (nI (t + k)) dy cg = _
            unfold C_run_40
            rw [if_pos (Int32.le_refl _)]
          · show M_run_37 (nI k) a (nI k) now fr = _
            unfold M_run_37
            rw [if_pos (Int32.le_refl _)]
        | succ m ih =>
          intro k f1 f2 a dy cg now fr hk h1 h2 L
          obtain ⟨f1, rfl⟩ : ∃ f', f1 = f' + 1 := ⟨f1 - 1, by omega⟩
          obtain ⟨f2, rfl⟩ : ∃ f', f2 = f' + 1 := ⟨f2 - 1, by omega⟩
          obtain ⟨r, dy3, cg3, now3, fr3, s1, s2, s3⟩ := pu_LK_step (by omega) L fr
          obtain ⟨r2, dy4, cg4, now4, fr4, b1, b2, b3⟩ := ih (k + 1) f1 f2 (a + r) dy3 cg3 now3 fr3 (by omega) (by omega) (by omega) s3
          refine ⟨r2, dy4, cg4, now4, fr4, ?_, ?_, b3⟩
          · rw [pu_lp (y := (a + r, nI (k + 1), nI (t + (k + 1)), dy3, cg3))]
            · exact b1
            · show C_run_40 (nI v) (nI w, nI h, kd, thr, bt, nI t, rea, w * h, gr2, 4 * (w * h), vl, so2, dy2, cg2, hd2, tl2, el2) a (nI k) (nI (t + k)) dy cg = _
              unfold C_run_40
              dsimp only
              rw [if_neg (nI_ge (by omega) (by omega)), s1, pu_bind, pu_a1]
              rfl
          · rw [pu_lp (y := (a + r, nI (k + 1), now3, fr3))]
            · exact b2
            · show M_run_37 (nI v) a (nI k) now fr = _
              unfold M_run_37
              rw [if_neg (nI_ge (by omega) (by omega)), s2, pu_bind, pu_a1]
      obtain ⟨r, dy3, cg3, now3, fr3, b1, b2, b3⟩ := key v 0 61 FU 0 dy2 cg2 now fr (by omega) (by omega) (pu_FU (by omega)) (pu_LK_of a2)
      refine ⟨r, fr3, Or.inr ⟨now3, past2, saved2, pu_X w h kd thr bt (nI (t + v)) rea gr2 vl so2 dy3 cg3, hd2, tl2, el2, ?_, ?_, pu_LI_of (pu_LJ_of htv b3), a4⟩⟩
      · rw [a1, pu_bind]
        dsimp only
        rw [show loopN (fun x => C_run_40 (nI v) (nI w, nI h, kd, thr, bt, nI t, rea, w * h, gr2, 4 * (w * h), vl, so2, dy2, cg2, hd2, tl2, el2) x.1 x.2.1 x.2.2.1 x.2.2.2.1 x.2.2.2.2) 61 (0, 0, nI t, dy2, cg2) = _ from b1, pu_bind]
        rfl
      · rw [a3, pu_bind, show loopN (fun x => M_run_37 (nI v) x.1 x.2.1 x.2.2.1 x.2.2.2) FU (0, 0, now, fr) = _ from b2, pu_bind]
    · rw [if_neg e2, if_neg e2]; exact ⟨-3, fr, Or.inl ⟨rfl, rfl⟩⟩
  · rw [if_pos rfl, if_pos rfl]; exact ⟨-1, fr, Or.inl ⟨rfl, rfl⟩⟩
theorem pu_keeps (now kept : Nat → Int32) : ∃ k2, M_keeps now kept = some k2 ∧ ∀ k, k < 647 → k2 k = now k := by
  have hh := pu_for (st := fun x => M_keeps_2 now x.1 x.2) (fun i (g : Nat → Int32) => (nI i, g)) (fun i g => upd g i (now i)) (fun g => g) (fun i g => ∀ k, k < i → g k = now k) (N := 647) (fu := FU) (a := kept)
    (by
      rintro i g hi J
      refine ⟨?_, fun k hk => ?_⟩
      · show M_keeps_2 now (nI i) g = _
        unfold M_keeps_2
        rw [if_neg (show ¬ (647 : Int32) ≤ nI i from nI_ge (b := 647) hi (by decide)), pu_ald hi (by decide), pu_bind, pu_ast hi (by decide), pu_bind, pu_a1]
      · by_cases e : k = i
        · subst e; exact pu_us
        · rw [pu_un e]; exact J k (by omega))
    (by
      intro g _
      show M_keeps_2 now (nI 647) g = _
      unfold M_keeps_2
      rw [if_pos (by decide)]) (fun k hk => absurd hk (Nat.not_lt_zero _)) (pu_FU (by decide))
  refine ⟨pu_it (fun i g => upd g i (now i)) 647 kept, ?_, hh.2⟩
  unfold M_keeps
  rw [show loopN (fun x => M_keeps_2 now x.1 x.2) FU (0, kept) = _ from hh.1, pu_bind]
theorem pu_returns (now kept : Nat → Int32) : ∃ n2, M_returns now kept = some n2 ∧ ∀ k, k < 647 → n2 k = kept k := by
  have hh := pu_for (st := fun x => M_returns_2 kept x.1 x.2) (fun i (g : Nat → Int32) => (nI i, g)) (fun i g => upd g i (kept i)) (fun g => g) (fun i g => ∀ k, k < i → g k = kept k) (N := 647) (fu := FU) (a := now)
    (by
      rintro i g hi J
      refine ⟨?_, fun k hk => ?_⟩
      · show M_returns_2 kept (nI i) g = _
        unfold M_returns_2
        rw [if_neg (show ¬ (647 : Int32) ≤ nI i from nI_ge (b := 647) hi (by decide)), pu_ald hi (by decide), pu_bind, pu_ast hi (by decide), pu_bind, pu_a1]
      · by_cases e : k = i
        · subst e; exact pu_us
        · rw [pu_un e]; exact J k (by omega))
    (by
      intro g _
      show M_returns_2 kept (nI 647) g = _
      unfold M_returns_2
      rw [if_pos (by decide)]) (fun k hk => absurd hk (Nat.not_lt_zero _)) (pu_FU (by decide))
  refine ⟨pu_it (fun i g => upd g i (kept i)) 647 now, ?_, hh.2⟩
  unfold M_returns
  rw [show loopN (fun x => M_returns_2 kept x.1 x.2) FU (0, now) = _ from hh.1, pu_bind]
theorem pu_arrival (L : pu_LJ sh w h kd thr bt tm rea gr vl so dy cg now) (kept fr : Nat → Int32) (v1 v2 : Int32) : ∃ r now2 kept2 fr2, C_arrival (nI w) (nI h) thr bt tm rea kd (w * h) (4 * (w * h)) vl gr so dy cg v1 v2 = some r ∧ M_arrival now kept fr v1 v2 = some (r, now2, kept2, fr2) ∧ ∀ k, k < 647 → now2 k = now k := by
  obtain ⟨n4, n80⟩ := pu_G80 L.1
  obtain ⟨t, ht, rfl⟩ := L.2.2.2.1
  unfold C_arrival M_arrival C_isDye
  rw [pu_wit, pu_btw, pu_bind, pu_bind]
  split
  · rename_i e1
    rw [pu_zck1, pu_bind, pu_bind, if_neg pu_10, if_neg pu_10]
    rcases pu_dich v2 (w * h) with ⟨c, hc, rfl⟩ | hn
    · rw [pu_LisC1 (by omega) hc, pu_bind, if_neg pu_10, pu_MisC1 L.2.1.1.1 (by omega) hc, pu_bind, if_neg pu_10]
      obtain ⟨gr2, so2, dy2, cg2, a1, a2⟩ := pu_Lcopy L
      obtain ⟨k2, k1, k3⟩ := pu_keeps now kept
      have key : ∀ m k f1 f2 (dy cg now fr : Nat → Int32), k + m = 60 → m < f1 → m + 1 < f2 → pu_LK sh w h kd thr bt (nI (t + k)) rea gr2 vl so2 dy cg now → ∃ k4 tm4 dy4 cg4 k5 now4 fr4, loopN (fun x => C_arrival_31 v1 (nI c) (nI w, nI h, kd, thr, bt, nI t, rea, w * h, gr2, 4 * (w * h), vl, so2, dy2, cg2) x.1 x.2.1 x.2.2.1 x.2.2.2) f1 (nI k, nI (t + k), dy, cg) = some (nI k4, tm4, dy4, cg4) ∧ loopN (fun x => M_arrival_25 v1 (nI c) x.1 x.2.1 x.2.2) f2 (nI k, now, fr) = some (nI k5, now4, fr4) ∧ ((pu_bit (dy4 c) v1 = 1 ∧ k4 = k5 ∧ k5 ≤ 60) ∨ (pu_bit (dy4 c) v1 = 0 ∧ k5 = 61)) := by
        intro m
        induction m with
        | zero =>
          intro k f1 f2 dy cg now fr hk h1 h2 L
          obtain ⟨f1, rfl⟩ : ∃ f', f1 = f' + 1 := ⟨f1 - 1, by omega⟩
          obtain ⟨f2, rfl⟩ : ∃ f', f2 = f' + 1 + 1 := ⟨f2 - 2, by omega⟩
          have c1 : C_arrival_31 v1 (nI c) (nI w, nI h, kd, thr, bt, nI t, rea, w * h, gr2, 4 * (w * h), vl, so2, dy2, cg2) (nI k) (nI (t + k)) dy cg = some (.inr (nI k, nI (t + k), dy, cg)) := by
            unfold C_arrival_31
            dsimp only
            rw [pu_ald hc (by omega), pu_bind, if_pos (show (60 : Int32) ≤ nI k from nI_le (a := 60) (by omega) (by omega))]
            split <;> rfl
          obtain ⟨r, dy3, cg3, now3, fr3, s1, s2, s3⟩ := pu_LK_step (by omega) L fr
          have m1 : M_arrival_25 v1 (nI c) (nI k) now fr = if pu_bit (dy c) v1 = 0 then some (.inl (nI (k + 1), now3, fr3)) else some (.inr (nI k, now, fr)) := by
            unfold M_arrival_25
            rw [if_neg (show ¬ (60 : Int32) < nI k from nI_nlt (a := 60) (by omega) (by decide)), pu_nowD L.2.1 L.1 hc, pu_bind, pu_has, pu_bind, s2, pu_bind, pu_a1]
          rcases pu_bit01 (dy c) v1 with e | e
          · rw [if_pos e] at m1
            refine ⟨k, nI (t + k), dy, cg, k + 1, now3, fr3, pu_lx c1, ?_, Or.inr ⟨e, by omega⟩⟩
            rw [pu_lp m1]
            refine pu_lx ?_
            show M_arrival_25 v1 (nI c) (nI (k + 1)) now3 fr3 = _
            unfold M_arrival_25
            rw [if_pos (show (60 : Int32) < nI (k + 1) from nI_lt (a := 60) (by omega) (by omega))]
          · rw [if_neg (by rw [e]; exact pu_10)] at m1
            exact ⟨k, nI (t + k), dy, cg, k, now, fr, pu_lx c1, pu_lx m1, Or.inl ⟨e, rfl, by omega⟩⟩
        | succ m ih =>
          intro k f1 f2 dy cg now fr hk h1 h2 L
          obtain ⟨f1, rfl⟩ : ∃ f', f1 = f' + 1 := ⟨f1 - 1, by omega⟩
          obtain ⟨f2, rfl⟩ : ∃ f', f2 = f' + 1 := ⟨f2 - 1, by omega⟩
          obtain ⟨r, dy3, cg3, now3, fr3, s1, s2, s3⟩ := pu_LK_step (by omega) L fr
          have c1 : C_arrival_31 v1 (nI c) (nI w, nI h, kd, thr, bt, nI t, rea, w * h, gr2, 4 * (w * h), vl, so2, dy2, cg2) (nI k) (nI (t + k)) dy cg = if pu_bit (dy c) v1 = 0 then some (.inl (nI (k + 1), nI (t + (k + 1)), dy3, cg3)) else some (.inr (nI k, nI (t + k), dy, cg)) := by
            unfold C_arrival_31
            dsimp only
            rw [pu_ald hc (by omega), pu_bind, if_neg (show ¬ (60 : Int32) ≤ nI k from nI_ge (b := 60) (by omega) (by decide)), s1, pu_bind, pu_a1]
            rfl
          have m1 : M_arrival_25 v1 (nI c) (nI k) now fr = if pu_bit (dy c) v1 = 0 then some (.inl (nI (k + 1), now3, fr3)) else some (.inr (nI k, now, fr)) := by
            unfold M_arrival_25
            rw [if_neg (show ¬ (60 : Int32) < nI k from nI_nlt (a := 60) (by omega) (by decide)), pu_nowD L.2.1 L.1 hc, pu_bind, pu_has, pu_bind, s2, pu_bind, pu_a1]
          rcases pu_bit01 (dy c) v1 with e | e
          · rw [if_pos e] at c1 m1
            obtain ⟨k4, tm4, dy4, cg4, k5, now4, fr4, b1, b2, b3⟩ := ih (k + 1) f1 f2 dy3 cg3 now3 fr3 (by omega) (by omega) (by omega) s3
            exact ⟨k4, tm4, dy4, cg4, k5, now4, fr4, by rw [pu_lp c1]; exact b1, by rw [pu_lp m1]; exact b2, b3⟩
          · rw [if_neg (by rw [e]; exact pu_10)] at c1 m1
            exact ⟨k, nI (t + k), dy, cg, k, now, fr, pu_lx c1, pu_lx m1, Or.inl ⟨e, rfl, by omega⟩⟩
      obtain ⟨k4, tm4, dy4, cg4, k5, now4, fr4, b1, b2, b3⟩ := key 60 0 61 FU dy2 cg2 now fr rfl (by decide) (pu_FU (by decide)) (pu_LK_of a2)
      obtain ⟨n2, n1, n3⟩ := pu_returns now4 k2
      rw [a1, pu_bind]
      dsimp only
      rw [show loopN (fun x => C_arrival_31 v1 (nI c) (nI w, nI h, kd, thr, bt, nI t, rea, w * h, gr2, 4 * (w * h), vl, so2, dy2, cg2) x.1 x.2.1 x.2.2.1 x.2.2.2) 61 (0, nI t, dy2, cg2) = _ from b1, pu_bind]
      dsimp only
      rw [pu_ald hc (by omega), pu_bind, k1, pu_bind, show loopN (fun x => M_arrival_25 v1 (nI c) x.1 x.2.1 x.2.2) FU (0, now, fr) = _ from b2, pu_bind]
      dsimp only
      rw [n1, pu_bind]
      have hnow : ∀ k, k < 647 → n2 k = now k := fun k hk => by rw [n3 k hk, k3 k hk]
      rcases b3 with ⟨e, rfl, h60⟩ | ⟨e, h61⟩
      · refine ⟨nI k4, n2, k2, fr4, ?_, ?_, hnow⟩
        · exact if_pos e
        · rw [if_pos (show nI k4 ≤ (60 : Int32) from nI_le (b := 60) h60 (by decide))]
      · refine ⟨-9, n2, k2, fr4, ?_, ?_, hnow⟩
        · exact if_neg (fun z : pu_bit (dy4 c) v1 = 1 => by rw [e] at z; exact pu_10 z.symm)
        · rw [if_neg (show ¬ nI k5 ≤ (60 : Int32) from nI_ge (a := 60) (by omega) (by omega))]
    · rw [pu_LisC0 (by omega) (by omega) hn, pu_bind, if_pos rfl, pu_MisC0 L.2.1.1.1 (by omega) (by omega) hn, pu_bind, if_pos rfl]
      exact ⟨_, _, _, _, rfl, rfl, fun _ _ => rfl⟩
  · rw [pu_zck0, pu_bind, pu_bind, if_pos rfl, if_pos rfl]
    exact ⟨_, _, _, _, rfl, rfl, fun _ _ => rfl⟩
end A2
