/-! PLAIN LAWS, 20: the best valve -/
set_option maxRecDepth 100000
section BV
variable {w h kd : Nat} {thr bt tm rea : Int32} {gr : Nat → Int32} {vl : Nat → Nat} {so dy cg now : Nat → Int32}
theorem pu_blp {σ ω : Type} {sc st : σ → Option (σ ⊕ ω)} {x y : σ} {f b : Nat} (h : sc x = some (.inl y)) : loopB sc st (f + 1) b x = loopB sc st f b y := by
  conv => lhs; unfold loopB
  rw [h]
theorem pu_blx {σ ω : Type} {sc st : σ → Option (σ ⊕ ω)} {x : σ} {o : ω} {f b : Nat} (h : sc x = some (.inr o)) : loopB sc st (f + 1) b x = some o := by
  conv => lhs; unfold loopB
  rw [h]
theorem pu_blf {σ ω : Type} {sc st : σ → Option (σ ⊕ ω)} {x y : σ} {f b : Nat} (h : sc x = none) (h2 : st x = some (.inl y)) : loopB sc st (f + 1) (b + 1) x = loopB sc st f b y := by
  conv => lhs; unfold loopB
  rw [h]
  dsimp only
  rw [h2]
theorem pu_upb {f : Nat → Int32} {k : Nat} {x y : Int32} (h : f k = y) : upd (upd f k x) k y = f := by
  funext j
  by_cases e : j = k
  · subst e; rw [pu_us, h]
  · rw [pu_un e, pu_un e]
theorem pu_upbN {f : Nat → Nat} {k x y : Nat} (h : f k = y) : updN (updN f k x) k y = f := by
  funext j
  unfold updN
  by_cases e : j = k
  · subst e; rw [if_pos rfl, h]
  · rw [if_neg e, if_neg e]
def pu_oo : Option Nat → Nat
  | none => 101
  | some k => k
theorem pu_Mst1 (R : pu_R w h kd gr vl now) (G : pu_G w h kd) (q mk : Nat → Int32) (met : Int32) : ∃ o q2 mk2 met2, M_smallest now q mk met = some (nI (pu_oo o), q2, mk2, met2) ∧ pu_lst (pu_P1 (pu_P w h kd gr vl)) o := by
  obtain ⟨o, q2, mk2, met2, e, l⟩ := pu_Mst R G q mk met
  refine ⟨o, q2, mk2, met2, ?_, l⟩
  rw [e]
  cases o <;> rfl
/-- the search helps just where the next smaller threshold spans -/
theorem pu_helps (hg : ∀ c, c < w * h → 0 ≤ gr c) {o : Option Nat} (hl : pu_lst (pu_P1 (pu_P w h kd gr vl)) o) {l : Nat} (h1 : l ≤ 101) :
    pu_sp w h kd gr vl (nI l - 1) (-9) ↔ ∃ t, o = some t ∧ t < l := by
  cases l with
  | zero =>
    constructor
    · intro a; exact absurd a (pu_sp_0 (by decide) hg)
    · rintro ⟨t, -, h⟩; omega
  | succ l =>
    rw [nI_pred]
    have e : pu_P1 (pu_P w h kd gr vl) l = pu_sp w h kd gr vl (nI l) (-9) := by
      unfold pu_P1 pu_P
      rw [Nat.min_eq_left (by omega)]
    rw [← e]
    rcases hl with ⟨rfl, hn⟩ | ⟨k, rfl, hk, hp, hj⟩
    · constructor
      · intro a; exact absurd (pu_P1m (by omega) a) hn
      · rintro ⟨t, h, -⟩; cases h
    · constructor
      · intro a
        refine ⟨k, rfl, ?_⟩
        rcases Nat.lt_or_ge l k with c | c
        · exact absurd a (hj l c)
        · omega
      · rintro ⟨t, h, ht⟩
        cases h
        exact pu_P1m (by omega) hp
theorem pu_best {sh : Nat} (hsh : sh ≤ 64) (L : pu_LJ sh w h kd thr bt tm rea gr vl so dy cg now) (q mk : Nat → Int32) (met : Int32) : ∃ r q2 mk2 met2, C_bestValve (nI w) (nI h) thr bt tm rea kd (w * h) (4 * (w * h)) vl gr so dy cg = some r ∧ M_bestValve now q mk met = some (r, now, q2, mk2, met2) := by
  obtain ⟨gr2, so2, dy2, cg2, hcopy, L2⟩ := pu_Lcopy L
  obtain ⟨G, Q, -, -, -, -, -⟩ := L
  obtain ⟨n4, n80⟩ := pu_G80 G
  have hv : ∀ i, i < 4 * (w * h) → vl i < 5 := fun i hi => (Q.1.2.2 i hi).2
  obtain ⟨o1, e1, l1⟩ := pu_Lst (gr := gr) G hv
  obtain ⟨o2, q1, mk1, met1, e2, l2⟩ := pu_Mst1 Q.1 G q mk met
  cases pu_lst_one (fun i j hij p => pu_P1m hij p) l1 l2
  obtain ⟨-, Q2, hV2, hT2, g0, vb, vs⟩ := L2
  clear l2
  have key : ∀ m k l bud (best : Int32) (q mk : Nat → Int32) (met : Int32) f f2, k + m = 4 * (w * h) → m < f → m < f2 → l ≤ 101 → fb_ct (fun i => decide (vl i = 1)) k + bud = 64 →
      ∃ r q2 mk2 met2, loopB (fun x => C_bestValve_36c (nI w, nI h, kd, thr, bt, tm, rea, w * h, gr2, 4 * (w * h), vl, so2, dy2, cg2) x.1 x.2.1 x.2.2.1 x.2.2.2) (fun x => C_bestValve_36 (nI w, nI h, kd, thr, bt, tm, rea, w * h, gr2, 4 * (w * h), vl, so2, dy2, cg2) x.1 x.2.1 x.2.2.1 x.2.2.2) f bud (nI l, best, nI k, vl) = some (r, vl) ∧ loopN (fun x => M_bestValve_10 x.1 x.2.1 x.2.2.1 x.2.2.2.1 x.2.2.2.2.1 x.2.2.2.2.2.1 x.2.2.2.2.2.2) f2 (best, nI l, nI k, now, q, mk, met) = some (r, now, q2, mk2, met2) := by
    intro m
    induction m with
    | zero =>
      intro k l bud best q mk met f f2 h1 h2 h3 h4 h5
      obtain ⟨f, rfl⟩ : ∃ f', f = f' + 1 := ⟨f - 1, by omega⟩
      obtain ⟨f2, rfl⟩ : ∃ f', f2 = f' + 1 := ⟨f2 - 1, by omega⟩
      have ek : k = 4 * (w * h) := by omega
      subst ek
      refine ⟨best, q, mk, met, pu_blx ?_, pu_lx ?_⟩
      · show C_bestValve_36c _ (nI l) best (nI (4 * (w * h))) vl = _
        unfold C_bestValve_36c
        rw [if_pos (by exact Int32.le_refl _)]
      · show M_bestValve_10 best (nI l) (nI (4 * (w * h))) now q mk met = _
        unfold M_bestValve_10
        rw [pu_Mcells Q2.1.1, pu_bind, show (4 : Int32) * nI (w * h) = nI (4 * (w * h)) from by rw [pu_lit, pk_mul], if_pos (Int32.le_refl _)]
    | succ m ih =>
      intro k l bud best q mk met f f2 h1 h2 h3 h4 h5
      obtain ⟨f, rfl⟩ : ∃ f', f = f' + 1 := ⟨f - 1, by omega⟩
      obtain ⟨f2, rfl⟩ : ∃ f', f2 = f' + 1 := ⟨f2 - 1, by omega⟩
      have hk : k < 4 * (w * h) := by omega
      have hv5 := (Q2.1.2.2 k hk).2
      have hnow := (Q2.1.2.2 k hk).1
      have hne : ¬ nI (4 * (w * h)) ≤ nI k := nI_ge hk (by omega)
      have hm4 : (4 : Int32) * nI (w * h) = nI (4 * (w * h)) := by rw [pu_lit, pk_mul]
      have hc : k / 4 < w * h := by omega
      have hd : k % 4 < 4 := by omega
      have hkk : 4 * (k / 4) + k % 4 = k := by omega
      have h87 : (87 : Int32) + nI k = nI (87 + k) := (show (87 : Int32) + nI k = nI 87 + nI k from rfl).trans (nI_add 87 k)
      have hid : idv (nI k) 4 = some (nI (k / 4)) := pu_idv (d := 4) (by omega) (by omega) (by omega)
      have hir : irm (nI k) 4 = some (nI (k % 4)) := pu_irm (d := 4) (by omega) (by omega) (by omega)
      have ct := fb_ct_succ (fun i => decide (vl i = 1)) k
      by_cases hs : vl k = 1
      · -- a valve that is shut
        have hb : pu_bd w h kd (k / 4) (k % 4) = true := vb _ _ hc hd (by rw [hkk, hs]; decide)
        have hmono := fb_ct_mono (fun i => decide (vl i = 1)) (m := k + 1) (n := 4 * (w * h)) (by omega)
        rw [if_pos (by rw [hs]; rfl)] at ct
        obtain ⟨b2, rfl⟩ : ∃ b2, bud = b2 + 1 := ⟨bud - 1, by omega⟩
        have L3 := pu_LJ_vl (v := 0) ⟨G, Q2, hV2, hT2, g0, vb, vs⟩ hc hd hb (by decide)
        rw [hkk] at L3
        obtain ⟨-, Q3, -, -, -, -, -⟩ := L3
        have hv3 : ∀ i, i < 4 * (w * h) → updN vl k 0 i < 5 := fun i hi => (Q3.1.2.2 i hi).2
        obtain ⟨o, e3, l3⟩ := pu_Lst (gr := gr2) G hv3
        obtain ⟨o', q3, mk3, met3, e4, l4⟩ := pu_Mst1 Q3.1 G q mk met
        cases pu_lst_one (fun i j hij p => pu_P1m hij p) l3 l4
        have c0 : C_bestValve_36c (nI w, nI h, kd, thr, bt, tm, rea, w * h, gr2, 4 * (w * h), vl, so2, dy2, cg2) (nI l) best (nI k) vl = none := by
          unfold C_bestValve_36c
          dsimp only
          rw [if_neg hne, pu_aldN hk (by omega) hv5, pu_bind, hs]
          rfl
        have c1 : C_bestValve_36 (nI w, nI h, kd, thr, bt, tm, rea, w * h, gr2, 4 * (w * h), vl, so2, dy2, cg2) (nI l) best (nI k) vl = if pu_b (pu_sp w h kd gr2 (updN vl k 0) (nI l - 1) (-9)) = 0 then some (.inl (nI l, best, nI (k + 1), vl)) else some (.inl (pu_cd o, nI k, nI (k + 1), vl)) := by
          unfold C_bestValve_36
          dsimp only
          rw [if_neg hne, pu_aldN hk (by omega) hv5, pu_bind, show eqV (vl k) 1 = some true from by rw [hs]; rfl, pu_bind, if_pos rfl, pu_astN hk (by omega) (by decide), pu_bind, pu_Lspans G hv3, pu_bind, e3, pu_bind, pu_astN hk (by omega) (by decide), pu_bind, pu_bind, pu_upbN hs, pu_a1]
        have m2 : M_bestValve_10 best (nI l) (nI k) now q mk met = if nI l ≤ nI (pu_oo o) then some (.inl (best, nI l, nI (k + 1), now, q3, mk3, met3)) else some (.inl (nI k, nI (pu_oo o), nI (k + 1), now, q3, mk3, met3)) := by
          replace e4 : M_smallest (upd now (87 + k) 0) q mk met = some (nI (pu_oo o), q3, mk3, met3) := e4
          unfold M_bestValve_10
          rw [pu_Mcells Q2.1.1, pu_bind, hm4, if_neg hne, hid, pu_bind, hir, pu_bind, pu_Msec Q2.1.1 G hc hd, pu_bind, pu_Msec9 Q2.1.1 G hc hd, if_pos hb, h87, pu_ald (by omega) (by decide), pu_bind, if_pos (by rw [hnow, hs]; rfl), pu_ast (by omega) (by decide), pu_bind, e4, pu_bind, pu_ast (by omega) (by decide), pu_bind, pu_upb (by rw [hnow, hs]; rfl), pu_a1]
          dsimp only
          by_cases c : nI l ≤ nI (pu_oo o)
          · simp only [if_pos c]
          · simp only [if_neg c]
        have hh := pu_helps g0 l3 h4
        by_cases p : pu_sp w h kd gr2 (updN vl k 0) (nI l - 1) (-9)
        · obtain ⟨t, rfl, ht⟩ := hh.mp p
          rw [if_neg (by rw [pu_b_t p]; decide)] at c1
          rw [show pu_oo (some t) = t from rfl, if_neg (nI_ge ht (by omega))] at m2
          obtain ⟨r, q2, mk2, met2, a, b⟩ := ih (k + 1) t b2 (nI k) q3 mk3 met3 f f2 (by omega) (by omega) (by omega) (by omega) (by omega)
          exact ⟨r, q2, mk2, met2, (pu_blf c0 c1).trans a, (pu_lp m2).trans b⟩
        · rw [if_pos (pu_b_f p)] at c1
          have hle : nI l ≤ nI (pu_oo o) := by
            cases o with
            | none => exact nI_le (b := 101) h4 (by omega)
            | some t =>
              have : l ≤ t := by
                rcases Nat.lt_or_ge t l with c | c
                · exact absurd (hh.mpr ⟨t, rfl, c⟩) p
                · exact c
              have ht : t ≤ 100 := by
                rcases l3 with ⟨e, -⟩ | ⟨k9, e, h9, -⟩
                · cases e
                · cases e; exact h9
              exact nI_le (b := t) this (by omega)
          rw [if_pos hle] at m2
          obtain ⟨r, q2, mk2, met2, a, b⟩ := ih (k + 1) l b2 best q3 mk3 met3 f f2 (by omega) (by omega) (by omega) h4 (by omega)
          exact ⟨r, q2, mk2, met2, (pu_blf c0 c1).trans a, (pu_lp m2).trans b⟩
      · -- any other place
        rw [if_neg (by simpa using hs)] at ct
        have c0 : C_bestValve_36c (nI w, nI h, kd, thr, bt, tm, rea, w * h, gr2, 4 * (w * h), vl, so2, dy2, cg2) (nI l) best (nI k) vl = some (.inl (nI l, best, nI (k + 1), vl)) := by
          unfold C_bestValve_36c
          dsimp only
          rw [if_neg hne, pu_aldN hk (by omega) hv5, pu_bind, show eqV (vl k) 1 = some false from by unfold eqV; rw [if_pos ⟨hv5, by decide⟩, decide_eq_false hs], pu_bind, if_neg (by decide), pu_a1]
        have m2 : M_bestValve_10 best (nI l) (nI k) now q mk met = some (.inl (best, nI l, nI (k + 1), now, q, mk, met)) := by
          unfold M_bestValve_10
          rw [pu_Mcells Q2.1.1, pu_bind, hm4, if_neg hne, hid, pu_bind, hir, pu_bind, pu_Msec Q2.1.1 G hc hd, pu_bind, pu_Msec9 Q2.1.1 G hc hd, pu_a1]
          by_cases e : pu_bd w h kd (k / 4) (k % 4) = true
          · rw [if_pos e, h87, pu_ald (by omega) (by decide), pu_bind, if_neg ?_]
            rw [hnow]
            intro c
            exact hs ((nI_eq (b := 1) (by omega) (by omega)).mp c)
          · rw [if_neg e]
        obtain ⟨r, q2, mk2, met2, a, b⟩ := ih (k + 1) l bud best q mk met f f2 (by omega) (by omega) (by omega) h4 (by omega)
        exact ⟨r, q2, mk2, met2, (pu_blp c0).trans a, (pu_lp m2).trans b⟩
  have hl0 : pu_oo o1 ≤ 101 := by
    rcases l1 with ⟨rfl, -⟩ | ⟨k, rfl, hk, -, -⟩
    · exact Nat.le_refl _
    · show k ≤ 101; omega
  obtain ⟨r, q2, mk2, met2, a, b⟩ := key (4 * (w * h)) 0 _ 64 (-9) q1 mk1 met1 400 FU (by omega) (by omega) (by unfold FU; omega) hl0 (by rfl)
  refine ⟨r, q2, mk2, met2, ?_, ?_⟩
  · have ej : ∀ s0, s0 = nI (pu_oo o1) → C_bestValve_j20 (nI w) (nI h) thr bt tm rea kd (w * h) (4 * (w * h)) vl gr so dy cg s0 = some r := by
      intro s0 e
      subst e
      unfold C_bestValve_j20
      rw [hcopy, pu_bind]
      dsimp only
      rw [show ((0 : Int32)) = nI 0 from rfl, a, pu_bind]
    unfold C_bestValve
    rw [e1, pu_bind]
    cases o1 with
    | none => rw [show pu_cd none = -9 from rfl, if_pos rfl]; exact ej _ rfl
    | some k =>
      rcases l1 with ⟨e, -⟩ | ⟨k9, e, h9, -⟩
      · cases e
      · cases e
        rw [if_neg (fun c => absurd ((pu_cd_9 (fun t ht => by cases ht; omega)).mp c) (by simp))]
        exact ej _ rfl
  · unfold M_bestValve
    rw [e2, pu_bind]
    dsimp only
    rw [show ((0 : Int32)) = nI 0 from rfl, b, pu_bind]
end BV
