set_option maxRecDepth 100000
theorem lw_O {own : String} {idx : Nat} {C owner : String} {x y : MethodName} {b : ByteArray} {L : Nat} {r : Option FieldType} (h1 : Cond.methodLink own idx x ∈ lw_all) (hs : Cond.sameMethod x.cls owner x.name x.desc ∈ lw_all) (h6 : Cond.instanceMethod ⟨owner, x.name, x.desc⟩ ∈ lw_all) (h3 : Cond.selects C x y ∈ lw_all) (h2 : Cond.instanceMethod y ∈ lw_all) (h4 : Cond.initialized y.cls ∈ lw_all) (h5 : Cond.code y b L r ∈ lw_all) : GoodIn lw_all (va_wsO own idx C owner x y (ws_ y b L r)) := by
  refine lw_app ?_ (lw_meth h5)
  intro w hw
  simp only [List.mem_cons, List.not_mem_nil, or_false] at hw
  rcases hw with e | e | e | e | e | e
  · rw [e]; exact h1
  · rw [e]; exact hs
  · rw [e]; exact h6
  · rw [e]; exact h3
  · rw [e]; exact h2
  · rw [e]; exact h4
theorem vd_iff {A : Nat → Prop} {ws : va_W} : va_D A ws ↔ (ws.map (fun x => x.1)).Nodup ∧ ∀ x ∈ ws, A x.1 := by
  constructor
  · rintro ⟨h1, h2⟩
    refine ⟨?_, fun x hx => ?_⟩
    · unfold List.Nodup
      rw [List.pairwise_map, List.pairwise_iff_getElem]
      intro i j hi hj hij e
      exact absurd (h1 i j _ _ (List.getElem?_eq_getElem hi) (List.getElem?_eq_getElem hj) e) (Nat.ne_of_lt hij)
    · obtain ⟨k, hk⟩ := List.mem_iff_getElem?.mp hx
      exact h2 k x hk
  · rintro ⟨h1, h2⟩
    unfold List.Nodup at h1
    rw [List.pairwise_map, List.pairwise_iff_getElem] at h1
    refine ⟨fun i j a b ha hb e => ?_, fun k q hk => h2 q (List.mem_of_getElem? hk)⟩
    obtain ⟨hi, ha⟩ := List.getElem?_eq_some_iff.mp ha
    obtain ⟨hj, hb⟩ := List.getElem?_eq_some_iff.mp hb
    rcases Nat.lt_trichotomy i j with h | h | h
    · exact absurd (by rw [ha, hb]; exact e) (h1 i j hi hj h)
    · exact h
    · exact absurd (by rw [ha, hb]; exact e.symm) (h1 j i hj hi h)
section VT
variable {p : Program} {l : Launch} {e : Env} {R : Room} {s : State} {m : MethodId} {args : Array Value} {below : List Frame} {meth : Method} {c : Code} {D : va_G} {A : Nat → Prop} {cells slots : Nat} {Q : State → Prop} {cc : ByteArray} {nL : Nat} {own : String} {ws : va_W} {pc : Nat} {lv : VW} {st : List Value}
theorem v_perm {ws' : va_W} (h : ws'.Perm ws) (k : V p l e R s m args below meth c D A nL Q ws' cells slots pc lv st) : V p l e R s m args below meth c D A nL Q ws cells slots pc lv st := by
  intro H locs ls hP hD hS hl
  refine k H locs ls (fun i q hq => ?_) ?_ hS hl
  · obtain ⟨j, hj⟩ := List.mem_iff_getElem?.mp (h.mem_iff.mp (List.mem_of_getElem? hq))
    exact hP j q hj
  · rw [vd_iff] at hD ⊢
    exact ⟨((h.map _).nodup_iff).mpr hD.1, fun x hx => hD.2 x (h.mem_iff.mp hx)⟩
theorem v_wq {ws' : va_W} (h : ws = ws') (k : V p l e R s m args below meth c D A nL Q ws' cells slots pc lv st) : V p l e R s m args below meth c D A nL Q ws cells slots pc lv st := by subst h; exact k
theorem v_rot {a b n : va_W} (k : V p l e R s m args below meth c D A nL Q ((a ++ n) ++ b) cells slots pc lv st) : V p l e R s m args below meth c D A nL Q ((a ++ b) ++ n) cells slots pc lv st := by
  refine v_perm ?_ k
  rw [List.append_assoc, List.append_assoc]
  exact List.Perm.append_left a List.perm_append_comm
theorem get_lt {ks : List Nat} {a b : va_W} (h : ks.map (fun i => a[i]?) = b.map some) : ∀ i ∈ ks, i < a.length := by
  intro i hi
  have h1 : a[i]? ∈ ks.map (fun i => a[i]?) := List.mem_map.mpr ⟨i, hi, rfl⟩
  rw [h] at h1
  obtain ⟨y, -, hy⟩ := List.mem_map.mp h1
  exact (List.getElem?_eq_some_iff.mp hy.symm).1
theorem tl_ndR {isR : List Nat} {wp wr : va_W} {n : Nat} (h : va_nd isR = true) (hR : isR.map (fun i => wp[i]?) = wr.map some) : va_nd (isR ++ tl_ix wp.length n) = true := tl_nd h (get_lt hR)
theorem tl_disR {isC isR : List Nat} {wp wc : va_W} {n : Nat} (h : ∀ i ∈ isR, i ∉ isC) (hC : isC.map (fun i => wp[i]?) = wc.map some) : ∀ i ∈ isR ++ tl_ix wp.length n, i ∉ isC := tl_dis h (get_lt hC)
theorem tl_dis2 {isC isR : List Nat} {wp wr : va_W} {n : Nat} (h : ∀ i ∈ isR, i ∉ isC) (hR : isR.map (fun i => wp[i]?) = wr.map some) : ∀ i ∈ isR, i ∉ isC ++ tl_ix wp.length n := by
  intro i hi hc
  have hl := get_lt hR i hi
  rcases List.mem_append.mp hc with h1 | h1
  · exact h i hi h1
  · unfold tl_ix at h1
    obtain ⟨j, -, rfl⟩ := List.mem_map.mp h1
    omega
/-- fewer cells, in another order; the tail stays -/
theorem v_wsT {a b tk : va_W} (ks : List Nat) (hn : va_nd ks = true) (h : ks.map (fun i => a[i]?) = b.map some) (k : V p l e R s m args below meth c D A nL Q (b ++ tk) cells slots pc lv st) : V p l e R s m args below meth c D A nL Q (a ++ tk) cells slots pc lv st :=
  v_ws (ks ++ tl_ix a.length tk.length) (tl_ndR hn h) (tl_R h) k
/-- the tail is forgotten -/
theorem v_wsF {a tk : va_W} (k : V p l e R s m args below meth c D A nL Q a cells slots pc lv st) : V p l e R s m args below meth c D A nL Q (a ++ tk) cells slots pc lv st := by
  intro H locs ls hP hD hS hl
  refine k H locs ls (fun i q hq => hP i q (by rw [List.getElem?_append_left (List.getElem?_eq_some_iff.mp hq).1]; exact hq)) ?_ hS hl
  rw [vd_iff] at hD ⊢
  rw [List.map_append] at hD
  exact ⟨(List.nodup_append.mp hD.1).1, fun x hx => hD.2 x (List.mem_append_left _ hx)⟩
theorem rg_all (ws : va_W) : (List.range ws.length).map (fun i => ws[i]?) = ws.map some := by
  apply List.ext_getElem?
  intro j
  by_cases h : j < ws.length
  · simp [h]
  · simp [h]
theorem rg_pre (a b : va_W) : (List.range a.length).map (fun i => (a ++ b)[i]?) = a.map some := by
  apply List.ext_getElem?
  intro j
  by_cases h : j < a.length
  · simp [h, List.getElem?_append_left]
  · simp [h]
theorem rg_nd (n : Nat) : va_nd (List.range n) = true := nd_of List.nodup_range
theorem vc_Oi (pc' c' s' : Nat) (X : CX p s m args meth c D A cc nL own) {y x : MethodName} {b : ByteArray} {L index : Nat} {r : Option FieldType} {rm : Room} {Xp : (Nat → Prop) → State → Prop} {post : Int32 → va_W → Prop} {b0 : Nat} (n : Nat) (As : List Value) {rest : List Value} (isC isR : List Nat) (wc : va_W) {wr : va_W} (hC : isC.map (fun i => ws[i]?) = wc.map some) (hR : isR.map (fun i => ws[i]?) = wr.map some) (hn : va_nd isR = true) (hdis : ∀ i ∈ isR, i ∉ isC) (hnC : va_nd isC = true) (hM : CTi l y b L r rm D wc (.ref b0 :: As) Xp post) {C owner : String} (h1 : Cond.methodLink own index x ∈ lw_all) (hsm : Cond.sameMethod x.cls owner x.name x.desc ∈ lw_all) (h3 : Cond.selects C x y ∈ lw_all) (h2 : Cond.instanceMethod y ∈ lw_all) (h4 : Cond.initialized y.cls ∈ lw_all) (h5 : Cond.code y b L r ∈ lw_all) (h6 : Cond.instanceMethod ⟨owner, x.name, x.desc⟩ ∈ lw_all) {b9 : ByteArray} {m9 : Nat} {r9 : Option FieldType} (h7 : Cond.code ⟨owner, x.name, x.desc⟩ b9 m9 r9 ∈ lw_all) (hd : owner ≠ "java/lang/invoke/MethodHandle" ∧ owner ≠ "java/lang/invoke/VarHandle" ∧ (parseMethodDescriptor x.desc).map (fun d => d.parameters.length) = some n)
    (hO : ∀ (H : Heap) (locs : List Loc), va_P D CL ws H → va_S A s.heap H locs → ∃ cell : Cell, H[b0]? = some cell ∧ cell.vm.isStatics = false ∧ s.vm.findClass C = some cell.cls) (hX : Pass Xp s A) (hroom : rm.frames + 1 ≤ R.frames ∧ 8 + (L + 11) + rm.locals ≤ R.locals) (hcs : cells + rm.cells ≤ R.cells ∧ slots + rm.slots ≤ R.slots) (hnA : As.length = n) (hst : st = As.reverse ++ .ref b0 :: rest) (hrest : (rest.map fun v => v.category).sum ≤ 8) (d : decode cc pc = .ok (.invokevirtual index, 3)) (hp : pc + 3 = pc') (hc : cells + rm.cells = c') (hs : slots + rm.slots = s') (k : ∀ (r1 : Int32) (u : va_W), post r1 u → V p l e R s m args below meth c D A nL Q (wr ++ u) c' s' pc' lv (.int r1 :: rest)) : V p l e R s m args below meth c D A nL Q ws cells slots pc lv st := by
  subst hp; subst hst; subst hc; subst hs
  intro H locs ls hP hD hS hl
  have hPc := pc_sub isC hC hP
  have hDc := pc_subD isC hnC hC hD
  have hFc := va_free (wc := wc) hD hS X.hA isC hC
  have hbl := pre_blind (D := D) (sz := H.size) (w0 := wc) (av := .ref b0 :: As) hX.1
  have hXc : ∀ U : State, U.heap = H → s.WarmedH U.vm → Xp (va_A wc H.size) U := fun U hU hW => hX.2 _ H locs U hFc hS hU hW
  refine va_calli (va_runU (C := C) (owner := owner) (x := x) (As := As) (rest := rest) ⟨X.hx, X.hb, X.hml, X.hown, X.hts⟩ (hM H.size) (va_cwO n X.hts (lw_O h1 hsm h6 h3 h2 h4 h5) rfl rfl rfl h7 hd hroom) ⟨hbl, hO H locs hP hS, fun U hU hW => ⟨rfl, by rw [hU], by rw [hU]; exact hPc, va_K.moved hW.alike X.hK, hDc, hXc U hU hW⟩⟩ rfl hnA hl.1 rfl (lv_room hrest) d hcs) hS (fun q _ h => hFc q h) hFc (fun r1 u t H1 locs1 ht hvm hpo hB hz1 hk1 hS1 => ?_)
  obtain ⟨hP1, hD1⟩ := hB
  rw [ht] at hP1
  obtain ⟨hP, hD⟩ := va_join hP hD isC isR hC hR hn hdis hk1 hFc hP1 hD1
  exact k r1 u hpo H1 locs1 ls hP hD hS1 hl
end VT
/-! the token -/
def orX {α : Type} (o : Option α) (e : Option Int32) (k : α → Option Int32) : Option Int32 := match o with
  | some z => k z
  | none => e
theorem orX_s {α : Type} {o : Option α} {e : Option Int32} {k : α → Option Int32} {r : Int32} (h : orX o e k = some r) : e = some r ∨ ∃ z, o = some z ∧ k z = some r := by
  cases o with
  | none => exact Or.inl h
  | some z => exact Or.inr ⟨z, rfl, h⟩
def loopX {σ ω : Type} (xs : σ → Option Int32) (st : σ → Option (σ ⊕ ω)) : Nat → σ → Option Int32
  | 0, _ => none
  | n + 1, x => match xs x with
    | some e => some e
    | none => match st x with
      | some (.inl y) => loopX xs st n y
      | _ => none
theorem v_loopX {σ ω : Type} {xs : σ → Option Int32} {st : σ → Option (σ ⊕ ω)} (cN sN CM SM : Nat) (G : Nat → Nat → σ → Prop) {pos : Int32} (hx : ∀ (cb sb : Nat) (x : σ), cb + cN ≤ CM → sb + sN ≤ SM → xs x = some pos → G cb sb x)
    (hb : ∀ (cb sb : Nat) (x y : σ), cb + cN ≤ CM → sb + sN ≤ SM → st x = some (.inl y) → G (cb + cN) (sb + sN) y → G cb sb x) :
    ∀ (n cb sb : Nat) (x : σ), cb + n * cN ≤ CM → sb + n * sN ≤ SM → loopX xs st n x = some pos → G cb sb x := by
  intro n
  induction n with
  | zero => intro cb sb x _ _ h; cases h
  | succ n ih =>
    intro cb sb x hc hs h
    have e1 : cb + (n + 1) * cN = cb + cN + n * cN := by rw [Nat.succ_mul]; omega
    have e2 : sb + (n + 1) * sN = sb + sN + n * sN := by rw [Nat.succ_mul]; omega
    rw [e1] at hc
    rw [e2] at hs
    unfold loopX at h
    cases h1 : xs x with
    | some e => rw [h1] at h; exact hx cb sb x (by omega) (by omega) (h1.trans h)
    | none =>
      rw [h1] at h
      cases h2 : st x with
      | none => rw [h2] at h; cases h
      | some r =>
        rw [h2] at h
        cases r with
        | inl y => exact hb cb sb x y (by omega) (by omega) h2 (ih _ _ y hc hs h)
        | inr o => cases h
abbrev Tok : Type := (Int32 × Int32) ⊕ ((Int32 × Int32) ⊕ (Int32 × Nat × (Nat → Int32)))
abbrev TQ3 : Type := Nat × Nat × Nat
def TKW (D : va_G) (q : TQ3) (t : Tok) : va_W := match t with
  | .inl x => [(q.1, .inr (4, [.int x.1, .int x.2]))]
  | .inr (.inl x) => [(q.1, .inr (6, [.int x.1, .int x.2]))]
  | .inr (.inr x) => [(q.1, .inr (5, [.int x.1, .ref q.2.1])), (q.2.1, .inr (10, [.ref q.2.2, .int 0, .int 0, .int 0])), (q.2.2, .inl (D.1 102, x.2.1, .inl x.2.2))]
def tkSt (t : Tok) : Int32 := match t with
  | .inl x => x.1
  | .inr (.inl x) => x.1
  | .inr (.inr x) => x.1
def tkVal (t : Tok) : Int32 := match t with
  | .inr (.inl x) => x.2
  | _ => -9
def tkSgn (t : Tok) (ch : Int32) : Int32 := match t with
  | .inl x => if x.2 = ch then 1 else 0
  | _ => 0
def tkAm (t : Tok) (na : Nat) (sa : Nat → Nat) : Option Int32 := match t with
  | .inr (.inr x) => T8_among x.2.1 x.2.2 na sa
  | _ => some (-9)
def tkOf (x : (Int32 × Int32 × Nat × (Nat → Int32)) ⊕ ((Int32 × Int32 × Int32) ⊕ (Int32 × Int32 × Int32))) : Int32 × Tok := match x with
  | .inl x => (x.1, .inr (.inr x.2))
  | .inr (.inl x) => (x.1, .inl x.2)
  | .inr (.inr x) => (x.1, .inr (.inl x.2))
def P_adv (nb : Nat) (byt : (Nat → Int32)) (cnt : Int32) (pp : Int32) : Option (Int32 × Tok) := (P_advance nb byt cnt pp).map tkOf
abbrev saC (D : va_G) (an na : Nat) (sa : Nat → Nat) : va_W := [(an, .inl (D.1 105, na, .inr (.inr (.inr (.inr (sArr D sa))))))]
section TKS
variable {p : Program} {l : Launch} {e : Env} {R : Room} {s : State} {m : MethodId} {args : Array Value} {below : List Frame} {meth : Method} {c : Code} {D : va_G} {A : Nat → Prop} {cells slots : Nat} {Q : State → Prop} {cc : ByteArray} {nL : Nat} {ws : va_W} {pc : Nat} {lv : VW} {st : List Value}
theorem tk_at (a : va_W) (x : Nat × va_E) (r : va_W) : (a ++ x :: r)[a.length]? = some x := by simp
theorem v_nil {ws : va_W} (k : V p l e R s m args below meth c D A nL Q ws cells slots pc lv st) : V p l e R s m args below meth c D A nL Q (ws ++ []) cells slots pc lv st := by rw [List.append_nil]; exact k
theorem v_tkVal (pc' : Nat) (X : CX p s m args meth c D A cc nL "DyeLattice$Parser") (hAm : AMB D A s) {a : va_W} {q : TQ3} {t : Tok} (hf : 1 ≤ R.frames) (hl0 : 40 ≤ R.locals) (hcs : cells + 0 ≤ R.cells) (hss : slots + 0 ≤ R.slots) (hrest : (st.map fun v => v.category).sum ≤ 8) (d : decode cc pc = .ok (.invokevirtual 90, 3)) (hp : pc + 3 = pc')
    (k : V p l e R s m args below meth c D A nL Q (a ++ TKW D q t) cells slots pc' lv (.int (tkVal t) :: st)) : V p l e R s m args below meth c D A nL Q (a ++ TKW D q t) cells slots pc lv (.ref q.1 :: st) := by
  rcases t with x | x | x
  · refine vc_Ui (wr := a ++ TKW D q (.inl x)) pc' cells slots X 0 [] [] (List.range (a ++ TKW D q (.inl x)).length) ([] : va_W) rfl (rg_all _) (rg_nd _) (fun i _ h => nomatch h) rfl (w_X6_value ([] : va_W) q.1 _ rfl) q883 (C := "DyeLattice$Sign") q885 q889 q884 q104 q891 rfl ⟨by decide, by decide, by decide +kernel⟩ (fun H locs hP hS => va_recv X.hK hP (ci := 4) rfl (tk_at a _ [])) pass_no ⟨Nat.le_trans (Nat.le_of_ble_eq_true rfl) hf, Nat.le_trans (Nat.le_of_ble_eq_true rfl) hl0⟩ ⟨hcs, hss⟩ rfl rfl hrest d hp rfl rfl (fun r1 u e1 => ?_)
    obtain ⟨rfl, rfl⟩ := e1
    exact v_nil k
  · refine vc_Oi (wr := a) pc' cells slots X 0 [] [a.length] (List.range a.length) (TKW D q (.inr (.inl x))) (by simp [TKW]) (rg_pre _ _) (rg_nd _) (fun i hi h => by simp at hi h; omega) rfl (w_X9_value (tq := q.1) (ts := x.1) (tv := x.2) _ rfl) q883 (C := "DyeLattice$Number") q885 q886 q887 q107 q888 q884 q891 ⟨by decide, by decide, by decide +kernel⟩ (fun H locs hP hS => va_recv X.hK hP (ci := 6) rfl (tk_at a _ [])) (pass_amb hAm) ⟨Nat.le_trans (Nat.le_of_ble_eq_true rfl) hf, Nat.le_trans (Nat.le_of_ble_eq_true rfl) hl0⟩ ⟨hcs, hss⟩ rfl rfl hrest d hp rfl rfl (fun r1 u e1 => ?_)
    obtain ⟨rfl, rfl⟩ := e1
    exact k
  · refine vc_Ui (wr := a ++ TKW D q (.inr (.inr x))) pc' cells slots X 0 [] [] (List.range (a ++ TKW D q (.inr (.inr x))).length) ([] : va_W) rfl (rg_all _) (rg_nd _) (fun i _ h => nomatch h) rfl (w_X6_value ([] : va_W) q.1 _ rfl) q883 (C := "DyeLattice$Word") q885 q890 q884 q104 q891 rfl ⟨by decide, by decide, by decide +kernel⟩ (fun H locs hP hS => va_recv X.hK hP (ci := 5) rfl (tk_at a _ _)) pass_no ⟨Nat.le_trans (Nat.le_of_ble_eq_true rfl) hf, Nat.le_trans (Nat.le_of_ble_eq_true rfl) hl0⟩ ⟨hcs, hss⟩ rfl rfl hrest d hp rfl rfl (fun r1 u e1 => ?_)
    obtain ⟨rfl, rfl⟩ := e1
    exact v_nil k
theorem v_tkSgn (pc' : Nat) (X : CX p s m args meth c D A cc nL "DyeLattice$Parser") (hAm : AMB D A s) {a : va_W} {q : TQ3} {t : Tok} {ch : Int32} (hf : 1 ≤ R.frames) (hl0 : 40 ≤ R.locals) (hcs : cells + 0 ≤ R.cells) (hss : slots + 0 ≤ R.slots) (hrest : (st.map fun v => v.category).sum ≤ 8) (d : decode cc pc = .ok (.invokevirtual 198, 3)) (hp : pc + 3 = pc')
    (k : V p l e R s m args below meth c D A nL Q (a ++ TKW D q t) cells slots pc' lv (.int (tkSgn t ch) :: st)) : V p l e R s m args below meth c D A nL Q (a ++ TKW D q t) cells slots pc lv (.int ch :: .ref q.1 :: st) := by
  rcases t with x | x | x
  · refine vc_Oi (wr := a) pc' cells slots X 1 [.int ch] [a.length] (List.range a.length) (TKW D q (.inl x)) (by simp [TKW]) (rg_pre _ _) (rg_nd _) (fun i hi h => by simp at hi h; omega) rfl (w_X7_isSign (tq := q.1) (ts := x.1) (tv := x.2) ch (if x.2 = ch then 1 else 0) (by unfold T7_isSign; split <;> rfl)) q767 (C := "DyeLattice$Sign") q769 q771 q772 q105 q773 q768 q775 ⟨by decide, by decide, by decide +kernel⟩ (fun H locs hP hS => va_recv X.hK hP (ci := 4) rfl (tk_at a _ [])) (pass_amb hAm) ⟨Nat.le_trans (Nat.le_of_ble_eq_true rfl) hf, Nat.le_trans (Nat.le_of_ble_eq_true rfl) hl0⟩ ⟨hcs, hss⟩ rfl rfl hrest d hp rfl rfl (fun r1 u e1 => ?_)
    obtain ⟨rfl, rfl⟩ := e1
    exact k
  · refine vc_Ui (wr := a ++ TKW D q (.inr (.inl x))) pc' cells slots X 1 [.int ch] [] (List.range (a ++ TKW D q (.inr (.inl x))).length) ([] : va_W) rfl (rg_all _) (rg_nd _) (fun i _ h => nomatch h) rfl (w_X6_isSign ([] : va_W) q.1 ch _ rfl) q767 (C := "DyeLattice$Number") q769 q770 q768 q104 q775 rfl ⟨by decide, by decide, by decide +kernel⟩ (fun H locs hP hS => va_recv X.hK hP (ci := 6) rfl (tk_at a _ [])) pass_no ⟨Nat.le_trans (Nat.le_of_ble_eq_true rfl) hf, Nat.le_trans (Nat.le_of_ble_eq_true rfl) hl0⟩ ⟨hcs, hss⟩ rfl rfl hrest d hp rfl rfl (fun r1 u e1 => ?_)
    obtain ⟨rfl, rfl⟩ := e1
    exact v_nil k
  · refine vc_Ui (wr := a ++ TKW D q (.inr (.inr x))) pc' cells slots X 1 [.int ch] [] (List.range (a ++ TKW D q (.inr (.inr x))).length) ([] : va_W) rfl (rg_all _) (rg_nd _) (fun i _ h => nomatch h) rfl (w_X6_isSign ([] : va_W) q.1 ch _ rfl) q767 (C := "DyeLattice$Word") q769 q774 q768 q104 q775 rfl ⟨by decide, by decide, by decide +kernel⟩ (fun H locs hP hS => va_recv X.hK hP (ci := 5) rfl (tk_at a _ _)) pass_no ⟨Nat.le_trans (Nat.le_of_ble_eq_true rfl) hf, Nat.le_trans (Nat.le_of_ble_eq_true rfl) hl0⟩ ⟨hcs, hss⟩ rfl rfl hrest d hp rfl rfl (fun r1 u e1 => ?_)
    obtain ⟨rfl, rfl⟩ := e1
    exact v_nil k
/-- among: the strings' array is the last cell ahead of the token -/
theorem v_tkAm (pc' : Nat) (X : CX p s m args meth c D A cc nL "DyeLattice$Parser") (hAm : AMB D A s) {b : va_W} {q : TQ3} {t : Tok} {an na : Nat} {sa : Nat → Nat} {r : Int32} (h : tkAm t na sa = some r) (hf : rmX8_among.frames + 1 ≤ R.frames) (hl0 : 8 + (4 + 11) + rmX8_among.locals ≤ R.locals) (hcs : cells + 0 ≤ R.cells) (hss : slots + 0 ≤ R.slots) (hrest : (st.map fun v => v.category).sum ≤ 8) (d : decode cc pc = .ok (.invokevirtual 97, 3)) (hp : pc + 3 = pc')
    (k : V p l e R s m args below meth c D A nL Q ((b ++ saC D an na sa) ++ TKW D q t) cells slots pc' lv (.int r :: st)) : V p l e R s m args below meth c D A nL Q ((b ++ saC D an na sa) ++ TKW D q t) cells slots pc lv (.ref an :: .ref q.1 :: st) := by
  have hf1 : 1 ≤ R.frames := Nat.le_trans (Nat.le_of_ble_eq_true rfl) hf
  have hl1 : 40 ≤ R.locals := Nat.le_trans (Nat.le_of_ble_eq_true rfl) hl0
  rcases t with x | x | x
  · cases h
    refine vc_Ui (wr := (b ++ saC D an na sa) ++ TKW D q (.inl x)) pc' cells slots X 1 [.ref an] [] (List.range ((b ++ saC D an na sa) ++ TKW D q (.inl x)).length) ([] : va_W) rfl (rg_all _) (rg_nd _) (fun i _ h => nomatch h) rfl (w_X6_among ([] : va_W) q.1 an _ rfl) q789 (C := "DyeLattice$Sign") q791 q793 q790 q104 q806 rfl ⟨by decide, by decide, by decide +kernel⟩ (fun H locs hP hS => va_recv X.hK hP (ci := 4) rfl (tk_at _ _ [])) pass_no ⟨Nat.le_trans (Nat.le_of_ble_eq_true rfl) hf1, Nat.le_trans (Nat.le_of_ble_eq_true rfl) hl1⟩ ⟨hcs, hss⟩ rfl rfl hrest d hp rfl rfl (fun r1 u e1 => ?_)
    obtain ⟨rfl, rfl⟩ := e1
    exact v_nil k
  · cases h
    refine vc_Ui (wr := (b ++ saC D an na sa) ++ TKW D q (.inr (.inl x))) pc' cells slots X 1 [.ref an] [] (List.range ((b ++ saC D an na sa) ++ TKW D q (.inr (.inl x))).length) ([] : va_W) rfl (rg_all _) (rg_nd _) (fun i _ h => nomatch h) rfl (w_X6_among ([] : va_W) q.1 an _ rfl) q789 (C := "DyeLattice$Number") q791 q792 q790 q104 q806 rfl ⟨by decide, by decide, by decide +kernel⟩ (fun H locs hP hS => va_recv X.hK hP (ci := 6) rfl (tk_at _ _ [])) pass_no ⟨Nat.le_trans (Nat.le_of_ble_eq_true rfl) hf1, Nat.le_trans (Nat.le_of_ble_eq_true rfl) hl1⟩ ⟨hcs, hss⟩ rfl rfl hrest d hp rfl rfl (fun r1 u e1 => ?_)
    obtain ⟨rfl, rfl⟩ := e1
    exact v_nil k
  · have hpm : ((b ++ TKW D q (.inr (.inr x))) ++ saC D an na sa).Perm ((b ++ saC D an na sa) ++ TKW D q (.inr (.inr x))) := by
      rw [List.append_assoc, List.append_assoc]
      exact List.Perm.append_left b List.perm_append_comm
    refine v_perm hpm ?_
    refine vc_Oi (wr := b) pc' cells slots X 1 [.ref an] [b.length, b.length + 1, b.length + 2, b.length + 3] (List.range b.length) (TKW D q (.inr (.inr x)) ++ saC D an na sa) (by simp [TKW, List.getElem?_append_right]) (by rw [List.append_assoc]; exact rg_pre _ _) (rg_nd _) (fun i hi h => by simp at hi h; omega) (by simp [va_nd]) (w_X8_among (tq := q.1) (ts := x.1) (wq := q.2.1) (wb := q.2.2) (nw := x.2.1) (wby := x.2.2) (wh := 0) (wz := 0) (an := an) (na := na) (sa := sa) r h) q789 (C := "DyeLattice$Word") q791 q794 q795 q106 q796 q790 q806 ⟨by decide, by decide, by decide +kernel⟩ (fun H locs hP hS => va_recv X.hK hP (ci := 5) rfl (show ((b ++ TKW D q (.inr (.inr x))) ++ saC D an na sa)[b.length]? = some (q.1, .inr (5, [.int x.1, .ref q.2.1])) from by rw [List.append_assoc]; exact tk_at b _ _)) (pass_amb hAm) ⟨Nat.le_trans (Nat.le_of_ble_eq_true rfl) hf, Nat.le_trans (Nat.le_of_ble_eq_true rfl) hl0⟩ ⟨hcs, hss⟩ rfl rfl hrest d hp rfl rfl (fun r1 u e1 => ?_)
    obtain ⟨rfl, rfl⟩ := e1
    refine v_perm ?_ k
    show (_ : va_W).Perm (b ++ (TKW D q (.inr (.inr x)) ++ saC D an na sa))
    rw [← List.append_assoc]
    exact hpm.symm
end TKS
theorem ct_imp {l : Launch} {y : MethodName} {ws : List Cond} {rm : Room} {Pc : Array Value → State → Prop} {post post' : va_W → Prop} {B : va_W → State → Prop} {A : Nat → Prop} {mc ms : Nat} {free : Addr → Prop} (hM : Met l y ws rm Pc (va_Qv post B A) mc ms free) (h : ∀ u, post u → post' u) : Met l y ws rm Pc (va_Qv post' B A) mc ms free := by
  intro p e h1 h2 h3 s m args below hf ha hP hk
  obtain ⟨n, o, a, b, c, ⟨⟨u, e1, hp, hb⟩, hF⟩, L⟩ := hM p e h1 h2 h3 s m args below hf ha hP hk
  exact ⟨n, o, a, b, c, ⟨⟨u, e1, h u hp, hb⟩, hF⟩, L⟩
section ADV
variable {l : Launch} {D : va_G} {a0 b0 hq tx av nb pq io tk0 : Nat} {byt : Nat → Int32} {ml cnt pp : Int32}
theorem w_X5_adv (r : Int32 × Tok) (hF : P_adv nb byt cnt pp = some r) : CTv l yX5_advance cX5_advance 3 (Option.none : Option Jvm.ClassFile.FieldType) rmX5_advance D ([(a0, .inr (0, [.ref b0, .ref hq, .ref tx])), (tx, .inr (9, [.ref av, .int 0, .int ml, .int cnt])), (av, .inl (D.1 102, nb, .inl byt)), (pq, .inr (3, [.ref io, .int pp, .ref tk0, .ref a0]))]) [.ref pq] (AMB D) (fun u => ∃ qa4 : TQ3, u = ([(a0, .inr (0, [.ref b0, .ref hq, .ref tx])), (tx, .inr (9, [.ref av, .int 0, .int ml, .int cnt])), (av, .inl (D.1 102, nb, .inl byt)), (pq, .inr (3, [.ref io, .int r.1, .ref qa4.1, .ref a0]))] ++ TKW D qa4 r.2)) := by
  unfold P_adv at hF
  obtain ⟨x, hx, rfl⟩ := Option.map_eq_some_iff.mp hF
  intro sz
  have hM := w_X5_advance (l := l) (D := D) (a0 := a0) (b0 := b0) (hq := hq) (tx := tx) (av := av) (ml := ml) (pq := pq) (io := io) (tk0 := tk0) x hx sz
  refine ct_imp hM ?_
  intro u hu
  rcases x with x | x | x
  · obtain ⟨q4, q5, q6, rfl⟩ := hu
    exact ⟨(q4, q5, q6), rfl⟩
  · obtain ⟨q4, rfl⟩ := hu
    exact ⟨(q4, 0, 0), rfl⟩
  · obtain ⟨q4, rfl⟩ := hu
    exact ⟨(q4, 0, 0), rfl⟩
end ADV
