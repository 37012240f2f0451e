/-! PLAIN LAWS, 6: ways, reach, thresholds -/
set_option maxRecDepth 100000
section WY
variable {w h kd : Nat} {gr : Nat → Int32} {vl : Nat → Nat} {now : Nat → Int32}
/-- the reference's walk from what is met -/
theorem pu_Mrun (R : pu_R w h kd gr vl now) (G : pu_G w h kd) {j : Int32} {VF VB : Nat → Bool} (hJ : pu_J j VF VB) {s : pu_S} (I : pu_I (w * h) s) (t wo : Int32) (S : Nat → Prop) (hS : ∀ x, x < w * h → (s.2.1 x = 1 ↔ S x)) :
    ∃ z : pu_S, M_walks now s.2.2 s.2.1 (nI s.1) t wo j = some (z.2.2, z.2.1, nI z.1) ∧ pu_I (w * h) z ∧ ∀ c, c < w * h → (z.2.1 c = 1 ↔ pu_rch (fun x => x < w * h ∧ S x) (pu_adj w h kd (pu_T gr t wo) (fun c d => VF (vl (4 * c + d))) (fun x d => VB (vl (4 * x + d)))) c) := by
  obtain ⟨n4, n80⟩ := pu_G80 G
  obtain ⟨K1, K2⟩ := pu_run_ok (T := pu_T gr t wo) (vf := fun c d => VF (vl (4 * c + d))) (vb := fun x d => VB (vl (4 * x + d))) G.2.2.2.2 (by omega) I
  refine ⟨_, pu_Mwalks R G hJ I t wo, K1, fun c hc => ?_⟩
  rw [K2 c hc]
  exact ⟨pu_rch_mono (fun x hx => ⟨hx.1, (hS x hx.1).mp hx.2⟩) (fun _ _ z => z), pu_rch_mono (fun x hx => ⟨hx.1, (hS x hx.1).mpr hx.2⟩) (fun _ _ z => z)⟩
theorem pu_I_b {n : Nat} {z : pu_S} (I : pu_I n z) {P : Nat → Prop} (hP : ∀ c, c < n → (z.2.1 c = 1 ↔ P c)) {c : Nat} (hc : c < n) : z.2.1 c = pu_b (P c) := by
  rcases I.2.1 c hc with e | e
  · rw [e, pu_b_f]
    intro p
    rw [(hP c hc).mpr p] at e
    exact pu_10 e
  · rw [e, pu_b_t ((hP c hc).mp e)]
theorem pu_Lway (G : pu_G w h kd) (hv : ∀ i, i < 4 * (w * h) → vl i < 5) {a b : Nat} (ha : a < w * h) (hb : b < w * h) (t : Int32) : L_hasWay (nI w) (nI h) kd (w * h) (4 * (w * h)) vl gr (nI a) (nI b) t = some (pu_b (pu_way w h kd gr vl a b t)) := by
  obtain ⟨n4, n80⟩ := pu_G80 G
  obtain ⟨mk, h1, h2⟩ := pu_Lreached (T := pu_T gr t (-9)) (Sf := fun c => decide (c = a)) (tst := fun x => L_lambda_hasWay_4 (w * h) gr t x) (tsa := fun x => L_lambda_hasWay_3 (nI a) x) G
    (by
      intro c hc
      show L_lambda_hasWay_4 (w * h) gr t (nI c) = _
      unfold L_lambda_hasWay_4
      rw [pu_T9 gr t hc (by omega), pu_ald hc (by omega), pu_bind]
      by_cases k : t ≤ gr c
      · rw [if_pos k, show decide (¬ t ≤ gr c) = false from decide_eq_false (fun z => z k)]; rfl
      · rw [if_neg k, show decide (¬ t ≤ gr c) = true from decide_eq_true k]; rfl)
    (by
      intro c hc
      show L_lambda_hasWay_3 (nI a) (nI c) = some (pu_01 (decide (c = a)))
      unfold L_lambda_hasWay_3
      by_cases k : c = a
      · rw [k, if_pos rfl, decide_eq_true rfl]; rfl
      · rw [if_neg (fun e => k ((nI_eq (by omega) (by omega)).mp e)), decide_eq_false k]; rfl) hv
  unfold L_hasWay
  rw [h1, pu_bind, pu_ald hb (by omega), pu_bind, h2 b hb, pu_b_zck, pu_bind]
  refine congrArg some (pu_b_cong ?_)
  exact ⟨pu_rch_mono (fun x hx => ⟨hx.1, of_decide_eq_true hx.2.1, hx.2.2⟩) (fun _ _ z => z), pu_rch_mono (fun x hx => ⟨hx.1, decide_eq_true hx.2.1, hx.2.2⟩) (fun _ _ z => z)⟩
theorem pu_Mway (R : pu_R w h kd gr vl now) (G : pu_G w h kd) {a b : Nat} (ha : a < w * h) (hb : b < w * h) (q mk : Nat → Int32) (met t : Int32) : ∃ q2 mk2 met2, M_isWay now q mk met (nI a) (nI b) t = some (pu_b (pu_way w h kd gr vl a b t), q2, mk2, met2) := by
  obtain ⟨n4, n80⟩ := pu_G80 G
  obtain ⟨mk0, h1, h2⟩ := pu_Mforgets mk met
  have I0 : pu_I (w * h) (0, mk0, q) := pu_I_0 (fun c hc => h2 c (by omega))
  have h3 := pu_Mmeets R G I0 ha t (-9)
  have I1 := pu_meet_I (ok := pu_T gr t (-9) a) I0 ha
  have hS : ∀ x, x < w * h → ((pu_meet (pu_T gr t (-9) a) a (0, mk0, q)).2.1 x = 1 ↔ (x = a ∧ pu_T gr t (-9) x = true)) := by
    intro x hx
    constructor
    · intro e
      rcases pu_meet_new e with z | ⟨z1, z2⟩
      · have z : mk0 x = 1 := z
        rw [h2 x (by omega)] at z
        exact absurd z.symm pu_10
      · exact ⟨z1, by rw [z1]; exact z2⟩
    · rintro ⟨rfl, e⟩
      exact pu_meet_in I0 hx e
  generalize pu_meet (pu_T gr t (-9) a) a (0, mk0, q) = u at h3 I1 hS
  obtain ⟨z, h4, I2, h5⟩ := pu_Mrun R G (Or.inl ⟨rfl, rfl, rfl⟩) I1 t (-9) _ hS
  refine ⟨z.2.2, z.2.1, nI z.1, ?_⟩
  unfold M_isWay
  rw [h1, pu_bind, show M_meets now q mk0 0 (nI a) t (-9) = _ from h3, pu_bind, h4, pu_bind, pu_ald (by omega) (by decide), pu_bind, pu_I_b I2 h5 hb, pu_b_zck, pu_bind]
  rfl
/-! more is open at a greater threshold -/
theorem pu_T_mono {t1 t2 wo : Int32} (ht : t1 ≤ t2) {c : Nat} (hT : pu_T gr t1 wo c = true) : pu_T gr t2 wo c = true := by
  unfold pu_T at *
  rw [Bool.and_eq_true] at *
  refine ⟨decide_eq_true ?_, hT.2⟩
  have := of_decide_eq_true hT.1
  rw [Int32.le_iff_toInt_le] at *
  omega
theorem pu_adS_mono {t1 t2 wo : Int32} (ht : t1 ≤ t2) {x y : Nat} (a : pu_adS w h kd gr vl t1 wo x y) : pu_adS w h kd gr vl t2 wo x y := by
  obtain ⟨d, a1, a2, a3⟩ := a
  exact ⟨d, a1, a2, pu_T_mono ht a3⟩
theorem pu_sp_mono {t1 t2 wo : Int32} (ht : t1 ≤ t2) (a : pu_sp w h kd gr vl t1 wo) : pu_sp w h kd gr vl t2 wo := by
  obtain ⟨y, a1, a2⟩ := a
  exact ⟨y, a1, pu_rch_mono (fun x hx => ⟨hx.1, hx.2.1, pu_T_mono ht hx.2.2⟩) (fun x y z => pu_adS_mono ht z) a2⟩
theorem pu_way_mono {t1 t2 : Int32} {a b : Nat} (ht : t1 ≤ t2) (hw : pu_way w h kd gr vl a b t1) : pu_way w h kd gr vl a b t2 :=
  pu_rch_mono (fun x hx => ⟨hx.1, hx.2.1, pu_T_mono ht hx.2.2⟩) (fun x y z => pu_adS_mono ht z) hw
theorem pu_way_0 {a b : Nat} {t : Int32} (ht : t ≤ 0) (hg : ∀ c, c < w * h → 0 ≤ gr c) : ¬ pu_way w h kd gr vl a b t := by
  intro hw
  refine hw (fun _ => False) (fun x hx => ?_) (fun x y z _ => z)
  have h1 := hx.2.2
  unfold pu_T at h1
  rw [Bool.and_eq_true] at h1
  have h2 := of_decide_eq_true h1.1
  have h3 := hg x hx.1
  rw [Int32.le_iff_toInt_le] at *
  omega
theorem pu_sp_0 {t wo : Int32} (ht : t ≤ 0) (hg : ∀ c, c < w * h → 0 ≤ gr c) : ¬ pu_sp w h kd gr vl t wo := by
  rintro ⟨y, -, hw⟩
  refine hw (fun _ => False) (fun x hx => ?_) (fun x y z _ => z)
  have h1 := hx.2.2
  unfold pu_T at h1
  rw [Bool.and_eq_true] at h1
  have h2 := of_decide_eq_true h1.1
  have h3 := hg x hx.1
  rw [Int32.le_iff_toInt_le] at *
  omega
end WY
/-! the search -/
theorem pu_mid {l g : Nat} (hg : g ≤ 100) (hl : l < g) : idv (nI l + nI g) 2 = some (nI ((l + g) / 2)) := by
  rw [nI_add]; exact pu_idv (d := 2) (by omega) (by decide) (by decide)
theorem pu_bs {σ ω : Type} {st : σ → Option (σ ⊕ ω)} (P : Nat → Prop) (E : Nat → Nat → σ → Prop) (O : Nat → ω → Prop)
    (hs : ∀ l g x, l < g → g ≤ 100 → E l g x → ∃ y, st x = some (.inl y) ∧ ((P ((l + g) / 2) ∧ E l ((l + g) / 2) y) ∨ (¬ P ((l + g) / 2) ∧ E ((l + g) / 2 + 1) g y)))
    (he : ∀ l g x, g ≤ l → l ≤ 100 → E l g x → ∃ o, st x = some (.inr o) ∧ O l o) (hm : ∀ i j, i ≤ j → P i → P j) :
    ∀ m f l g x, g - l < 2 ^ m → m < f → g ≤ 100 → P g → (∀ j, j < l → ¬ P j) → E l g x → l ≤ g → ∃ o k, loopN st f x = some o ∧ O k o ∧ k ≤ 100 ∧ P k ∧ ∀ j, j < k → ¬ P j := by
  intro m
  induction m with
  | zero =>
    intro f l g x h1 h2 h3 h4 h5 h6 h7
    obtain ⟨f, rfl⟩ : ∃ f', f = f' + 1 := ⟨f - 1, by omega⟩
    have e : l = g := by simp at h1; omega
    subst e
    obtain ⟨o, a1, a2⟩ := he l l x (Nat.le_refl _) h3 h6
    exact ⟨o, l, pu_lx a1, a2, h3, h4, h5⟩
  | succ m ih =>
    intro f l g x h1 h2 h3 h4 h5 h6 h7
    obtain ⟨f, rfl⟩ : ∃ f', f = f' + 1 := ⟨f - 1, by omega⟩
    rcases Nat.lt_or_ge l g with z | z
    · rw [Nat.pow_succ] at h1
      obtain ⟨y, a1, ⟨a2, a3⟩ | ⟨a2, a3⟩⟩ := hs l g x z h3 h6
      · obtain ⟨o, k, b1, b2⟩ := ih f l ((l + g) / 2) y (by omega) (by omega) (by omega) a2 h5 a3 (by omega)
        exact ⟨o, k, by rw [pu_lp a1]; exact b1, b2⟩
      · obtain ⟨o, k, b1, b2⟩ := ih f ((l + g) / 2 + 1) g y (by omega) (by omega) h3 h4 (fun j hj p => a2 (hm j _ (by omega) p)) a3 (by omega)
        exact ⟨o, k, by rw [pu_lp a1]; exact b1, b2⟩
    · have e : l = g := by omega
      subst e
      obtain ⟨o, a1, a2⟩ := he l l x (Nat.le_refl _) h3 h6
      exact ⟨o, l, pu_lx a1, a2, h3, h4, h5⟩
/-- the least number with a property, at most 100; or none -/
def pu_lst (P : Nat → Prop) (o : Option Nat) : Prop := (o = none ∧ ¬ P 100) ∨ ∃ k, o = some k ∧ k ≤ 100 ∧ P k ∧ ∀ j, j < k → ¬ P j
theorem pu_lst_one {P : Nat → Prop} {o p : Option Nat} (hm : ∀ i j, i ≤ j → P i → P j) (h1 : pu_lst P o) (h2 : pu_lst P p) : o = p := by
  rcases h1 with ⟨rfl, a⟩ | ⟨k, rfl, a1, a2, a3⟩
  · rcases h2 with ⟨rfl, b⟩ | ⟨k2, rfl, b1, b2, b3⟩
    · rfl
    · exact absurd (hm _ _ b1 b2) a
  · rcases h2 with ⟨rfl, b⟩ | ⟨k2, rfl, b1, b2, b3⟩
    · exact absurd (hm _ _ a1 a2) b
    · rcases Nat.lt_trichotomy k k2 with z | z | z
      · exact absurd a2 (b3 k z)
      · rw [z]
      · exact absurd b2 (a3 k2 z)
theorem pu_Lsmallest {tsh : Int32 → Option Int32} {P : Nat → Prop} (hm : ∀ i j, i ≤ j → P i → P j) (ht : ∀ t, t ≤ 100 → tsh (nI t) = some (pu_b (P t))) : ∃ o, L_smallest tsh = some (pu_cd o) ∧ pu_lst P o := by
  have htz : ∀ t, t ≤ 100 → tz (tsh (nI t)) = some (pu_b (P t)) := fun t h => by rw [ht t h]; exact pu_b_zck _
  unfold L_smallest
  rw [show tz (tsh 100) = some (pu_b (P 100)) from htz 100 (Nat.le_refl _), pu_bind]
  by_cases p : P 100
  · rw [pu_b_t p, if_neg pu_10]
    obtain ⟨o, k, a1, a2, a3, a4, a5⟩ := pu_bs (st := fun x => L_smallest_19 tsh x.1 x.2) P (fun l g (x : Int32 × Int32) => x = (nI l, nI g)) (fun k (o : Int32) => o = nI k)
      (by
        rintro l g _ h1 h2 rfl
        show ∃ y, L_smallest_19 tsh (nI l) (nI g) = _ ∧ _
        unfold L_smallest_19
        rw [if_neg (nI_ge h1 (by omega)), pu_mid h2 h1, pu_bind, htz _ (by omega), pu_bind]
        by_cases q : P ((l + g) / 2)
        · rw [pu_b_t q, if_neg pu_10, if_neg pu_10]
          exact ⟨_, rfl, Or.inl ⟨q, rfl⟩⟩
        · rw [pu_b_f q, if_pos rfl, if_pos rfl, pu_a1]
          exact ⟨_, rfl, Or.inr ⟨q, rfl⟩⟩)
      (by
        rintro l g _ h1 h2 rfl
        refine ⟨nI l, ?_, rfl⟩
        show L_smallest_19 tsh (nI l) (nI g) = _
        unfold L_smallest_19
        rw [if_pos (nI_le h1 (by omega))]) hm 7 8 0 100 (0, 100) (by decide) (by decide) (Nat.le_refl _) p (fun j hj => absurd hj (Nat.not_lt_zero _)) rfl (by decide)
    refine ⟨some k, ?_, Or.inr ⟨k, rfl, a3, a4, a5⟩⟩
    rw [a1, pu_bind, a2]
    rfl
  · rw [pu_b_f p, if_pos rfl]
    exact ⟨none, rfl, Or.inl ⟨rfl, p⟩⟩
section SR
variable {w h kd : Nat} {gr : Nat → Int32} {vl : Nat → Nat} {now : Nat → Int32}
def pu_P (w h kd : Nat) (gr : Nat → Int32) (vl : Nat → Nat) (t : Nat) : Prop := pu_sp w h kd gr vl (nI t) (-9)
theorem pu_i32m {i j : Nat} (hij : i ≤ j) (hj : j < 2 ^ 31) : nI i ≤ nI j := nI_le hij hj
/-- monotone up to 100 is enough: beyond, cut -/
def pu_P1 (P : Nat → Prop) (t : Nat) : Prop := P (min t 100)
theorem pu_Lst (G : pu_G w h kd) (hv : ∀ i, i < 4 * (w * h) → vl i < 5) : ∃ o, L_spanningThreshold (nI w) (nI h) kd (w * h) (4 * (w * h)) vl gr = some (pu_cd o) ∧ pu_lst (pu_P1 (pu_P w h kd gr vl)) o := by
  unfold L_spanningThreshold
  obtain ⟨o, a1, a2⟩ := pu_Lsmallest (tsh := fun x => L_lambda_spanningThreshold_9 (nI w) (nI h) kd (w * h) (4 * (w * h)) vl gr x) (P := pu_P1 (pu_P w h kd gr vl)) (fun i j hij p => pu_sp_mono (nI_le (by omega) (by omega)) p) (by
    intro t ht
    show L_lambda_spanningThreshold_9 (nI w) (nI h) kd (w * h) (4 * (w * h)) vl gr (nI t) = _
    unfold L_lambda_spanningThreshold_9
    rw [pu_Lspans G hv, pu_bind, pu_b_zck, pu_bind]
    unfold pu_P1 pu_P
    rw [Nat.min_eq_left ht])
  exact ⟨o, by rw [a1, pu_bind], a2⟩
theorem pu_P1m {i j : Nat} (hij : i ≤ j) (p : pu_P1 (pu_P w h kd gr vl) i) : pu_P1 (pu_P w h kd gr vl) j := pu_sp_mono (nI_le (by omega) (by omega)) p
theorem pu_Mst (R : pu_R w h kd gr vl now) (G : pu_G w h kd) (q mk : Nat → Int32) (met : Int32) : ∃ o q2 mk2 met2, M_smallest now q mk met = some ((match o with | none => 101 | some k => nI k), q2, mk2, met2) ∧ pu_lst (pu_P1 (pu_P w h kd gr vl)) o := by
  unfold M_smallest
  obtain ⟨q0, mk0, met0, h0⟩ := pu_Mspans R G q mk met 100 (-9)
  rw [h0, pu_bind]
  by_cases p : pu_sp w h kd gr vl 100 (-9)
  · rw [pu_b_t p]
    show ∃ o q2 mk2 met2, (if (1 : Int32) = 0 then _ else _) = _ ∧ _
    rw [if_neg pu_10]
    obtain ⟨o, k, a1, a2, a3, a4, a5⟩ := pu_bs (st := fun x => M_smallest_19 now x.1 x.2.1 x.2.2.1 x.2.2.2.1 x.2.2.2.2) (pu_P1 (pu_P w h kd gr vl)) (fun l g (x : Int32 × Int32 × (Nat → Int32) × (Nat → Int32) × Int32) => x.1 = nI l ∧ x.2.1 = nI g) (fun k (o : Int32 × (Nat → Int32) × (Nat → Int32) × Int32) => o.1 = nI k)
      (by
        rintro l g ⟨x1, x2, x3, x4, x5⟩ h1 h2 ⟨e1, e2⟩
        dsimp only at e1 e2
        subst e1 e2
        obtain ⟨q3, mk3, met3, h3⟩ := pu_Mspans R G x3 x4 x5 (nI ((l + g) / 2)) (-9)
        show ∃ y, M_smallest_19 now (nI l) (nI g) x3 x4 x5 = _ ∧ _
        unfold M_smallest_19
        rw [if_neg (nI_ge h1 (by omega)), pu_mid h2 h1, pu_bind, h3, pu_bind]
        have eP : pu_P1 (pu_P w h kd gr vl) ((l + g) / 2) = pu_sp w h kd gr vl (nI ((l + g) / 2)) (-9) := by
          unfold pu_P1 pu_P
          rw [Nat.min_eq_left (by omega)]
        rw [eP]
        by_cases q : pu_sp w h kd gr vl (nI ((l + g) / 2)) (-9)
        · rw [pu_b_t q]
          dsimp only
          rw [if_neg pu_10, if_neg pu_10]
          exact ⟨_, rfl, Or.inl ⟨q, rfl, rfl⟩⟩
        · rw [pu_b_f q]
          dsimp only
          rw [if_pos rfl, if_pos rfl, pu_a1]
          exact ⟨_, rfl, Or.inr ⟨q, rfl, rfl⟩⟩)
      (by
        rintro l g ⟨x1, x2, x3, x4, x5⟩ h1 h2 ⟨e1, e2⟩
        dsimp only at e1 e2
        subst e1 e2
        refine ⟨(nI l, x3, x4, x5), ?_, rfl⟩
        show M_smallest_19 now (nI l) (nI g) x3 x4 x5 = _
        unfold M_smallest_19
        rw [if_pos (nI_le h1 (by omega))]) (fun i j hij p => pu_P1m hij p) 7 FU 0 100 (0, 100, q0, mk0, met0) (by decide) (pu_FU (by decide)) (Nat.le_refl _) p (fun j hj => absurd hj (Nat.not_lt_zero _)) ⟨rfl, rfl⟩ (by decide)
    refine ⟨some k, o.2.1, o.2.2.1, o.2.2.2, ?_, Or.inr ⟨k, rfl, a3, a4, a5⟩⟩
    rw [a1, pu_bind, a2]
  · rw [pu_b_f p]
    show ∃ o q2 mk2 met2, (if (0 : Int32) = 0 then _ else _) = _ ∧ _
    rw [if_pos rfl]
    exact ⟨none, q0, mk0, met0, rfl, Or.inl ⟨rfl, p⟩⟩
/-- threshold() -/
theorem pu_threshold (R : pu_R w h kd gr vl now) (G : pu_G w h kd) (hv : ∀ i, i < 4 * (w * h) → vl i < 5) (q mk : Nat → Int32) (met : Int32) : ∃ r q2 mk2 met2, C_threshold (nI w) (nI h) kd (w * h) (4 * (w * h)) vl gr = some r ∧ M_threshold now q mk met = some (r, q2, mk2, met2) := by
  obtain ⟨o, a1, a2⟩ := pu_Lst (gr := gr) G hv
  obtain ⟨o2, q2, mk2, met2, b1, b2⟩ := pu_Mst R G q mk met
  obtain rfl := pu_lst_one (fun i j hij p => pu_P1m hij p) a2 b2
  refine ⟨pu_cd o, q2, mk2, met2, by unfold C_threshold; rw [a1, pu_bind], ?_⟩
  unfold M_threshold
  rw [b1, pu_bind]
  rcases a2 with ⟨rfl, -⟩ | ⟨k, rfl, c1, -⟩
  · rfl
  · dsimp only
    rw [if_pos (show nI k ≤ (100 : Int32) from nI_le (b := 100) c1 (by decide))]
    rfl
/-- thresholdBetween -/
theorem pu_between (R : pu_R w h kd gr vl now) (G : pu_G w h kd) (hv : ∀ i, i < 4 * (w * h) → vl i < 5) (hg : ∀ c, c < w * h → 0 ≤ gr c) (q mk : Nat → Int32) (met v1 v2 : Int32) : ∃ r q2 mk2 met2, C_thresholdBetween (nI w) (nI h) kd (w * h) (4 * (w * h)) vl gr v1 v2 = some r ∧ M_thresholdBetween now q mk met v1 v2 = some (r, q2, mk2, met2) := by
  obtain ⟨n4, n80⟩ := pu_G80 G
  unfold C_thresholdBetween M_thresholdBetween
  rcases pu_dich v1 (w * h) with ⟨a, ha, rfl⟩ | hn
  · rw [pu_LisC1 (by omega) ha, pu_bind, if_neg pu_10, pu_MisC1 R.1 (by omega) ha, pu_bind, if_neg pu_10]
    rcases pu_dich v2 (w * h) with ⟨b, hb, rfl⟩ | hn
    · rw [pu_LisC1 (by omega) hb, pu_bind, if_neg pu_10, pu_MisC1 R.1 (by omega) hb, pu_bind, if_neg pu_10]
      obtain ⟨o, a1, a2⟩ := pu_Lsmallest (tsh := fun x => C_lambda_thresholdBetween_0 (nI w) (nI h) kd (w * h) (4 * (w * h)) vl gr (nI a) (nI b) x) (P := pu_P1 (fun t => pu_way w h kd gr vl a b (nI t))) (fun i j hij p => pu_way_mono (nI_le (by omega) (by omega)) p) (by
        intro t ht
        show C_lambda_thresholdBetween_0 (nI w) (nI h) kd (w * h) (4 * (w * h)) vl gr (nI a) (nI b) (nI t) = _
        unfold C_lambda_thresholdBetween_0
        rw [pu_Lway G hv ha hb, pu_bind, pu_b_zck, pu_bind]
        unfold pu_P1
        rw [Nat.min_eq_left ht])
      have key : ∀ m t f (q mk : Nat → Int32) (met : Int32), t + m = 101 → m < f → (∀ j, j < t → ¬ pu_P1 (fun t => pu_way w h kd gr vl a b (nI t)) j) → ∃ z p, loopN (fun x => M_thresholdBetween_20 (nI a) (nI b) now x.1 x.2.1 x.2.2.1 x.2.2.2) f (nI t, q, mk, met) = some z ∧ pu_lst (pu_P1 (fun t => pu_way w h kd gr vl a b (nI t))) p ∧ ((p = none ∧ ∃ y, z = .inl y) ∨ ∃ k y, p = some k ∧ z = .inr (nI k, y)) := by
        intro m
        induction m with
        | zero =>
          intro t f q mk met ht hf hj
          obtain ⟨f, rfl⟩ : ∃ f', f = f' + 1 := ⟨f - 1, by omega⟩
          refine ⟨.inl (q, mk, met), none, pu_lx ?_, Or.inl ⟨rfl, hj 100 (by omega)⟩, Or.inl ⟨rfl, _, rfl⟩⟩
          show M_thresholdBetween_20 (nI a) (nI b) now (nI t) q mk met = _
          unfold M_thresholdBetween_20
          rw [if_pos (show (100 : Int32) < nI t from nI_lt (a := 100) (by omega) (by omega))]
        | succ m ih =>
          intro t f q mk met ht hf hj
          obtain ⟨f, rfl⟩ : ∃ f', f = f' + 1 := ⟨f - 1, by omega⟩
          obtain ⟨q2, mk2, met2, h1⟩ := pu_Mway R G ha hb q mk met (nI t)
          have eP : pu_P1 (fun t => pu_way w h kd gr vl a b (nI t)) t = pu_way w h kd gr vl a b (nI t) := by
            unfold pu_P1
            rw [Nat.min_eq_left (by omega)]
          have h2 : M_thresholdBetween_20 (nI a) (nI b) now (nI t) q mk met = if pu_b (pu_way w h kd gr vl a b (nI t)) = 0 then some (.inl (nI (t + 1), q2, mk2, met2)) else some (.inr (.inr (nI t, q2, mk2, met2))) := by
            unfold M_thresholdBetween_20
            rw [if_neg (show ¬ (100 : Int32) < nI t from nI_nlt (a := 100) (by omega) (by decide)), h1, pu_bind, pu_a1]
          by_cases p : pu_way w h kd gr vl a b (nI t)
          · rw [pu_b_t p, if_neg pu_10] at h2
            exact ⟨_, some t, pu_lx h2, Or.inr ⟨t, rfl, by omega, by rw [eP]; exact p, hj⟩, Or.inr ⟨t, _, rfl, rfl⟩⟩
          · rw [pu_b_f p, if_pos rfl] at h2
            obtain ⟨z, p2, b1, b2⟩ := ih (t + 1) f q2 mk2 met2 (by omega) (by omega) (fun j hj2 => by
              rcases Nat.lt_or_ge j t with c | c
              · exact hj j c
              · have e : j = t := by omega
                subst e
                rw [eP]; exact p)
            exact ⟨z, p2, by rw [pu_lp h2]; exact b1, b2⟩
      obtain ⟨z, p, b1, b2, b3⟩ := key 100 1 FU q mk met rfl (pu_FU (by decide)) (fun j hj => by
        have e : j = 0 := by omega
        subst e
        exact pu_way_0 (Int32.le_refl _) hg)
      obtain rfl := pu_lst_one (fun i j hij p => pu_way_mono (nI_le (by omega) (by omega)) p) a2 b2
      rw [a1, pu_bind, show loopN (fun x => M_thresholdBetween_20 (nI a) (nI b) now x.1 x.2.1 x.2.2.1 x.2.2.2) FU (1, q, mk, met) = _ from b1, pu_bind]
      rcases b3 with ⟨rfl, y, rfl⟩ | ⟨k, y, rfl, rfl⟩
      · exact ⟨_, _, _, _, rfl, rfl⟩
      · exact ⟨_, _, _, _, rfl, rfl⟩
    · rw [pu_LisC0 (by omega) (by omega) hn, pu_bind, if_pos rfl, pu_MisC0 R.1 (by omega) (by omega) hn, pu_bind, if_pos rfl]
      exact ⟨_, _, _, _, rfl, rfl⟩
  · rw [pu_LisC0 (by omega) (by omega) hn, pu_bind, if_pos rfl, pu_MisC0 R.1 (by omega) (by omega) hn, pu_bind, if_pos rfl]
    exact ⟨_, _, _, _, rfl, rfl⟩
end SR
