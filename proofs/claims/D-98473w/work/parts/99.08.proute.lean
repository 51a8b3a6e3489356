/-! PURE: a judge's route at both -/
set_option maxRecDepth 100000
section L
variable {ad b : Nat → Nat} {n : Nat} {B : bsE} {r tx ax kx l jl cl vw : Nat} {D : MS} {lw : (Nat → Int32) → Int32} {g w : Bool} {p z : Nat} {T L : Nat → Nat} {V : w_V} {P : w_P}
/-- a route of k towns -/
def rtOk (D : MS) (ts : Nat → Int32) (k : Nat) : Prop := (∀ i, i < k → ∃ t, ts i = nI t ∧ t < nT D) ∧ ∀ i, i + 1 < k → ∃ x y, ts i = nI x ∧ ts (i + 1) = nI y ∧ x < nT D ∧ y < nT D ∧ D 5 (9 * x + y) ≠ 0
theorem rtOk.add {ts : Nat → Int32} {k t : Nat} (h : rtOk D ts k) (ht : t < nT D) (hk : ∀ i, i + 1 = k → ∃ x, ts i = nI x ∧ x < nT D ∧ D 5 (9 * x + t) ≠ 0) : rtOk D (upd ts k (nI t)) (k + 1) := by
  obtain ⟨h1, h2⟩ := h
  refine ⟨fun i hi => ?_, fun i hi => ?_⟩
  · unfold upd
    by_cases e : i = k
    · rw [if_pos e]; exact ⟨t, rfl, ht⟩
    · rw [if_neg e]; exact h1 i (by omega)
  · unfold upd
    rw [if_neg (show ¬ i = k by omega)]
    by_cases e : i + 1 = k
    · rw [if_pos e]
      obtain ⟨x, x1, x2, x3⟩ := hk i e
      exact ⟨x, t, x1, rfl, x2, ht, x3⟩
    · rw [if_neg e]; exact h2 i (by omega)
/-- the model's row of a judge that is being read -/
def rowJ (sg D : MS) (kd dd hh : Int32) (ts : Nat → Int32) (k : Nat) : Prop := sg 6 (5 + nJ D) = kd ∧ sg 7 (5 + nJ D) = dd ∧ sg 8 (5 + nJ D) = hh ∧ ∀ i, i < k → sg 10 (35 + (7 * nJ D + i)) = ts i
theorem rowJ.s {sg s9 : MS} {kd dd hh : Int32} {ts : Nat → Int32} {k : Nat} (h : rowJ sg D kd dd hh ts k) (hf : fS sg s9) : rowJ s9 D kd dd hh ts k := ⟨by rw [hf.1 6 (by decide)]; exact h.1, by rw [hf.1 7 (by decide)]; exact h.2.1, by rw [hf.1 8 (by decide)]; exact h.2.2.1, fun i hi => by rw [hf.1 10 (by decide)]; exact h.2.2.2 i hi⟩
theorem routeL (hA : hAd ad) (ht : tOk b n) (hD : DOk D) (hJ5 : nJ D < 5) (kd dd hh : Int32) : ∀ m k p (ts : Nat → Int32), n - p < m → p ≤ n → k ≤ 7 → tKin b n p = 2 → rtOk D ts k →
    (∃ (p' k' : Nat) (ts' : Nat → Int32), p < p' ∧ p' ≤ n ∧ 1 ≤ k' ∧ k' ≤ 7 ∧ rtOk D ts' k' ∧
      (∀ (o b1 pS zS : Nat) (TS LS : Nat → Nat) (VS : w_V) (PS : w_P) (x3 x4 : Int32) (post : Nat → (Nat → Nat) → (Nat → Nat) → w_V → w_P → Prop) (ke : Nat → Nat → (Nat → Nat) → (Nat → Nat) → w_V → w_P → Int32 → Prop) (xp : w_Xp) (U z : Nat) (T L : Nat → Nat) (V : w_V) (P : w_P), 30 * (p' - p) ≤ U → CL ad b n B r tx ax kx l jl cl vw D lw g w pS zS TS LS VS PS → TS o = 0 → TS b1 = 18 → xr r zS TS LS VS PS z T L V P → rdX ad b n T L V P r tx ax kx p → T o = 1000 → L o = 7 → (∀ i, i < k → V o 0 i = ts i) → (∀ (U' z' : Nat) (T' L' : Nat → Nat) (V' : w_V) (P' : w_P), U ≤ U' + 30 * (p' - p) → z ≤ z' → xr r zS TS LS VS PS z' T' L' V' P' → rdX ad b n T' L' V' P' r tx ax kx p' → T' o = 1000 → L' o = 7 → (∀ i, i < k' → V' o 0 i = ts' i) → ke U' z' T' L' V' P' (nI k')) → lFX9_judge_35 ad r l b1 x3 x4 o o 0 7 post xp ke m U z T L V P (nI k)) ∧
      ∀ (sg0 sg : MS) (post : MS → Prop) (ke : Int32 → MS → Prop), ML b n sg0 D p sg → rowJ sg D kd dd hh ts k → (∀ s9, ML b n sg0 D p' s9 → rowJ s9 D kd dd hh ts' k' → ke (nI k') s9) → lM_readJudge_75 (nI (5 + nJ D)) post ke m (nI k) sg) ∨
    (∃ (kf : Int32) (pl : Nat), kf ≠ 0 ∧ p ≤ pl ∧ pl ≤ n ∧
      (∀ (o b1 pS zS : Nat) (TS LS : Nat → Nat) (VS : w_V) (PS : w_P) (x3 x4 : Int32) (post : Nat → (Nat → Nat) → (Nat → Nat) → w_V → w_P → Prop) (ke : Nat → Nat → (Nat → Nat) → (Nat → Nat) → w_V → w_P → Int32 → Prop) (xp : w_Xp) (U z : Nat) (T L : Nat → Nat) (V : w_V) (P : w_P), 30 * (pl - p) + 30 ≤ U → CL ad b n B r tx ax kx l jl cl vw D lw g w pS zS TS LS VS PS → TS o = 0 → TS b1 = 18 → xr r zS TS LS VS PS z T L V P → rdX ad b n T L V P r tx ax kx p → T o = 1000 → L o = 7 → (∀ i, i < k → V o 0 i = ts i) → xfL B xp z kf pl → lFX9_judge_35 ad r l b1 x3 x4 o o 0 7 post xp ke m U z T L V P (nI k)) ∧
      ∀ (sg0 sg : MS) (post : MS → Prop) (ke : Int32 → MS → Prop), ML b n sg0 D p sg → rowJ sg D kd dd hh ts k → (∀ x s9, fU sg0 s9 → s9 0 21 = kf → s9 0 22 = nI pl → ke x s9) → lM_readJudge_75 (nI (5 + nJ D)) post ke m (nI k) sg) := by
  have hn6 := ht.1
  obtain ⟨⟨hT, hT9⟩, -, -, -, -, -, hRd⟩ := hD.1
  intro m
  induction m with
  | zero => intro k p ts h; omega
  | succ m ih =>
    intro k p ts hm hp hk k2 hrt
    have hpn := (t9kin_2.mp k2).1
    have hp2 := t9nx_gt (b := b) hpn
    have hp2n := t9nx_le (b := b) hp
    obtain ⟨m', hm'⟩ : ∃ m', m = m' + 1 := ⟨m - 1, by omega⟩
    have loopB : ∀ (x : Int32) (sg : MS) (post : MS → Prop) (ke : Int32 → MS → Prop), ¬ sg 0 21 = 0 → ke x sg → lM_readJudge_75 (nI (5 + nJ D)) post ke m x sg := fun x sg post ke hb k => by
      rw [hm']
      unfold lM_readJudge_75
      rw [if_neg hb]; exact k
    have bad153 : ∀ (x x4 : Int32) (sg : MS) (post : MS → Prop) (ke : Int32 → MS → Prop), ¬ sg 0 21 = 0 → ke x sg → jM_readJudge_153 sg (nI (5 + nJ D)) x x4 post (lM_readJudge_75 (nI (5 + nJ D)) post ke m) := fun x x4 sg post ke hb k => by
      unfold jM_readJudge_153
      rw [if_neg hb]
      exact loopB x sg post ke hb k
    have bad101 : ∀ (x : Int32) (sg : MS) (post : MS → Prop) (ke : Int32 → MS → Prop), ¬ sg 0 21 = 0 → ke x sg → jM_readJudge_101 sg (nI (5 + nJ D)) x post (lM_readJudge_75 (nI (5 + nJ D)) post ke m) := fun x sg post ke hb k => by
      unfold jM_readJudge_101
      refine sM_townB hb ?_
      rw [if_neg hb]
      exact bad153 x 0 sg post ke hb k
    -- the class's facts at a state
    have fct : ∀ {o b1 pS zS : Nat} {TS LS : Nat → Nat} {VS : w_V} {PS : w_P} {z : Nat} {T L : Nat → Nat} {V : w_V} {P : w_P} {p : Nat}, CL ad b n B r tx ax kx l jl cl vw D lw g w pS zS TS LS VS PS → TS b1 = 18 → xr r zS TS LS VS PS z T L V P → rdX ad b n T L V P r tx ax kx p → CL ad b n B r tx ax kx l jl cl vw D lw g w p z T L V P ∧ T b1 = 18 := fun hS hb hx hX => ⟨hS.x hx hX, ((hx.2.2.1 _ (by rw [hb]; decide)).1).trans hb⟩
    have c51 : ∀ (o b1 : Nat) (x3 x4 : Int32) (post : Nat → (Nat → Nat) → (Nat → Nat) → w_V → w_P → Prop) (ke : Nat → Nat → (Nat → Nat) → (Nat → Nat) → w_V → w_P → Int32 → Prop) (xp : w_Xp) (U z : Nat) (T L : Nat → Nat) (V : w_V) (P : w_P), CL ad b n B r tx ax kx l jl cl vw D lw g w p z T L V P → T b1 = 18 → T o = 1000 → L o = 7 → (k = 7 → jFX9_judge_68 ad U z T L V P r l b1 x3 x4 o o 0 7 (nI k) 0 r post xp (lFX9_judge_35 ad r l b1 x3 x4 o o 0 7 post xp ke m) ke) → (k ≠ 7 → jFX9_judge_68 ad U z T L V P r l b1 x3 x4 o o 0 7 (nI k) 1 r post xp (lFX9_judge_35 ad r l b1 x3 x4 o o 0 7 post xp ke m) ke) → lFX9_judge_35 ad r l b1 x3 x4 o o 0 7 post xp ke (m + 1) U z T L V P (nI k) := by
      intro o b1 x3 x4 post ke xp U z T L V P hc hb ho hL ka kb
      unfold lFX9_judge_35
      refine ⟨_, hc.2.1.2.2.2.2.1, ?_⟩
      rw [if_pos (by rw [k2]; rfl)]
      unfold jFX9_judge_51
      refine ⟨0, U, (Nat.zero_add U).symm, sX_check1 ⟨hc.2.1.1.1, hc.2.2.2.2.2.2.1.1, hb, hArr_o ho hL, ?_⟩⟩
      by_cases e7 : k = 7
      · rw [if_pos (show (7 : Int32) ≤ nI k from nI_le (a := 7) (by omega) (by omega))]; exact ka e7
      · rw [if_neg (show ¬ (7 : Int32) ≤ nI k from nI_ge (b := 7) (by omega) (by omega))]; exact kb e7
    have m75 : ∀ (sg0 sg : MS) (post : MS → Prop) (ke : Int32 → MS → Prop), ML b n sg0 D p sg → (k = 7 → ∀ x, ke x (wr sg 2 p)) → (k ≠ 7 → jM_readJudge_101 sg (nI (5 + nJ D)) (nI k) post (lM_readJudge_75 (nI (5 + nJ D)) post ke m)) → lM_readJudge_75 (nI (5 + nJ D)) post ke (m + 1) (nI k) sg := by
      intro sg0 sg post ke hM ka kb
      unfold lM_readJudge_75
      rw [if_pos hM.2.1, if_pos (show sg 0 17 = 2 from (kin_nI (j := 2) hM.1 (by decide)).mpr k2)]
      by_cases e7 : k = 7
      · rw [if_pos (by rw [e7]; rfl)]
        exact sM_wrong hM.1.2.2.1 hM.2.1 (bad101 _ _ _ _ (by rw [wr_21]; decide) (ka e7 _))
      · rw [if_neg (show ¬ nI k = 7 from fun q => e7 ((nI_eq (b := 7) (by omega) (by omega)).mp q))]
        exact kb e7
    by_cases e7 : k = 7
    · refine Or.inr ⟨2, p, by decide, Nat.le_refl _, hp, ?_, ?_⟩
      · intro o b1 pS zS TS LS VS PS x3 x4 post ke xp U z T L V P hU hS hoS hbS hx hX ho hL hts kk
        obtain ⟨hc, hb⟩ := fct (o := o) hS hbS hx hX
        refine c51 o b1 x3 x4 post ke xp U z T L V P hc hb ho hL (fun _ => ?_) (fun q => absurd e7 q)
        unfold jFX9_judge_68
        exact ⟨U, 0, rfl, sX_check0 hc.1 hc.2.1 (by omega) (kk.c hc)⟩
      · intro sg0 sg post ke hM hR kk
        exact m75 sg0 sg post ke hM (fun _ x => kk x _ (hM.2.2.2.tr (fB.wr _ _ _).U) wr_21 wr_22) (fun q => absurd e7 q)
    · by_cases o1 : tOf b n p (nT D) = 0
      · obtain ⟨-, t2⟩ := tOf_v o1
        generalize ex : tVl b n p = x at t2
        have hx9 : x < 9 := by omega
        have hk1 : k + 1 ≤ 7 := by omega
        -- may one go there?
        have hgo : (∃ i y rd, k = i + 1 ∧ ts i = nI y ∧ y < 9 ∧ D 5 (9 * y + x) = nI rd ∧ rd ≤ 9 ∧ rd = 0) ∨ ((k = 0 ∨ ∃ i y rd, k = i + 1 ∧ ts i = nI y ∧ y < 9 ∧ D 5 (9 * y + x) = nI rd ∧ rd ≤ 9 ∧ rd ≠ 0) ∧ rtOk D (upd ts k (nI x)) (k + 1)) := by
          rcases Nat.eq_zero_or_pos k with h0 | h0
          · exact Or.inr ⟨Or.inl h0, hrt.add t2 (fun i hi => by omega)⟩
          · obtain ⟨i, rfl⟩ : ∃ i, k = i + 1 := ⟨k - 1, by omega⟩
            obtain ⟨y, y1, y2⟩ := hrt.1 i (by omega)
            obtain ⟨rd, r1, r2, -⟩ := hRd y x (by omega) hx9
            by_cases h : rd = 0
            · exact Or.inl ⟨i, y, rd, rfl, y1, by omega, r1, r2, h⟩
            · refine Or.inr ⟨Or.inr ⟨i, y, rd, rfl, y1, by omega, r1, r2, h⟩, hrt.add t2 (fun i' hi' => ?_)⟩
              have : i' = i := by omega
              subst this
              exact ⟨y, y1, y2, by rw [r1]; exact nI_ne0 (by omega) (by omega)⟩
        have c68 : ∀ (o b1 : Nat) (x3 x4 : Int32) (post : Nat → (Nat → Nat) → (Nat → Nat) → w_V → w_P → Prop) (ke : Nat → Nat → (Nat → Nat) → (Nat → Nat) → w_V → w_P → Int32 → Prop) (xp : w_Xp) (U z : Nat) (T L : Nat → Nat) (V : w_V) (P : w_P), 2 ≤ U → CL ad b n B r tx ax kx l jl cl vw D lw g w p z T L V P → T b1 = 18 → T o = 1000 → L o = 7 → (∀ i, i < k → V o 0 i = ts i) → ((∃ i y rd, k = i + 1 ∧ ts i = nI y ∧ y < 9 ∧ D 5 (9 * y + x) = nI rd ∧ rd ≤ 9 ∧ rd = 0) → jFX9_judge_114 ad (U - 2) z T L V P r l b1 x3 x4 o o 0 7 (nI k) (nI x) 0 r post xp (lFX9_judge_35 ad r l b1 x3 x4 o o 0 7 post xp ke m) ke) → ((k = 0 ∨ ∃ i y rd, k = i + 1 ∧ ts i = nI y ∧ y < 9 ∧ D 5 (9 * y + x) = nI rd ∧ rd ≤ 9 ∧ rd ≠ 0) → jFX9_judge_114 ad (U - 2) z T L V P r l b1 x3 x4 o o 0 7 (nI k) (nI x) 1 r post xp (lFX9_judge_35 ad r l b1 x3 x4 o o 0 7 post xp ke m) ke) → lFX9_judge_35 ad r l b1 x3 x4 o o 0 7 post xp ke (m + 1) U z T L V P (nI k) := by
          intro o b1 x3 x4 post ke xp U z T L V P hU hc hb ho hL hts ka kb
          refine c51 o b1 x3 x4 post ke xp U z T L V P hc hb ho hL (fun q => absurd q e7) (fun _ => ?_)
          unfold jFX9_judge_68
          refine ⟨0, U, (Nat.zero_add U).symm, sX_check1 ⟨hc.2.1.1.1, hc.2.2.2.2.2.2.1.1, hb, hArr_o ho hL, 2, U - 2, by omega, ?_⟩⟩
          rw [hc.2.2.2.2.2.2.1.2.1, hT]
          refine sX_among hA hc.1 hc.2.1 (by omega) (Nat.le_refl _) (fun _ => ?_) (fun q => absurd o1 q)
          rw [ex]
          refine ⟨hc.2.1.1.1, hc.2.2.2.2.2.2.1.1, hb, hArr_o ho hL, ?_⟩
          rcases hgo with hno | ⟨hyes, -⟩
          · obtain ⟨i, y, rd, rfl, y1, y2, r1, r2, r3⟩ := hno
            rw [if_neg (nI_ne0 (by omega) (by omega))]
            refine ⟨i, by omega, nI_pred i, 9 * y + x, by omega, by rw [hts i (by omega), y1]; exact ix9 y x, ?_⟩
            rw [hc.2.2.2.2.2.2.2.1 _ (by omega), r1, r3, if_pos (by decide)]
            exact ka ⟨i, y, rd, rfl, y1, y2, r1, r2, r3⟩
          · rcases hyes with h0 | ⟨i, y, rd, rfl, y1, y2, r1, r2, r3⟩
            · rw [if_pos (by rw [h0]; rfl)]
              unfold jFX9_judge_109
              exact kb (Or.inl h0)
            · rw [if_neg (nI_ne0 (by omega) (by omega))]
              refine ⟨i, by omega, nI_pred i, 9 * y + x, by omega, by rw [hts i (by omega), y1]; exact ix9 y x, ?_⟩
              rw [hc.2.2.2.2.2.2.2.1 _ (by omega), r1, if_neg (nI_nle (by omega) (by omega))]
              unfold jFX9_judge_109
              exact kb (Or.inr ⟨i, y, rd, rfl, y1, y2, r1, r2, r3⟩)
        have m101 : ∀ (sg0 sg : MS) (post : MS → Prop) (ke : Int32 → MS → Prop), ML b n sg0 D p sg → rowJ sg D kd dd hh ts k → ((∃ i y rd, k = i + 1 ∧ ts i = nI y ∧ y < 9 ∧ D 5 (9 * y + x) = nI rd ∧ rd ≤ 9 ∧ rd = 0) → ∀ z, ke z (wr sg 6 p)) → ((k = 0 ∨ ∃ i y rd, k = i + 1 ∧ ts i = nI y ∧ y < 9 ∧ D 5 (9 * y + x) = nI rd ∧ rd ≤ 9 ∧ rd ≠ 0) → jM_readJudge_153 sg (nI (5 + nJ D)) (nI k) (nI x) post (lM_readJudge_75 (nI (5 + nJ D)) post ke m)) → lM_readJudge_75 (nI (5 + nJ D)) post ke (m + 1) (nI k) sg := by
          intro sg0 sg post ke hM hR ka kb
          refine m75 sg0 sg post ke hM (fun q => absurd q e7) (fun _ => ?_)
          unfold jM_readJudge_101
          refine sM_town hM.1 hn6 hM.2.1 ((hM.2.2.1.1 0 (by decide)).trans hT) (by omega) (fun _ => ?_) (fun q => absurd o1 q)
          rw [if_pos hM.2.1, ex]
          have idx : ∀ i, k = i + 1 → (7 : Int32) * nI (5 + nJ D) + nI (i + 1) - 1 = nI (35 + (7 * nJ D + i)) := fun i _ => by
            rw [ix7, nI_m1 (by omega)]; congr 1; omega
          rcases hgo with hno | ⟨hyes, -⟩
          · obtain ⟨i, y, rd, ek, y1, y2, r1, r2, r3⟩ := hno
            subst ek
            rw [if_neg (nI_nle (by omega) (by omega))]
            refine ⟨35 + (7 * nJ D + i), by omega, idx i rfl, ?_⟩
            unfold wM_couple
            rw [hR.2.2.2 i (by omega), y1, ix9]
            refine ⟨81 + (9 * y + x), by omega, by rw [show (81 : Int32) = nI 81 from rfl, nI_add], ?_⟩
            rw [hM.2.2.1.2.1 _ (by omega), r1, r3, if_pos (show nI 0 = 0 from rfl)]
            exact sM_wrong hM.1.2.2.1 hM.2.1 (bad153 _ _ _ _ _ (by rw [wr_21]; decide) (ka ⟨i, y, rd, rfl, y1, y2, r1, r2, r3⟩ _))
          · rcases hyes with h0 | ⟨i, y, rd, ek, y1, y2, r1, r2, r3⟩
            · rw [if_pos (by rw [h0]; decide)]
              exact kb (Or.inl h0)
            · subst ek
              rw [if_neg (nI_nle (by omega) (by omega))]
              refine ⟨35 + (7 * nJ D + i), by omega, idx i rfl, ?_⟩
              unfold wM_couple
              rw [hR.2.2.2 i (by omega), y1, ix9]
              refine ⟨81 + (9 * y + x), by omega, by rw [show (81 : Int32) = nI 81 from rfl, nI_add], ?_⟩
              rw [hM.2.2.1.2.1 _ (by omega), r1, if_neg (nI_ne0 (by omega) (by omega))]
              exact kb (Or.inr ⟨i, y, rd, rfl, y1, y2, r1, r2, r3⟩)
        rcases hgo with hno | ⟨hyes, hrt2⟩
        · refine Or.inr ⟨6, p, by decide, Nat.le_refl _, hp, ?_, ?_⟩
          · intro o b1 pS zS TS LS VS PS x3 x4 post ke xp U z T L V P hU hS hoS hbS hx hX ho hL hts kk
            obtain ⟨hc, hb⟩ := fct (o := o) hS hbS hx hX
            refine c68 o b1 x3 x4 post ke xp U z T L V P (by omega) hc hb ho hL hts (fun _ => ?_) (fun q => ?_)
            · unfold jFX9_judge_114
              exact ⟨U - 2, 0, rfl, sX_check0 hc.1 hc.2.1 (by omega) (kk.c hc)⟩
            · exfalso
              obtain ⟨i, y, rd, e1, y1, y2, r1, r2, r3⟩ := hno
              rcases q with q | ⟨i', y', rd', e1', y1', y2', r1', r2', r3'⟩
              · omega
              · have ei : i' = i := by omega
                subst ei
                rw [y1'] at y1
                have ey := (nI_eq (by omega) (by omega)).mp y1
                subst ey
                rw [r1'] at r1
                have := (nI_eq (by omega) (by omega)).mp r1
                omega
          · intro sg0 sg post ke hM hR kk
            refine m101 sg0 sg post ke hM hR (fun _ z => kk z _ (hM.2.2.2.tr (fB.wr _ _ _).U) wr_21 wr_22) (fun q => ?_)
            exfalso
            obtain ⟨i, y, rd, e1, y1, y2, r1, r2, r3⟩ := hno
            rcases q with q | ⟨i', y', rd', e1', y1', y2', r1', r2', r3'⟩
            · omega
            · have ei : i' = i := by omega
              subst ei
              rw [y1'] at y1
              have ey := (nI_eq (by omega) (by omega)).mp y1
              subst ey
              rw [r1'] at r1
              have := (nI_eq (by omega) (by omega)).mp r1
              omega
        · have hyn : ¬ ∃ i y rd, k = i + 1 ∧ ts i = nI y ∧ y < 9 ∧ D 5 (9 * y + x) = nI rd ∧ rd ≤ 9 ∧ rd = 0 := fun hno => by
            obtain ⟨i, y, rd, e1, y1, y2, r1, r2, r3⟩ := hno
            rcases hyes with q | ⟨i', y', rd', e1', y1', y2', r1', r2', r3'⟩
            · omega
            · have ei : i' = i := by omega
              subst ei
              rw [y1'] at y1
              have ey := (nI_eq (by omega) (by omega)).mp y1
              subst ey
              rw [r1'] at r1
              have := (nI_eq (by omega) (by omega)).mp r1
              omega
          have c114 : ∀ (o b1 pS zS : Nat) (TS LS : Nat → Nat) (VS : w_V) (PS : w_P) (x3 x4 : Int32) (post : Nat → (Nat → Nat) → (Nat → Nat) → w_V → w_P → Prop) (ke : Nat → Nat → (Nat → Nat) → (Nat → Nat) → w_V → w_P → Int32 → Prop) (xp : w_Xp) (U z : Nat) (T L : Nat → Nat) (V : w_V) (P : w_P), 30 ≤ U → CL ad b n B r tx ax kx l jl cl vw D lw g w pS zS TS LS VS PS → TS o = 0 → TS b1 = 18 → xr r zS TS LS VS PS z T L V P → rdX ad b n T L V P r tx ax kx p → T o = 1000 → L o = 7 → (∀ i, i < k → V o 0 i = ts i) → (∀ (z' : Nat) (T' L' : Nat → Nat) (V' : w_V) (P' : w_P), z ≤ z' → xr r zS TS LS VS PS z' T' L' V' P' → rdX ad b n T' L' V' P' r tx ax kx (tNx b n p) → T' o = 1000 → L' o = 7 → (∀ i, i < k + 1 → V' o 0 i = upd ts k (nI x) i) → (tKin b n (tNx b n p) = 2 → lFX9_judge_35 ad r l b1 x3 x4 o o 0 7 post xp ke m (U - 12) z' T' L' V' P' (nI (k + 1))) ∧ (tKin b n (tNx b n p) ≠ 2 → ke (U - 12) z' T' L' V' P' (nI (k + 1)))) → lFX9_judge_35 ad r l b1 x3 x4 o o 0 7 post xp ke (m + 1) U z T L V P (nI k) := by
            intro o b1 pS zS TS LS VS PS x3 x4 post ke xp U z T L V P hU hS hoS hbS hx hX ho hL hts kk
            obtain ⟨hc, hb⟩ := fct (o := o) hS hbS hx hX
            refine c68 o b1 x3 x4 post ke xp U z T L V P (by omega) hc hb ho hL hts (fun q => absurd q hyn) (fun _ => ?_)
            unfold jFX9_judge_114
            refine ⟨0, U - 2, (Nat.zero_add _).symm, sX_check1 ⟨hc.2.1.1.1, hc.2.2.2.2.2.2.1.1, hb, hArr_o ho hL, k, by omega, rfl, fun V94 e94 => ?_⟩⟩
            have hrS : TS r ≠ 0 := ne0 hS.2.1.1.1
            have x94 : xr r zS TS LS VS PS z T L V94 P := hx.put hoS hrS (fun a ha => ⟨by rw [e94, up3_n ha], rfl⟩)
            have hX94 : rdX ad b n T L V94 P r tx ax kx p := hX.x (fun a ha => ⟨rfl, rfl, by rw [e94, up3_n (fun e => by rw [e, ho] at ha; rcases ha with q | q | q | q <;> cases q)], rfl⟩)
            refine ⟨10, U - 12, by omega, sX_goX hA ht x94.1 hX94 (Nat.le_refl _) (fun z2 T2 L2 V2 P2 g1 g2 => ?_)⟩
            have x2 := x94.tr g1
            obtain ⟨hc2, hb2⟩ := fct (o := o) hS hbS x2 g2
            have hor : o ≠ r := fun e => hrS (by rw [← e]; exact hoS)
            obtain ⟨o1, o2, o3⟩ := g1.2.2.1 o (by rw [ho]; decide)
            refine ⟨g2.1.1, hc2.2.2.2.2.2.2.1.1, hb2, hArr_o (o1.trans ho) (o2.trans hL), _, g2.2.2.2.2.1, ?_⟩
            obtain ⟨q1, q2⟩ := kk z2 T2 L2 V2 P2 g1.2.1 x2 g2 (o1.trans ho) (o2.trans hL) (fun i hi => by
              rw [(o3 hor).1, e94, up3_a]
              unfold upd
              by_cases e : i = k
              · rw [if_pos e, e, s2_s]
              · rw [if_neg e, s2_i e]; exact hts i (by omega))
            rw [nI_1]
            by_cases kk2 : tKin b n (tNx b n p) = 2
            · rw [if_pos (by rw [kk2]; rfl)]; exact q1 kk2
            · rw [if_neg (show ¬ ad (srt (tKin b n (tNx b n p))) = ad 6 from fun e => kk2 ((srt_iff (j := 2) hA t9kin_lt (by decide)).mp e))]; exact q2 kk2
          have m153 : ∀ (sg0 sg : MS) (post : MS → Prop) (ke : Int32 → MS → Prop), ML b n sg0 D p sg → rowJ sg D kd dd hh ts k → (∀ s9, ML b n sg0 D (tNx b n p) s9 → rowJ s9 D kd dd hh (upd ts k (nI x)) (k + 1) → lM_readJudge_75 (nI (5 + nJ D)) post ke m (nI (k + 1)) s9) → lM_readJudge_75 (nI (5 + nJ D)) post ke (m + 1) (nI k) sg := by
            intro sg0 sg post ke hM hR kk
            refine m101 sg0 sg post ke hM hR (fun q => absurd q hyn) (fun _ => ?_)
            unfold jM_readJudge_153
            rw [if_pos hM.2.1]
            refine ⟨35 + (7 * nJ D + k), by omega, by rw [ix7]; congr 1; omega, ?_⟩
            obtain ⟨j1, j2, j3, j4, j5⟩ := hM.2.2.1
            have hM8 : ML b n sg0 D p (s2 sg 10 (35 + (7 * nJ D + k)) (nI x)) := by
              refine ⟨hM.1.f (by rw [s2_rowN (by decide)]) (fun j _ => by rw [s2_k (by decide)]), by rw [s2_k (by decide)]; exact hM.2.1, ⟨fun i hi => by rw [s2_k (by decide)]; exact j1 i hi, fun i hi => by rw [s2_k (by decide)]; exact j2 i hi, fun j hj => ?_, fun c t hc htt => by rw [s2_k (by decide)]; exact j4 c t hc htt, fun i hi => by rw [s2_k (by decide)]; exact j5 i hi⟩, hM.2.2.2.w ⟨by decide, Nat.le_add_right 35 _⟩⟩
              obtain ⟨q1, q2, q3, q4, q5⟩ := j3 j hj
              obtain ⟨-, -, -, s7, -⟩ := hD.1.2.2.2.2.2.1 j hj
              exact ⟨by rw [s2_k (by decide)]; exact q1, by rw [s2_k (by decide)]; exact q2, by rw [s2_k (by decide)]; exact q3, by rw [s2_k (by decide)]; exact q4, fun i hi => by rw [s2_i (by omega)]; exact q5 i hi⟩
            have hR8 : rowJ (s2 sg 10 (35 + (7 * nJ D + k)) (nI x)) D kd dd hh (upd ts k (nI x)) (k + 1) := by
              refine ⟨by rw [s2_k (by decide)]; exact hR.1, by rw [s2_k (by decide)]; exact hR.2.1, by rw [s2_k (by decide)]; exact hR.2.2.1, fun i hi => ?_⟩
              unfold upd
              by_cases e : i = k
              · rw [if_pos e, e, s2_s]
              · rw [if_neg e, s2_i (by omega)]; exact hR.2.2.2 i (by omega)
            refine sM_go ht hM8.1 (fun s9 f9 m9 => ?_)
            rw [nI_1]
            exact kk s9 (hM8.s f9 m9) (hR8.s f9)
          by_cases kk : tKin b n (tNx b n p) = 2
          · rcases ih (k + 1) (tNx b n p) (upd ts k (nI x)) (by omega) hp2n (by omega) kk hrt2 with ⟨p', k', ts', a1, a2, a3, a4, a5, a6, a7⟩ | ⟨kf, pl, a1, a2, a3, a4, a5⟩
            · refine Or.inl ⟨p', k', ts', by omega, a2, a3, a4, a5, ?_, ?_⟩
              · intro o b1 pS zS TS LS VS PS x3 x4 post ke xp U z T L V P hU hS hoS hbS hx hX ho hL hts k9
                exact c114 o b1 pS zS TS LS VS PS x3 x4 post ke xp U z T L V P (by omega) hS hoS hbS hx hX ho hL hts (fun z' T' L' V' P' hz hx2 hX2 ho2 hL2 hts2 => ⟨fun _ => a6 o b1 pS zS TS LS VS PS x3 x4 post ke xp (U - 12) z' T' L' V' P' (by omega) hS hoS hbS hx2 hX2 ho2 hL2 hts2 (fun U9 z9 T9 L9 V9 P9 u1 u2 u3 u4 u5 u6 u7 => k9 U9 z9 T9 L9 V9 P9 (by omega) (Nat.le_trans hz u2) u3 u4 u5 u6 u7), fun q => absurd kk q⟩)
              · intro sg0 sg post ke hM hR k9
                exact m153 sg0 sg post ke hM hR (fun s9 hM9 hR9 => a7 sg0 s9 post ke hM9 hR9 k9)
            · refine Or.inr ⟨kf, pl, a1, by omega, a3, ?_, ?_⟩
              · intro o b1 pS zS TS LS VS PS x3 x4 post ke xp U z T L V P hU hS hoS hbS hx hX ho hL hts k9
                exact c114 o b1 pS zS TS LS VS PS x3 x4 post ke xp U z T L V P (by omega) hS hoS hbS hx hX ho hL hts (fun z' T' L' V' P' hz hx2 hX2 ho2 hL2 hts2 => ⟨fun _ => a4 o b1 pS zS TS LS VS PS x3 x4 post ke xp (U - 12) z' T' L' V' P' (by omega) hS hoS hbS hx2 hX2 ho2 hL2 hts2 (k9.m hz), fun q => absurd kk q⟩)
              · intro sg0 sg post ke hM hR k9
                exact m153 sg0 sg post ke hM hR (fun s9 hM9 hR9 => a5 sg0 s9 post ke hM9 hR9 k9)
          · refine Or.inl ⟨tNx b n p, k + 1, upd ts k (nI x), hp2, hp2n, Nat.le_add_left 1 k, hk1, hrt2, ?_, ?_⟩
            · intro o b1 pS zS TS LS VS PS x3 x4 post ke xp U z T L V P hU hS hoS hbS hx hX ho hL hts k9
              exact c114 o b1 pS zS TS LS VS PS x3 x4 post ke xp U z T L V P (by omega) hS hoS hbS hx hX ho hL hts (fun z' T' L' V' P' hz hx2 hX2 ho2 hL2 hts2 => ⟨fun q => absurd q kk, fun _ => k9 _ _ _ _ _ _ (by omega) hz hx2 hX2 ho2 hL2 hts2⟩)
            · intro sg0 sg post ke hM hR k9
              refine m153 sg0 sg post ke hM hR (fun s9 hM9 hR9 => ?_)
              rw [hm']
              unfold lM_readJudge_75
              rw [if_pos hM9.2.1, if_neg (show ¬ s9 0 17 = 2 from fun q => kk ((kin_nI (j := 2) hM9.1 (by decide)).mp q))]
              exact k9 s9 hM9 hR9
      · have hkd : nI (tOf b n p (nT D)) ≠ 0 := nI_ne0 (by omega) (by have := tOf_le (b := b) (n := n) (p := p) (m := nT D); omega)
        refine Or.inr ⟨nI (tOf b n p (nT D)), p, hkd, Nat.le_refl _, hp, ?_, ?_⟩
        · intro o b1 pS zS TS LS VS PS x3 x4 post ke xp U z T L V P hU hS hoS hbS hx hX ho hL hts kk
          obtain ⟨hc, hb⟩ := fct (o := o) hS hbS hx hX
          refine c51 o b1 x3 x4 post ke xp U z T L V P hc hb ho hL (fun q => absurd q e7) (fun _ => ?_)
          unfold jFX9_judge_68
          refine ⟨0, U, (Nat.zero_add U).symm, sX_check1 ⟨hc.2.1.1.1, hc.2.2.2.2.2.2.1.1, hb, hArr_o ho hL, U, 0, rfl, ?_⟩⟩
          rw [hc.2.2.2.2.2.2.1.2.1, hT]
          exact sX_among hA hc.1 hc.2.1 (by omega) (by omega) (fun q => absurd q o1) (fun _ => kk.c hc)
        · intro sg0 sg post ke hM hR kk
          refine m75 sg0 sg post ke hM (fun q => absurd q e7) (fun _ => ?_)
          unfold jM_readJudge_101
          refine sM_town hM.1 hn6 hM.2.1 ((hM.2.2.1.1 0 (by decide)).trans hT) (by omega) (fun q => absurd q o1) (fun _ => ?_)
          rw [if_neg (wr_of o1)]
          exact bad153 _ _ _ _ _ (wr_of o1) (kk _ _ (hM.2.2.2.tr (fB.wr _ _ _).U) wr_21 wr_22)
end L
