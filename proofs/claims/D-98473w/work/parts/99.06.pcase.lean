/-! PURE: case at both -/
set_option maxRecDepth 100000
section L
variable {ad b : Nat → Nat} {n : Nat} {B : bsE} {r tx ax kx l jl cl vw : Nat} {D : MS} {lw : (Nat → Int32) → Int32} {g w : Bool} {p z : Nat} {T L : Nat → Nat} {V : w_V} {P : w_P}
/-- the land stands, whatever lies at o -/
def CLo (ad b : Nat → Nat) (n : Nat) (B : bsE) (r tx ax kx l jl cl vw : Nat) (D : MS) (lw : (Nat → Int32) → Int32) (g w : Bool) (o p z : Nat) (T L : Nat → Nat) (V : w_V) (P : w_P) : Prop := T o = 1000 ∧ B.1 o = 0 ∧ ∀ σ, CL ad b n B r tx ax kx l jl cl vw D lw g w p z T L (up1 V o σ) P
theorem CLo.c {o : Nat} (h : CLo ad b n B r tx ax kx l jl cl vw D lw g w o p z T L V P) : CL ad b n B r tx ax kx l jl cl vw D lw g w p z T L V P := by
  have := h.2.2 (V o)
  rw [up1_id] at this
  exact this
theorem CLo.x {o p' z' : Nat} {T' L' : Nat → Nat} {V' : w_V} {P' : w_P} (h : CLo ad b n B r tx ax kx l jl cl vw D lw g w o p z T L V P) (hx : xr r z T L V P z' T' L' V' P') (hX : rdX ad b n T' L' V' P' r tx ax kx p') : CLo ad b n B r tx ax kx l jl cl vw D lw g w o p' z' T' L' V' P' ∧ L' o = L o ∧ V' o = V o := by
  obtain ⟨h1, h2, h3⟩ := h
  have hr : T r = 8 := (h3 (V o)).2.1.1.1
  have hor : o ≠ r := fun e => by rw [e, hr] at h1; cases h1
  obtain ⟨e1, e2, e3⟩ := hx.2.2.1 o (by rw [h1]; decide)
  have hT' : T' o = 1000 := e1.trans h1
  refine ⟨⟨hT', h2, fun σ => (h3 σ).x ⟨hx.1, hx.2.1, fun a ha => ⟨(hx.2.2.1 a ha).1, (hx.2.2.1 a ha).2.1, fun q => ⟨?_, ((hx.2.2.1 a ha).2.2 q).2⟩⟩, ?_⟩ ?_⟩, e2, (e3 hor).1⟩
  · by_cases ea : a = o
    · rw [ea, up1_s, up1_s]
    · rw [up1_n ea, up1_n ea]; exact ((hx.2.2.1 a ha).2.2 q).1
  · rw [up1_n hor.symm, up1_n hor.symm]; exact hx.2.2.2
  · exact hX.x (fun a ha => ⟨rfl, rfl, up1_n (fun e => by rw [e, hT'] at ha; rcases ha with q | q | q | q <;> cases q), rfl⟩)
theorem CLo.put {o : Nat} {V' : w_V} (h : CLo ad b n B r tx ax kx l jl cl vw D lw g w o p z T L V P) (hV : ∀ a, a ≠ o → V' a = V a) : CLo ad b n B r tx ax kx l jl cl vw D lw g w o p z T L V' P := ⟨h.1, h.2.1, fun σ => by
  have e : up1 V' o σ = up1 V o σ := by
    funext a
    by_cases ea : a = o
    · rw [ea, up1_s, up1_s]
    · rw [up1_n ea, up1_n ea, hV a ea]
  rw [e]
  exact h.2.2 σ⟩
/-- a new array -/
theorem CL.nwo (h : CL ad b n B r tx ax kx l jl cl vw D lw g w p z T L V P) {len o z1 : Nat} {T1 L1 : Nat → Nat} {V1 : w_V} {P1 : w_P} (hw : nwH o z T L V P (1000 + 0) len z1 T1 L1 V1 P1) : CLo ad b n B r tx ax kx l jl cl vw D lw g w o p z1 T1 L1 V1 P1 ∧ L1 o = len ∧ (V1 o = fun _ _ => 0) ∧ z ≤ z1 ∧ T o = 0 := by
  have hr0 : T r ≠ 0 := ne0 h.2.1.1.1
  obtain ⟨x0, x2, x3, x4, x5, x6, x7, -⟩ := xr.nw (r := r) h.1 hw hr0
  have bo : B.1 o = 0 := by
    cases e : B.1 o with
    | zero => rfl
    | succ q => have := (h.2.2.1 o (by rw [e]; omega)).1; rw [x2, e] at this; cases this
  have hn : ∀ a, T a ≠ 0 → a ≠ o := fun a ha e => ha (by rw [e]; exact x2)
  refine ⟨⟨x3, bo, fun σ => h.x ⟨x0.1, x0.2.1, fun a ha => ⟨(x7 a ha).1, (x7 a ha).2.1, fun _ => ⟨by rw [up1_n (hn a ha)]; exact (x7 a ha).2.2.1, (x7 a ha).2.2.2⟩⟩, by rw [up1_n (hn r hr0), (x7 r hr0).2.2.1]⟩ (h.2.1.x (fun a ha => ?_))⟩, x4, x5, x0.2.1, x2⟩
  have ha0 : T a ≠ 0 := by rcases ha with q | q | q | q <;> (rw [q]; decide)
  exact ⟨(x7 a ha0).1, (x7 a ha0).2.1, by rw [up1_n (hn a ha0)]; exact (x7 a ha0).2.2.1, (x7 a ha0).2.2.2⟩
theorem hArr_o {o len : Nat} (h : T o = 1000) (h2 : L o = len) : hArr T L o o 0 len 0 := ⟨by decide, Or.inr ⟨h, rfl, h2.symm, rfl⟩⟩
/-- the model's row of a case that is being read -/
def rowC (sg D : MS) (f : Nat → Int32) : Prop := ∀ t, t < 9 → sg 11 (54 + (9 * nC D + t)) = f t
theorem rowC.s {sg s9 : MS} {f : Nat → Int32} (h : rowC sg D f) (hf : fS sg s9) : rowC s9 D f := fun t ht => by rw [hf.1 11 (by decide)]; exact h t ht
theorem caseL (hA : hAd ad) (ht : tOk b n) (hD : DOk D) (hC5 : nC D < 6) : ∀ m k p (f : Nat → Int32), n - p < m → p ≤ n → k ≤ 6 → tKin b n p = 2 →
    (∃ (p' : Nat) (f' : Nat → Int32), p < p' ∧ p' ≤ n ∧
      (∀ (o : Nat) (post : Nat → (Nat → Nat) → (Nat → Nat) → w_V → w_P → Prop) (ke : lpT) (xp : w_Xp) (U z : Nat) (T L : Nat → Nat) (V : w_V) (P : w_P), 30 * (p' - p) ≤ U → CLo ad b n B r tx ax kx l jl cl vw D lw g w o p z T L V P → L o = 9 → (∀ t, t < 9 → V o 0 t = f t) → (∀ (U' z' : Nat) (T' L' : Nat → Nat) (V' : w_V) (P' : w_P), U ≤ U' + 30 * (p' - p) → z ≤ z' → CLo ad b n B r tx ax kx l jl cl vw D lw g w o p' z' T' L' V' P' → L' o = 9 → (∀ t, t < 9 → V' o 0 t = f' t) → ke U' z' T' L' V' P') → lFX9_cause_25 ad r l o o 0 9 post xp ke m U z T L V P (nI k)) ∧
      ∀ (sg0 sg : MS) (post ke : MS → Prop), ML b n sg0 D p sg → rowC sg D f → (∀ s9, ML b n sg0 D p' s9 → rowC s9 D f' → ke s9) → lM_readCase_70 (nI (9 * (6 + nC D))) post ke m (nI k) sg) ∨
    (∃ (kd : Int32) (pl : Nat), kd ≠ 0 ∧ p ≤ pl ∧ pl ≤ n ∧
      (∀ (o : Nat) (post : Nat → (Nat → Nat) → (Nat → Nat) → w_V → w_P → Prop) (ke : lpT) (xp : w_Xp) (U z : Nat) (T L : Nat → Nat) (V : w_V) (P : w_P), 30 * (pl - p) + 30 ≤ U → CLo ad b n B r tx ax kx l jl cl vw D lw g w o p z T L V P → L o = 9 → (∀ t, t < 9 → V o 0 t = f t) → xfL B xp z kd pl → lFX9_cause_25 ad r l o o 0 9 post xp ke m U z T L V P (nI k)) ∧
      ∀ (sg0 sg : MS) (post ke : MS → Prop), ML b n sg0 D p sg → rowC sg D f → (∀ s9, fU sg0 s9 → s9 0 21 = kd → s9 0 22 = nI pl → ke s9) → lM_readCase_70 (nI (9 * (6 + nC D))) post ke m (nI k) sg) := by
  have hn6 := ht.1
  obtain ⟨⟨hT, hT9⟩, -, ⟨hC, hC6⟩, -⟩ := hD.1
  intro m
  induction m with
  | zero => intro k p f h; omega
  | succ m ih =>
    intro k p f hm hp hk k2
    have hpn := (t9kin_2.mp k2).1
    have hp2 := t9nx_gt (b := b) hpn
    have hp2n := t9nx_le (b := b) hp
    obtain ⟨m', hm'⟩ : ∃ m', m = m' + 1 := ⟨m - 1, by omega⟩
    have loopB : ∀ (x : Int32) (sg : MS) (post ke : MS → Prop), ¬ sg 0 21 = 0 → ke sg → lM_readCase_70 (nI (9 * (6 + nC D))) post ke m x sg := fun x sg post ke hb k => by
      rw [hm']
      unfold lM_readCase_70
      rw [if_neg hb]; exact k
    have bad136 : ∀ (x x3 : Int32) (sg : MS) (post ke : MS → Prop), ¬ sg 0 21 = 0 → ke sg → jM_readCase_136 sg (nI (9 * (6 + nC D))) x x3 post (lM_readCase_70 (nI (9 * (6 + nC D))) post ke m) := fun x x3 sg post ke hb k => by
      unfold jM_readCase_136
      refine sM_readNumB hb ?_
      rw [if_neg hb]
      exact loopB x sg post ke hb k
    have bad125 : ∀ (x x3 : Int32) (sg : MS) (post ke : MS → Prop), ¬ sg 0 21 = 0 → ke sg → jM_readCase_125 sg (nI (9 * (6 + nC D))) x x3 post (lM_readCase_70 (nI (9 * (6 + nC D))) post ke m) := fun x x3 sg post ke hb k => by
      unfold jM_readCase_125
      rw [if_neg hb]
      exact bad136 x x3 sg post ke hb k
    have bad96 : ∀ (x : Int32) (sg : MS) (post ke : MS → Prop), ¬ sg 0 21 = 0 → ke sg → jM_readCase_96 sg (nI (9 * (6 + nC D))) x post (lM_readCase_70 (nI (9 * (6 + nC D))) post ke m) := fun x sg post ke hb k => by
      unfold jM_readCase_96
      refine sM_townB hb ?_
      rw [if_neg hb]
      exact bad125 x 0 sg post ke hb k
    have c41 : ∀ (o : Nat) (post : Nat → (Nat → Nat) → (Nat → Nat) → w_V → w_P → Prop) (ke : lpT) (xp : w_Xp) (U z : Nat) (T L : Nat → Nat) (V : w_V) (P : w_P), CLo ad b n B r tx ax kx l jl cl vw D lw g w o p z T L V P → L o = 9 → (k = 6 → jFX9_cause_57 ad U z T L V P r l o o 0 9 (nI k) 0 r post xp (lFX9_cause_25 ad r l o o 0 9 post xp ke m) ke) → (k ≠ 6 → jFX9_cause_57 ad U z T L V P r l o o 0 9 (nI k) 1 r post xp (lFX9_cause_25 ad r l o o 0 9 post xp ke m) ke) → lFX9_cause_25 ad r l o o 0 9 post xp ke (m + 1) U z T L V P (nI k) := by
      intro o post ke xp U z T L V P hc hL ka kb
      unfold lFX9_cause_25
      refine ⟨_, hc.c.2.1.2.2.2.2.1, ?_⟩
      rw [if_pos (by rw [k2]; rfl)]
      unfold jFX9_cause_41
      refine ⟨0, U, (Nat.zero_add U).symm, sX_check1 ⟨hc.c.2.1.1.1, hc.c.2.2.2.2.2.2.1.1, hArr_o hc.1 hL, ?_⟩⟩
      by_cases e6 : k = 6
      · rw [if_pos (show (6 : Int32) ≤ nI k from nI_le (a := 6) (by omega) (by omega))]; exact ka e6
      · rw [if_neg (show ¬ (6 : Int32) ≤ nI k from nI_ge (b := 6) (by omega) (by omega))]; exact kb e6
    have m70 : ∀ (sg0 sg : MS) (post ke : MS → Prop), ML b n sg0 D p sg → (k = 6 → ke (wr sg 2 p)) → (k ≠ 6 → jM_readCase_96 sg (nI (9 * (6 + nC D))) (nI k) post (lM_readCase_70 (nI (9 * (6 + nC D))) post ke m)) → lM_readCase_70 (nI (9 * (6 + nC D))) post ke (m + 1) (nI k) sg := by
      intro sg0 sg post ke hM ka kb
      unfold lM_readCase_70
      rw [if_pos hM.2.1, if_pos (show sg 0 17 = 2 from (kin_nI (j := 2) hM.1 (by decide)).mpr k2)]
      by_cases e6 : k = 6
      · rw [if_pos (by rw [e6]; rfl)]
        refine sM_wrong hM.1.2.2.1 hM.2.1 (bad96 _ _ _ _ (by rw [wr_21]; decide) (ka e6))
      · rw [if_neg (show ¬ nI k = 6 from fun q => e6 ((nI_eq (b := 6) (by omega) (by omega)).mp q))]
        exact kb e6
    by_cases e6 : k = 6
    · refine Or.inr ⟨2, p, by decide, Nat.le_refl _, hp, ?_, ?_⟩
      · intro o post ke xp U z T L V P hU hc hL hf kk
        refine c41 o post ke xp U z T L V P hc hL (fun _ => ?_) (fun q => absurd e6 q)
        unfold jFX9_cause_57
        exact ⟨U, 0, rfl, sX_check0 hc.c.1 hc.c.2.1 (by omega) (kk.c hc.c)⟩
      · intro sg0 sg post ke hM hR kk
        exact m70 sg0 sg post ke hM (fun _ => kk _ (hM.2.2.2.tr (fB.wr _ _ _).U) wr_21 wr_22) (fun q => absurd e6 q)
    · by_cases o1 : tOf b n p (nT D) = 0
      · obtain ⟨-, t2⟩ := tOf_v o1
        generalize ex : tVl b n p = x at t2
        have hx9 : x < 9 := by omega
        have e54 : nI (9 * (6 + nC D)) + nI x = nI (54 + (9 * nC D + x)) := by rw [nI_add]; congr 1; omega
        have c57 : ∀ (o : Nat) (post : Nat → (Nat → Nat) → (Nat → Nat) → w_V → w_P → Prop) (ke : lpT) (xp : w_Xp) (U z : Nat) (T L : Nat → Nat) (V : w_V) (P : w_P), 2 ≤ U → CLo ad b n B r tx ax kx l jl cl vw D lw g w o p z T L V P → L o = 9 → (∀ t, t < 9 → V o 0 t = f t) → (f x = -1 → jFX9_cause_85 ad (U - 2) z T L V P r l o o 0 9 (nI k) (nI x) 1 r post xp (lFX9_cause_25 ad r l o o 0 9 post xp ke m) ke) → (f x ≠ -1 → jFX9_cause_85 ad (U - 2) z T L V P r l o o 0 9 (nI k) (nI x) 0 r post xp (lFX9_cause_25 ad r l o o 0 9 post xp ke m) ke) → lFX9_cause_25 ad r l o o 0 9 post xp ke (m + 1) U z T L V P (nI k) := by
          intro o post ke xp U z T L V P hU hc hL hf ka kb
          refine c41 o post ke xp U z T L V P hc hL (fun q => absurd q e6) (fun _ => ?_)
          unfold jFX9_cause_57
          refine ⟨0, U, (Nat.zero_add U).symm, sX_check1 ⟨hc.c.2.1.1.1, hc.c.2.2.2.2.2.2.1.1, hArr_o hc.1 hL, 2, U - 2, by omega, ?_⟩⟩
          rw [hc.c.2.2.2.2.2.2.1.2.1, hT]
          refine sX_among hA hc.c.1 hc.c.2.1 (by omega) (Nat.le_refl _) (fun _ => ?_) (fun q => absurd o1 q)
          rw [ex]
          refine ⟨hc.c.2.1.1.1, hc.c.2.2.2.2.2.2.1.1, hArr_o hc.1 hL, x, hx9, rfl, ?_⟩
          rw [hf x hx9]
          by_cases q : f x = -1
          · rw [if_pos q]; exact ka q
          · rw [if_neg q]; exact kb q
        have m96 : ∀ (sg0 sg : MS) (post ke : MS → Prop), ML b n sg0 D p sg → rowC sg D f → (f x = -1 → jM_readCase_125 sg (nI (9 * (6 + nC D))) (nI k) (nI x) post (lM_readCase_70 (nI (9 * (6 + nC D))) post ke m)) → (f x ≠ -1 → ke (wr sg 4 p)) → lM_readCase_70 (nI (9 * (6 + nC D))) post ke (m + 1) (nI k) sg := by
          intro sg0 sg post ke hM hR ka kb
          refine m70 sg0 sg post ke hM (fun q => absurd q e6) (fun _ => ?_)
          unfold jM_readCase_96
          refine sM_town hM.1 hn6 hM.2.1 ((hM.2.2.1.1 0 (by decide)).trans hT) (by omega) (fun _ => ?_) (fun q => absurd o1 q)
          rw [if_pos hM.2.1, ex]
          refine ⟨54 + (9 * nC D + x), by omega, e54, ?_⟩
          rw [hR x hx9]
          by_cases q : f x = -1
          · rw [if_pos q]; exact ka q
          · rw [if_neg q]
            exact sM_wrong hM.1.2.2.1 hM.2.1 (bad125 _ _ _ _ _ (by rw [wr_21]; decide) (kb q))
        by_cases fx : f x = -1
        · have hq1 := hp2
          generalize ep1 : tNx b n p = p1 at hp2 hp2n
          have c85' : ∀ (o : Nat) (post : Nat → (Nat → Nat) → (Nat → Nat) → w_V → w_P → Prop) (ke : lpT) (xp : w_Xp) (U z : Nat) (T L : Nat → Nat) (V : w_V) (P : w_P), 30 ≤ U → CLo ad b n B r tx ax kx l jl cl vw D lw g w o p z T L V P → L o = 9 → (∀ t, t < 9 → V o 0 t = f t) → (tNum b n p1 0 9 = 0 → ∀ (z' : Nat) (T' L' : Nat → Nat) (V' : w_V) (P' : w_P), z ≤ z' → CLo ad b n B r tx ax kx l jl cl vw D lw g w o (tNx b n p1) z' T' L' V' P' → L' o = 9 → (∀ t, t < 9 → V' o 0 t = upd f x (nI (tVl b n p1)) t) → (tKin b n (tNx b n p1) = 2 → lFX9_cause_25 ad r l o o 0 9 post xp ke m (U - 24) z' T' L' V' P' (nI (k + 1))) ∧ (tKin b n (tNx b n p1) ≠ 2 → ke (U - 24) z' T' L' V' P')) → (tNum b n p1 0 9 ≠ 0 → xfL B xp z (nI (tNum b n p1 0 9)) p1) → lFX9_cause_25 ad r l o o 0 9 post xp ke (m + 1) U z T L V P (nI k) := by
            intro o post ke xp U z T L V P hU hc hL hf ka kb
            refine c57 o post ke xp U z T L V P (by omega) hc hL hf (fun _ => ?_) (fun q => absurd fx q)
            unfold jFX9_cause_85
            refine ⟨0, _, (Nat.zero_add _).symm, sX_check1 ⟨hc.c.2.1.1.1, hc.c.2.2.2.2.2.2.1.1, hArr_o hc.1 hL, 10, U - 12, by omega, sX_goX hA ht hc.c.1 hc.c.2.1 (Nat.le_refl _) (fun z2 T2 L2 V2 P2 g1 g2 => ?_)⟩⟩
            rw [ep1] at g2
            obtain ⟨hc2, l2, v2⟩ := hc.x g1 g2
            refine ⟨hc2.c.2.1.1.1, hc2.c.2.2.2.2.2.2.1.1, hArr_o hc2.1 (l2.trans hL), 12, U - 24, by omega, sX_number (lo := 0) (hi := 9) hA ht hc2.c.1 hc2.c.2.1 (by decide) (by decide) (Nat.le_refl _) (fun q0 => ?_) (fun q0 => ((kb q0).m g1.2.1).c hc2.c)⟩
            intro z3 T3 L3 V3 P3 x1 x2
            obtain ⟨hc3, l3, v3⟩ := hc2.x x1 x2
            have hL3 : L3 o = 9 := l3.trans (l2.trans hL)
            refine ⟨hArr_o hc3.1 hL3, hc3.c.2.1.1.1, hc3.c.2.2.2.2.2.2.1.1, x, hx9, rfl, fun V91 e91 => ⟨_, x2.2.2.2.2.1, ?_⟩⟩
            have hc4 : CLo ad b n B r tx ax kx l jl cl vw D lw g w o (tNx b n p1) z3 T3 L3 V91 P3 := hc3.put (fun a ha => by rw [e91, up3_n ha])
            obtain ⟨q1, q2⟩ := ka q0 z3 T3 L3 V91 P3 (Nat.le_trans g1.2.1 x1.2.1) hc4 hL3 (fun t htt => by
              rw [e91, up3_a]
              unfold upd
              by_cases et : t = x
              · rw [if_pos et, et, s2_s]
              · rw [if_neg et, s2_i et, v3, v2]; exact hf t htt)
            by_cases kk : tKin b n (tNx b n p1) = 2
            · rw [if_pos (by rw [kk]; rfl), nI_1]; exact q1 kk
            · rw [if_neg (show ¬ ad (srt (tKin b n (tNx b n p1))) = ad 6 from fun e => kk ((srt_iff (j := 2) hA t9kin_lt (by decide)).mp e))]; exact q2 kk
          have m125 : ∀ (sg0 sg : MS) (post ke : MS → Prop), ML b n sg0 D p sg → rowC sg D f → (tNum b n p1 0 9 = 0 → ∀ s9, ML b n sg0 D (tNx b n p1) s9 → rowC s9 D (upd f x (nI (tVl b n p1))) → lM_readCase_70 (nI (9 * (6 + nC D))) post ke m (nI (k + 1)) s9) → (tNum b n p1 0 9 ≠ 0 → ∀ s9, fU sg0 s9 → s9 0 21 = nI (tNum b n p1 0 9) → s9 0 22 = nI p1 → ke s9) → lM_readCase_70 (nI (9 * (6 + nC D))) post ke (m + 1) (nI k) sg := by
            intro sg0 sg post ke hM hR ka kb
            refine m96 sg0 sg post ke hM hR (fun _ => ?_) (fun q => absurd fx q)
            unfold jM_readCase_125
            rw [if_pos hM.2.1]
            refine sM_go ht hM.1 (fun s8 f8 m8 => ?_)
            rw [ep1] at m8
            have hM8 := hM.s f8 m8
            unfold jM_readCase_136
            refine sM_readNum (lo := 0) (hi := 9) ht m8 hM8.2.1 (by decide) (by decide) (fun q0 s7 f7 m7 => ?_) (fun q0 => ?_)
            · have hM7 := hM8.s f7 m7
              have hR7 := (hR.s f8).s f7
              rw [if_pos hM7.2.1]
              refine ⟨54 + (9 * nC D + x), by omega, e54, ?_⟩
              rw [nI_1]
              obtain ⟨j1, j2, j3, j4, j5⟩ := hM7.2.2.1
              refine ka q0 _ ⟨m7.f (by rw [s2_rowN (by decide)]) (fun j _ => by rw [s2_k (by decide)]), by rw [s2_k (by decide)]; exact hM7.2.1, ⟨fun i hi => by rw [s2_k (by decide)]; exact j1 i hi, fun i hi => by rw [s2_k (by decide)]; exact j2 i hi, fun j hj => ?_, fun c t hc htt => ?_, fun i hi => by rw [s2_k (by decide)]; exact j5 i hi⟩, hM7.2.2.2.w ⟨by decide, Nat.le_add_right 54 _⟩⟩ (fun t htt => ?_)
              · rw [s2_rowN (a := 6) (by decide), s2_rowN (a := 7) (by decide), s2_rowN (a := 8) (by decide), s2_rowN (a := 9) (by decide), s2_rowN (a := 10) (by decide)]; exact j3 j hj
              · rw [s2_i (by omega)]; exact j4 c t hc htt
              · unfold upd
                by_cases et : t = x
                · rw [if_pos et, et, s2_s]
                · rw [if_neg et, s2_i (by omega)]; exact hR7 t htt
            · have hb : ¬ wr s8 (nI (tNum b n p1 0 9)) p1 0 21 = 0 := wr_b q0 (by have := tNum_le (b := b) (n := n) (p := p1) (lo := 0) (hi := 9); omega)
              rw [if_neg hb]
              exact loopB _ _ _ _ hb (kb q0 _ (hM8.2.2.2.tr (fB.wr _ _ _).U) wr_21 wr_22)
          by_cases q0 : tNum b n p1 0 9 = 0
          · obtain ⟨v1, v2, v3⟩ := tNum_v q0
            have hq5n := (t9kin_2.mp v1).1
            have hq6 := t9nx_gt (b := b) hq5n
            have hq6n := t9nx_le (b := b) hp2n
            by_cases kk : tKin b n (tNx b n p1) = 2
            · rcases ih (k + 1) (tNx b n p1) (upd f x (nI (tVl b n p1))) (by omega) hq6n (by omega) kk with ⟨p', f', a1, a2, a3, a4⟩ | ⟨kd, pl, a1, a2, a3, a4, a5⟩
              · refine Or.inl ⟨p', f', by omega, a2, ?_, ?_⟩
                · intro o post ke xp U z T L V P hU hc hL hf k9
                  exact c85' o post ke xp U z T L V P (by omega) hc hL hf (fun _ z' T' L' V' P' hz hc2 hL2 hf2 => ⟨fun _ => a3 o post ke xp (U - 24) z' T' L' V' P' (by omega) hc2 hL2 hf2 (fun U9 z9 T9 L9 V9 P9 u1 u2 u3 u4 u5 => k9 U9 z9 T9 L9 V9 P9 (by omega) (Nat.le_trans hz u2) u3 u4 u5), fun q => absurd kk q⟩) (fun q => absurd q0 q)
                · intro sg0 sg post ke hM hR k9
                  exact m125 sg0 sg post ke hM hR (fun _ s9 hM9 hR9 => a4 sg0 s9 post ke hM9 hR9 k9) (fun q => absurd q0 q)
              · refine Or.inr ⟨kd, pl, a1, by omega, a3, ?_, ?_⟩
                · intro o post ke xp U z T L V P hU hc hL hf k9
                  exact c85' o post ke xp U z T L V P (by omega) hc hL hf (fun _ z' T' L' V' P' hz hc2 hL2 hf2 => ⟨fun _ => a4 o post ke xp (U - 24) z' T' L' V' P' (by omega) hc2 hL2 hf2 (k9.m hz), fun q => absurd kk q⟩) (fun q => absurd q0 q)
                · intro sg0 sg post ke hM hR k9
                  exact m125 sg0 sg post ke hM hR (fun _ s9 hM9 hR9 => a5 sg0 s9 post ke hM9 hR9 k9) (fun q => absurd q0 q)
            · refine Or.inl ⟨tNx b n p1, upd f x (nI (tVl b n p1)), by omega, hq6n, ?_, ?_⟩
              · intro o post ke xp U z T L V P hU hc hL hf k9
                exact c85' o post ke xp U z T L V P (by omega) hc hL hf (fun _ z' T' L' V' P' hz hc2 hL2 hf2 => ⟨fun q => absurd q kk, fun _ => k9 _ _ _ _ _ _ (by omega) hz hc2 hL2 hf2⟩) (fun q => absurd q0 q)
              · intro sg0 sg post ke hM hR k9
                refine m125 sg0 sg post ke hM hR (fun _ s9 hM9 hR9 => ?_) (fun q => absurd q0 q)
                rw [hm']
                unfold lM_readCase_70
                rw [if_pos hM9.2.1, if_neg (show ¬ s9 0 17 = 2 from fun q => kk ((kin_nI (j := 2) hM9.1 (by decide)).mp q))]
                exact k9 s9 hM9 hR9
          · have hkd : nI (tNum b n p1 0 9) ≠ 0 := nI_ne0 (by omega) (by have := tNum_le (b := b) (n := n) (p := p1) (lo := 0) (hi := 9); omega)
            refine Or.inr ⟨nI (tNum b n p1 0 9), p1, hkd, by omega, hp2n, ?_, ?_⟩
            · intro o post ke xp U z T L V P hU hc hL hf k9
              exact c85' o post ke xp U z T L V P (by omega) hc hL hf (fun q => absurd q q0) (fun _ => k9)
            · intro sg0 sg post ke hM hR k9
              exact m125 sg0 sg post ke hM hR (fun q => absurd q q0) (fun _ => k9)
        · refine Or.inr ⟨4, p, by decide, Nat.le_refl _, hp, ?_, ?_⟩
          · intro o post ke xp U z T L V P hU hc hL hf k9
            refine c57 o post ke xp U z T L V P (by omega) hc hL hf (fun q => absurd q fx) (fun _ => ?_)
            unfold jFX9_cause_85
            exact ⟨U - 2, 0, rfl, sX_check0 hc.c.1 hc.c.2.1 (by omega) (k9.c hc.c)⟩
          · intro sg0 sg post ke hM hR k9
            exact m96 sg0 sg post ke hM hR (fun q => absurd q fx) (fun _ => k9 _ (hM.2.2.2.tr (fB.wr _ _ _).U) wr_21 wr_22)
      · have hkd : nI (tOf b n p (nT D)) ≠ 0 := nI_ne0 (by omega) (by have := tOf_le (b := b) (n := n) (p := p) (m := nT D); omega)
        refine Or.inr ⟨nI (tOf b n p (nT D)), p, hkd, Nat.le_refl _, hp, ?_, ?_⟩
        · intro o post ke xp U z T L V P hU hc hL hf k9
          refine c41 o post ke xp U z T L V P hc hL (fun q => absurd q e6) (fun _ => ?_)
          unfold jFX9_cause_57
          refine ⟨0, U, (Nat.zero_add U).symm, sX_check1 ⟨hc.c.2.1.1.1, hc.c.2.2.2.2.2.2.1.1, hArr_o hc.1 hL, U, 0, rfl, ?_⟩⟩
          rw [hc.c.2.2.2.2.2.2.1.2.1, hT]
          exact sX_among hA hc.c.1 hc.c.2.1 (by omega) (by omega) (fun q => absurd q o1) (fun _ => k9.c hc.c)
        · intro sg0 sg post ke hM hR k9
          refine m70 sg0 sg post ke hM (fun q => absurd q e6) (fun _ => ?_)
          unfold jM_readCase_96
          refine sM_town hM.1 hn6 hM.2.1 ((hM.2.2.1.1 0 (by decide)).trans hT) (by omega) (fun q => absurd q o1) (fun _ => ?_)
          rw [if_neg (wr_of o1)]
          exact bad125 _ _ _ _ _ (wr_of o1) (k9 _ (hM.2.2.2.tr (fB.wr _ _ _).U) wr_21 wr_22)
end L
