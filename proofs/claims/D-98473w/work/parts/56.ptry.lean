/-! PURE: the box's frame; a trial of the class; bounds -/
set_option maxRecDepth 100000
theorem bx_ne {T L : Nat → Nat} {P : w_P} {t : Nat} {A : Nat → Nat} (h : bxP T L P t A) {i j : Nat} (hi : stI i) (hj : stI j) (hn : i ≠ j) : A i ≠ A j := fun e => hn (h.2.2.2.2.2.2.2.2.2.2 i j hi hj e)
theorem bx_st {T L : Nat → Nat} {P : w_P} {t : Nat} {A : Nat → Nat} (h : bxP T L P t A) {i : Nat} (hi : stI i) : T (A i) = 6 := h.2.2.2.2.2.2.2.2.2.1 i hi
theorem T_ne {T : Nat → Nat} {a b x y : Nat} (ha : T a = x) (hb : T b = y) (h : x ≠ y) : a ≠ b := fun e => h (by rw [← ha, e, hb])
theorem stI2 : stI 2 := Or.inl rfl
theorem stI3 : stI 3 := Or.inr (Or.inl rfl)
theorem stI13 : stI 13 := Or.inr (Or.inr (Or.inl rfl))
theorem stIa {k : Nat} (h : k < 40) : stI (100 + k) := Or.inr (Or.inr (Or.inr (Or.inl ⟨by omega, by omega⟩)))
theorem stIb {k : Nat} (h : k < 40) : stI (200 + k) := Or.inr (Or.inr (Or.inr (Or.inr ⟨by omega, by omega⟩)))
section BX
variable {ad : Nat → Nat} {T L : Nat → Nat} {V : w_V} {P : w_P} {t : Nat} {A : Nat → Nat} {sg : MS} {lw : (Nat → Int32) → Int32}
theorem cR.vw (h : cR ad T L V P t A sg lw) : T (A 10) = 4 := h.1.2.2.1.2.2.2.2.1.2
/-- what a question of the class leaves, of things of other kinds -/
theorem cfr.k {V9 : w_V} (hb : bxP T L P t A) (hv : T (A 10) = 4) (h : cfr V V9 t A) {a x : Nat} (ha : T a = x) (hx : x ≠ 6 ∧ x ≠ 7 ∧ x ≠ 4 ∧ x ≠ 2) : V9 a = V a :=
  h.1 a (T_ne ha (bx_st hb stI3) hx.1) (T_ne ha hb.2.2.2.2.1.1 hx.2.1) (T_ne ha hv hx.2.2.1) (T_ne ha hb.1.1 hx.2.2.2)
theorem cfr.s {V9 : w_V} (hb : bxP T L P t A) (hv : T (A 10) = 4) (h : cfr V V9 t A) {i : Nat} (hi : stI i) (h3 : i ≠ 3) : V9 (A i) = V (A i) :=
  h.1 _ (bx_ne hb hi stI3 h3) (T_ne (bx_st hb hi) hb.2.2.2.2.1.1 (by decide)) (T_ne (bx_st hb hi) hv (by decide)) (T_ne (bx_st hb hi) hb.1.1 (by decide))
theorem cfr.l {V9 : w_V} (hb : bxP T L P t A) (hv : T (A 10) = 4) (h : cfr V V9 t A) : sameL T V V9 := by
  intro a ha
  refine h.1 a ?_ ?_ ?_ ?_
  · intro e; rw [e, bx_st hb stI3] at ha; cases ha
  · intro e; rw [e, hb.2.2.2.2.1.1] at ha; cases ha
  · intro e; rw [e, hv] at ha; cases ha
  · intro e; rw [e, hb.1.1] at ha; cases ha
theorem cR.fr {V9 : w_V} (h : cR ad T L V P t A sg lw) (hb : bxP T L P t A) (hc : cfr V V9 t A) : cR ad T L V9 P t A sg lw := by
  have hv := h.vw
  obtain ⟨⟨a1, a2, a3, a4⟩, ⟨b1, b2'⟩, c1, ⟨d1, d2, d3⟩, ⟨n, e1, e2, e3, e4⟩, f1⟩ := h
  have el : V9 (A 5) = V (A 5) := hc.k hb hv a3.1.1 (by decide)
  have e0 : V9 (A 0) = V (A 0) := hc.k hb hv hb.2.1.1 (by decide)
  have e1' : V9 (A 1) = V (A 1) := hc.k hb hv hb.2.2.1.1 (by decide)
  have e11 : V9 (A 11) = V (A 11) := hc.k hb hv hb.2.2.2.2.2.1.1 (by decide)
  have e14 : V9 (A 14) = V (A 14) := hc.k hb hv hb.2.2.2.2.2.2.1.1 (by decide)
  refine ⟨⟨a1, a2, a3.V (hc.l hb hv), fun a b x y => by rw [el]; exact a4 a b x y⟩, ⟨b1.e (hc.s hb hv stI2 (by decide)), b2'⟩, c1.e e0 e11 (fun k hk => hc.s hb hv (stIa hk) (by omega)), ⟨by rw [hc.2 0 6 (by omega)]; exact d1, by rw [e14]; exact d2, ?_⟩, ⟨n, e1, e2, by rw [hc.2 0 8 (by omega)]; exact e3, fun i hi => by rw [hc.2 8 i (by omega)]; exact e4 i hi⟩, by rw [hc.2 0 9 (by omega)]; exact f1⟩
  rcases d3 with q | ⟨q1, ⟨q2, q3⟩, q4⟩
  · exact Or.inl q
  · exact Or.inr ⟨q1, ⟨q2.e (hc.s hb hv stI13 (by decide)), q3⟩, q4.e e1' e14 (fun k hk => hc.s hb hv (stIb hk) (by omega))⟩
/-- the model's side of a question -/
theorem cR.m {s9 : MS} (h : cR ad T L V P t A sg lw) (hm : mfr sg s9) : cR ad T L V P t A s9 lw := by
  obtain ⟨⟨a1, a2, a3, a4⟩, ⟨b1, b2'⟩, c1, ⟨d1, d2, d3⟩, ⟨n, e1, e2, e3, e4⟩, f1⟩ := h
  obtain ⟨m1, m2, m3, m4⟩ := hm
  have ha : agL sg s9 := agL.of (fun k hk => m1 k (by omega) (by omega) (by omega) (by rcases hk with h | h | h | h | h | h | h | h | h <;> (rw [h]; rfl)))
  have f : ∀ j, j ≠ 2 → j ≠ 40 → j ≠ 41 → j ≠ 42 → j ≠ 43 → j ≠ 53 → s9 0 j = sg 0 j := m2
  have g : ∀ k, k ≠ 0 → k ≠ 26 → k ≠ 28 → scr k = false → s9 k = sg k := m1
  have o6 := b2'.2.1.2
  have o8 := b2'.2.2.2.1.2
  rw [pk_6] at o6
  rw [pk_8] at o8
  have hJ := a1.2.1.2
  -- the rows are the same as far as they are looked at
  have p5 : pk s9 5 = pk sg 5 := by rw [pk_5, pk_5]; exact f 29 (by decide) (by decide) (by decide) (by decide) (by decide) (by decide)
  have p6 : pk s9 6 = pk sg 6 := by rw [pk_6, pk_6]; exact f 30 (by decide) (by decide) (by decide) (by decide) (by decide) (by decide)
  have p7 : pk s9 7 = pk sg 7 := by rw [pk_7, pk_7]; exact f 31 (by decide) (by decide) (by decide) (by decide) (by decide) (by decide)
  have p8 : pk s9 8 = pk sg 8 := by rw [pk_8, pk_8]; exact f 32 (by decide) (by decide) (by decide) (by decide) (by decide) (by decide)
  have pd : ∀ j, j < nJ sg → pk s9 j = pk sg j := fun j hj => by rw [pk_d (by omega), pk_d (by omega), g 7 (by decide) (by decide) (by decide) rfl]
  have pw : ∀ k, k < 3 * tn (pk sg 6) → pk s9 (9 + k) = pk sg (9 + k) := fun k hk => by
    rw [pk_6] at hk
    rw [pk_w (by omega), pk_w (by omega), m3 k hk]
  have pf : ∀ k, pk s9 (21 + k) = pk sg (21 + k) ∨ 12 ≤ k := fun k => by
    rcases Nat.lt_or_ge k 12 with q | q
    · exact Or.inl (by rw [pk_f q, pk_f q, g 27 (by decide) (by decide) (by decide) rfl])
    · exact Or.inr q
  have pl : ∀ k, k < 3 * tn (pk sg 8) → pk s9 (33 + k) = pk sg (33 + k) := fun k hk => by
    rw [pk_8] at hk
    rw [pk_l, pk_l, m4 k hk]
  have o7 := b2'.2.2.1.2
  refine ⟨⟨ha.lnd a1, ha.far a1 a2, ha.land a1 a3, ha.ways a1 a4⟩, ?_, ?_, ⟨?_, d2, ?_⟩, ⟨n, ?_, e2, e3, fun i hi => ?_⟩, ?_⟩
  · rw [ha.nJ, ha.nT]
    constructor
    · obtain ⟨h1, h2, h3, h4, h5, h6, h7, h8, h9⟩ := b1
      unfold rowX
      rw [p5, p6, p7, p8]
      refine ⟨fun j hj => by rw [pd j hj]; exact h1 j hj, h2, h3, h4, h5, fun k hk => by rw [pw k hk]; exact h6 k hk, fun k hk => ?_, fun k hk => by rw [pl k hk]; exact h8 k hk, h9⟩
      rw [(pf k).resolve_right (by omega)]
      exact h7 k hk
    · obtain ⟨h1, h2, h3, h4, h5, h6, h7⟩ := b2'
      unfold rowOk
      rw [p5, p6, p7, p8]
      refine ⟨fun j hj => by rw [pd j hj]; exact h1 j hj, h2, h3, h4, fun k hk => ?_, fun k hk => ?_, h7⟩
      · rw [pw _ (by omega), pw _ (by omega)]; exact h5 k hk
      · rw [pl _ (by omega), pl _ (by omega)]; exact h6 k hk
  · rw [ha.nJ, ha.nT, ha.nC, f 33 (by decide) (by decide) (by decide) (by decide) (by decide) (by decide), f 34 (by decide) (by decide) (by decide) (by decide) (by decide) (by decide), g 29 (by decide) (by decide) (by decide) rfl, g 51 (by decide) (by decide) (by decide) rfl, g 52 (by decide) (by decide) (by decide) rfl, g 53 (by decide) (by decide) (by decide) rfl, g 13 (by decide) (by decide) (by decide) rfl]
    exact c1
  · rw [f 54 (by decide) (by decide) (by decide) (by decide) (by decide) (by decide)]; exact d1
  · rw [f 54 (by decide) (by decide) (by decide) (by decide) (by decide) (by decide), ha.nJ, ha.nT, ha.nC, f 55 (by decide) (by decide) (by decide) (by decide) (by decide) (by decide), f 56 (by decide) (by decide) (by decide) (by decide) (by decide) (by decide), g 58 (by decide) (by decide) (by decide) rfl, g 59 (by decide) (by decide) (by decide) rfl, g 60 (by decide) (by decide) (by decide) rfl, g 61 (by decide) (by decide) (by decide) rfl, g 62 (by decide) (by decide) (by decide) rfl, g 63 (by decide) (by decide) (by decide) rfl]
    exact d3
  · rw [f 14 (by decide) (by decide) (by decide) (by decide) (by decide) (by decide)]; exact e1
  · rw [g 14 (by decide) (by decide) (by decide) rfl]; exact e4 i hi
  · rw [f 23 (by decide) (by decide) (by decide) (by decide) (by decide) (by decide)]; exact f1
/-- a trial of D, D being of the land and of the state that is tried -/
theorem trX {V9 : w_V} {D : MS} (h : cR ad T L V P t A sg lw) (hb : bxP T L P t A) (hc : cfr V V9 t A) (ha : agL sg D) (hs : stR T V9 (A 3) D) (he : exR V9 (A 3) D) : trW ad T L V9 P (A 4) (A 5) (A 3) (A 6) (A 7) (A 8) (A 9) (A 10) D lw := by
  have h9 := h.fr hb hc
  obtain ⟨a1, a2, a3, a4⟩ := h9.1
  exact ⟨hb.2.2.2.2.1.1, hb.2.2.2.2.1.2.1, hb.2.2.2.2.1.2.2, ha.land a1 a3, ha.ways a1 a4, hs, he⟩
/-- all of a trial, what it leaves -/
theorem sX_run {D : MS} (h : cR ad T L V P t A sg lw) (hb : bxP T L P t A) (ha : agL sg D) (hO : stOk D) (hs : stR T V (A 3) D) (he : exR V (A 3) D) {post : Int32 → w_V → Prop} (hp : ∀ V9 : w_V, cfr V V9 t A → V9 (A 3) = V (A 3) → allX V9 (A 4) D lw → post (pN D (pTell D lw)) V9) : wX7_all ad T L V P (A 4) post := by
  have hv := h.vw
  refine sX_all (ha.lnd h.1.1) (ha.far h.1.1 h.1.2.1) hO (trX h hb (cfr.rf V t A) ha hs he) (fun V9 a1 a2 => hp V9 (cfr.of (fun a _ q1 q2 => a1 a q1 q2) (T_ne hb.1.1 (bx_st hb stI3) (by decide)) (T_ne hb.1.1 hb.2.2.2.2.1.1 (by decide)) (T_ne hb.1.1 hv (by decide))) (a1 _ (T_ne (bx_st hb stI3) hb.2.2.2.2.1.1 (by decide)) (T_ne (bx_st hb stI3) hv (by decide))) a2)
theorem cfr.one {V9 : w_V} (hb : bxP T L P t A) (hv : T (A 10) = 4) (h : ∀ a, a ≠ A 3 → V9 a = V a) : cfr V V9 t A := cfr.of (fun a q _ _ => h a q) (T_ne hb.1.1 (bx_st hb stI3) (by decide)) (T_ne hb.1.1 hb.2.2.2.2.1.1 (by decide)) (T_ne hb.1.1 hv (by decide))
theorem cfr.up {k i : Nat} {x : Int32} (hb : bxP T L P t A) (hv : T (A 10) = 4) : cfr V (up3 V (A 3) k i x) t A := cfr.one hb hv (fun _ h => up3_n h)
/-- tried.like(now) -/
theorem sX_like3 (h : cR ad T L V P t A sg lw) (hb : bxP T L P t A) {post : w_V → Prop} (hp : ∀ V9 : w_V, (∀ a, a ≠ A 3 → V9 a = V a) → rowX V9 (A 3) (nJ sg) (pk sg) → post V9) : wX6_like ad T L V P (A 3) (A 2) post := by
  have hJ := h.1.1.2.1.2
  refine sX6_like (bx_ne hb stI2 stI3 (by decide)) (fun V9 a1 a2 => hp V9 a1 (h.2.1.1.copy hJ h.2.1.2 a2))
/-- tries() -/
theorem sX1_tries (h : cR ad T L V P t A sg lw) (hb : bxP T L P t A) {post : Int32 → w_V → Prop} (hp : ∀ V9 : w_V, cfr V V9 t A → rowX V9 (A 3) (nJ sg) (pk sg) → allX V9 (A 4) (gh sg) lw → post (pN (gh sg) (pTell (gh sg) lw)) V9) : wX1_tries ad T L V P t post := by
  have hJ := h.1.1.2.1.2
  have hv := h.vw
  unfold wX1_tries
  refine ⟨A 3, hb.1.2.2.2.2.2.1, bx_st hb stI3, A 2, hb.1.2.2.2.2.1, bx_st hb stI2, sX_like3 h hb (fun V1 a1 a2 => ⟨A 4, hb.1.2.2.2.2.2.2, hb.2.2.2.2.1.1, ?_⟩)⟩
  have hc1 : cfr V V1 t A := cfr.one hb hv a1
  refine sX_run (h.fr hb hc1) hb (gh_ag sg) (h.2.1.2.st hJ) (a2.st h.2.1.2 hJ (bx_st hb stI3)) (a2.ex hJ) (fun V9 b1 b2' b3 => hp V9 (hc1.tr b1) (a2.e b2') b3)
-- bounds
theorem sX_there1 {post : Prop} {xp : String → w_V → w_P → Prop} (h : post) : wX1_there ad T L V P 1 post xp := by
  unfold wX1_there
  rw [if_neg (by decide)]
  exact h
theorem sX_there0 {post : Prop} {xp : String → w_V → w_P → Prop} (h : xp cNSE V P) : wX1_there ad T L V P 0 post xp := by
  unfold wX1_there
  rw [if_pos rfl]
  exact h
theorem sX_right1 {post : Prop} {xp : String → w_V → w_P → Prop} (h : post) : wX1_right ad T L V P 1 post xp := by
  unfold wX1_right
  rw [if_neg (by decide)]
  exact h
theorem sX_right0 {post : Prop} {xp : String → w_V → w_P → Prop} (h : xp cIAE V P) : wX1_right ad T L V P 0 post xp := by
  unfold wX1_right
  rw [if_pos rfl]
  exact h
theorem sX_within {x a b : Int32} {post : Int32 → Prop} (h1 : ¬ x < a → ¬ b < x → post 1) (h0 : x < a ∨ b < x → post 0) : wX1_within ad T L V P x a b post := by
  unfold wX1_within
  by_cases q : x < a
  · rw [if_pos q]; exact h0 (Or.inl q)
  · rw [if_neg q]
    by_cases q2 : b < x
    · rw [if_pos q2]; exact h0 (Or.inr q2)
    · rw [if_neg q2]; exact h1 q q2
theorem sX_townAt (h : cR ad T L V P t A sg lw) (hb : bxP T L P t A) {x : Int32} {post : Prop} {xp : String → w_V → w_P → Prop} (h1 : ∀ k, k < nT sg → x = nI k → post) (h0 : notN x (nT sg) → xp cNSE V P) : wX1_townAt ad T L V P t x post xp := by
  have hT := h.1.1.1
  have hl := h.1.2.2.1.1
  unfold wX1_townAt jX1_townAt_19 jX1_townAt_20
  by_cases q : x < 0
  · rw [if_pos q]
    exact sX_there0 (h0 (notN_neg (by omega) q))
  · rw [if_neg q]
    refine ⟨A 5, hb.1.2.1, hl.1, ?_⟩
    rw [hl.2.1, hT.1]
    by_cases q2 : nI (nT sg) ≤ x
    · rw [if_pos q2]
      exact sX_there0 (h0 (notN_ge (by omega) q2))
    · rw [if_neg q2]
      obtain ⟨k, hk, e⟩ := in_of (by omega) q q2
      exact sX_there1 (h1 k hk e)
theorem sX1_cases (h : cR ad T L V P t A sg lw) (hb : bxP T L P t A) {post : Int32 → Prop} (hp : post (nI (nC sg))) : wX1_cases ad T L V P t post := by
  obtain ⟨g1, g2, g3⟩ := h.1.2.2.1.2.2.2.1
  unfold wX1_cases wJ2_size
  refine ⟨A 5, hb.1.2.1, h.1.2.2.1.1.1, A 8, g1, g2.1, ?_⟩
  rw [g2.2.1]
  exact hp
theorem sX_caseAt (h : cR ad T L V P t A sg lw) (hb : bxP T L P t A) {x : Int32} {post : Prop} {xp : String → w_V → w_P → Prop} (h1 : ∀ k, k < nC sg → x = nI k → post) (h0 : notN x (nC sg) → xp cNSE V P) : wX1_caseAt ad T L V P t x post xp := by
  have hC := h.1.1.2.2.1
  unfold wX1_caseAt jX1_caseAt_16 jX1_caseAt_17
  by_cases q : x < 0
  · rw [if_pos q]
    exact sX_there0 (h0 (notN_neg (by omega) q))
  · rw [if_neg q]
    refine sX1_cases h hb ?_
    by_cases q2 : nI (nC sg) ≤ x
    · rw [if_pos q2]
      exact sX_there0 (h0 (notN_ge (by omega) q2))
    · rw [if_neg q2]
      obtain ⟨k, hk, e⟩ := in_of (by omega) q q2
      exact sX_there1 (h1 k hk e)
theorem sX_judgeAt (h : cR ad T L V P t A sg lw) (hb : bxP T L P t A) {x : Int32} {post : Nat → Prop} {xp : String → w_V → w_P → Prop} (h1 : ∀ k a, k < nJ sg → x = nI k → jdgR T L V P a sg k → post a) (h0 : notN x (nJ sg) → xp cNSE V P) : wX1_judgeAt ad T L V P t x (fun r => jT T r ∧ post r) xp := by
  have hJ := h.1.1.2.1
  obtain ⟨g1, g2, g3⟩ := h.1.2.2.1.2.2.1
  unfold wX1_judgeAt jX1_judgeAt_22 jX1_judgeAt_23
  by_cases q : x < 0
  · rw [if_pos q]
    exact sX_there0 (h0 (notN_neg (by omega) q))
  · rw [if_neg q]
    refine ⟨A 5, hb.1.2.1, h.1.2.2.1.1.1, A 6, g1, g2.1, ?_⟩
    unfold wJ2_size
    rw [g2.2.1]
    dsimp only
    by_cases q2 : nI (nJ sg) ≤ x
    · rw [if_pos q2]
      exact sX_there0 (h0 (notN_ge (by omega) q2))
    · rw [if_neg q2]
      obtain ⟨k, hk, e⟩ := in_of (by omega) q q2
      subst e
      obtain ⟨a, ha, hr⟩ := g3 k hk
      exact sX_there1 ⟨A 5, hb.1.2.1, h.1.2.2.1.1.1, A 6, g1, g2.1, sJ2_get g2 hk (by omega) ha ⟨hr.jT, hr.jT, h1 k a hk rfl hr⟩⟩
end BX
