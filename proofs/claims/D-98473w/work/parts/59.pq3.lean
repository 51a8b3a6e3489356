/-! PURE: stop, where, proof, said, met, guilty -/
set_option maxRecDepth 100000
section Q3
variable {ad : Nat → Nat} {T L : Nat → Nat} {V : w_V} {P : w_P} {t : Nat} {A : Nat → Nat} {sg : MS} {lw : (Nat → Int32) → Int32}
theorem gh_j {j : Nat} : j < nJ (gh sg) ↔ j < nJ sg := by rw [(gh_ag sg).nJ]
theorem gh_c {j : Nat} : j < nC (gh sg) ↔ j < nC sg := by rw [(gh_ag sg).nC]
/-- no stop i of j -/
def notS (sg : MS) (x y : Int32) : Prop := notN x (nJ sg) ∨ ∃ j, j < nJ sg ∧ x = nI j ∧ notN y (stp sg j)
theorem qX_stop (h : cR ad T L V P t A sg lw) (hb : bxP T L P t A) {x y w : Int32} {post : Int32 → w_V → Prop} {xp : String → w_V → w_P → Prop} (hp : ∀ j i, j < nJ sg → x = nI j → i < stp sg j → y = nI i → ¬ w < 0 → ¬ 1 < w → ∀ V9, cfr V V9 t A → post (rStop sg j i w) V9) (h0 : notS sg x y ∨ w < 0 ∨ 1 < w → xp cNSE V P) : wX1_stop ad T L V P t x y w post xp := by
  have hL := h.1.1
  have hJ := h.1.1.2.1
  unfold wX1_stop jX1_stop_33 jX1_stop_34
  refine sX_judgeAt h hb (fun j a hj e hr => ?_) (fun q => h0 (Or.inl (Or.inl q)))
  obtain ⟨-, h9, h91, h97, -⟩ := hL.2.2.2.2.2.1 j hj
  by_cases y0 : y < 0
  · rw [if_pos y0]
    exact sX_there0 (h0 (Or.inl (Or.inr ⟨j, hj, e, notN_neg (by omega) y0⟩)))
  rw [if_neg y0]
  refine sX16_towns hL hj hr ?_
  by_cases y1 : nI (stp sg j) ≤ y
  · rw [if_pos y1]
    exact sX_there0 (h0 (Or.inl (Or.inr ⟨j, hj, e, notN_ge (by omega) y1⟩)))
  rw [if_neg y1]
  obtain ⟨i, hi, ei⟩ := in_of (by omega) y0 y1
  refine sX_within (fun q1 q2 => ?_) (fun q => ?_)
  · rw [if_neg (by decide)]
    refine sX_there1 (sX1_tries h hb (fun V9 a1 a2 a3 => ?_))
    have hp' := hp j i hj e hi ei q1 q2 V9 a1
    subst e ei
    unfold rStop at hp'
    have eS : stp (gh sg) j = stp sg j := (gh_ag sg).stp (by omega)
    obtain ⟨s1, s2'⟩ := a3.1 j i (gh_j.mpr hj) (by rw [eS]; exact hi)
    by_cases c0 : w = 0
    · rw [if_pos c0] at hp' ⊢
      exact ⟨A 4, hb.1.2.2.2.2.2.2, hb.2.2.2.2.1.1, 7 * j + i, by omega, ix7 j i, by rw [s1]; exact hp'⟩
    · rw [if_neg c0] at hp' ⊢
      exact ⟨A 4, hb.1.2.2.2.2.2.2, hb.2.2.2.2.1.1, 7 * j + i, by omega, ix7 j i, by rw [s2']; exact hp'⟩
  · rw [if_pos rfl]
    exact sX_there0 (h0 (Or.inr q))
theorem qM_stop (h : cR ad T L V P t A sg lw) {j i : Nat} (hj : j < nJ sg) (hi : i < stp sg j) {w : Int32} (h1 : ¬ w < 0) (h2 : ¬ 1 < w) {post : Int32 → MS → Prop} (hp : ∀ s9 : MS, mfr sg s9 → s9 0 2 = 0 → post (rStop sg j i w) s9) : wM_stop sg (nI j) (nI i) w post := by
  have hL := h.1.1
  have hJ := hL.2.1
  obtain ⟨-, h9, h91, h97, -⟩ := hL.2.2.2.2.2.1 j hj
  unfold wM_stop
  refine sM_isJudge (s2c4 hJ.1) (by omega) (fun k _ _ => ?_) (fun q => absurd rfl (q j hj))
  rw [if_neg (by decide)]
  refine ⟨j, by omega, rfl, ?_⟩
  rw [s2c (by decide), h9]
  refine sM_inN (by omega) (fun k _ _ => ?_) (fun q => absurd rfl (q i hi))
  rw [if_neg (by decide), if_neg h1, if_pos (Int32.not_lt.mp h2)]
  refine sM_setStops h (fun s9 a1 a2 a3 a4 => ?_)
  have hp' := hp s9 a1 a2
  unfold rStop at hp'
  have eS : stp (gh sg) j = stp sg j := (gh_ag sg).stp (by omega)
  obtain ⟨s1, s2'⟩ := a4 j i (gh_j.mpr hj) (by rw [eS]; exact hi)
  by_cases c0 : w = 0
  · rw [if_pos c0] at hp' ⊢
    exact ⟨7 * j + i, by omega, ix7 j i, by rw [s1]; exact hp'⟩
  · rw [if_neg c0] at hp' ⊢
    exact ⟨7 * j + i, by omega, ix7 j i, by rw [s2']; exact hp'⟩
theorem qM_stop0 (h : cR ad T L V P t A sg lw) {x y w : Int32} (hx : notS sg x y ∨ w < 0 ∨ 1 < w) {post : Int32 → MS → Prop} (hp : ∀ b s9, mfr sg s9 → s9 0 2 = 1 → post b s9) : wM_stop sg x y w post := by
  have hL := h.1.1
  have hJ := hL.2.1
  unfold wM_stop jM_stop_40
  refine sM_isJudge (s2c4 hJ.1) (by omega) (fun k q1 q2 => ?_) (fun q => by rw [if_pos rfl]; exact sM_fail hp)
  rw [if_neg (by decide)]
  obtain ⟨-, h9, h91, h97, -⟩ := hL.2.2.2.2.2.1 k q1
  refine ⟨k, by omega, q2, ?_⟩
  rw [s2c (by decide), h9]
  refine sM_inN (by omega) (fun i z1 z2 => ?_) (fun q => by rw [if_pos rfl]; exact sM_fail hp)
  rw [if_neg (by decide)]
  by_cases h1 : w < 0
  · rw [if_pos h1]; exact sM_fail hp
  rw [if_neg h1]
  rcases hx with q | q | q
  · exfalso
    rcases q with q | ⟨j, j1, j2, j3⟩
    · exact q k q1 q2
    · rw [q2, nI_eq (by omega) (by omega)] at j2
      subst j2
      exact j3 i z1 z2
  · exact absurd q h1
  · rw [if_neg (fun z => absurd q (Int32.not_lt.mpr z))]; exact sM_fail hp
theorem qX_where (h : cR ad T L V P t A sg lw) (hb : bxP T L P t A) {x y : Int32} {post : Int32 → w_V → Prop} {xp : String → w_V → w_P → Prop} (hp : ∀ j, j < nJ sg → x = nI j → ∀ V9, cfr V V9 t A → post (pAt (gh sg) j y) V9) (h0 : notN x (nJ sg) → xp cNSE V P) : wX1_where ad T L V P t x y post xp := by
  have hJ := h.1.1.2.1
  obtain ⟨-, g2, g3, g4, g5⟩ := h.M
  unfold wX1_where
  refine sX_judgeAt h hb (fun j a hj e hr => sX1_tries h hb (fun V9 a1 a2 a3 => ?_)) h0
  subst e
  exact ⟨A 4, hb.1.2.2.2.2.2.2, hb.2.2.2.2.1.1, sX_at g2 (trX h hb a1 (gh_ag sg) (a2.st h.2.1.2 hJ.2 (bx_st hb stI3)) (a2.ex hJ.2)) a3.1 (gh_j.mpr hj) (hp j hj rfl V9 a1)⟩
theorem qM_where (h : cR ad T L V P t A sg lw) {j : Nat} (hj : j < nJ sg) {y : Int32} {post : Int32 → MS → Prop} (hp : ∀ s9 : MS, mfr sg s9 → s9 0 2 = 0 → post (pAt (gh sg) j y) s9) : wM_where sg (nI j) y post := by
  obtain ⟨-, g2, g3, g4, g5⟩ := h.M
  have hJ := h.1.1.2.1
  unfold wM_where
  refine sM_isJudge (s2c4 hJ.1) (by omega) (fun k _ _ => ?_) (fun q => absurd rfl (q j hj))
  rw [if_neg (by decide)]
  exact sM_setStops h (fun s9 a1 a2 a3 a4 => sM_townOn a3 g2 a4 (gh_j.mpr hj) (hp s9 a1 a2))
theorem qM_where0 (h : cR ad T L V P t A sg lw) {x y : Int32} (hx : notN x (nJ sg)) {post : Int32 → MS → Prop} (hp : ∀ b s9, mfr sg s9 → s9 0 2 = 1 → post b s9) : wM_where sg x y post := by
  have hJ := h.1.1.2.1
  unfold wM_where
  refine sM_isJudge (s2c4 hJ.1) (by omega) (fun k q1 q2 => absurd q2 (hx k q1)) (fun q => by rw [if_pos rfl]; exact sM_fail hp)
theorem qX_proof (h : cR ad T L V P t A sg lw) (hb : bxP T L P t A) {x y : Int32} {post : Int32 → Prop} {xp : String → w_V → w_P → Prop} (hp : ∀ c k, c < nC sg → k < nT sg → x = nI c → y = nI k → post (sg 11 (9 * c + k))) (h0 : notN x (nC sg) ∨ notN y (nT sg) → xp cNSE V P) : wX1_proof ad T L V P t x y post xp := by
  have hT := h.1.1.1
  have hC := h.1.1.2.2.1
  obtain ⟨g1, g2, g3⟩ := h.1.2.2.1.2.2.2.1
  unfold wX1_proof
  refine sX_caseAt h hb (fun c hc ec => sX_townAt h hb (fun k hk ek => ?_) (fun q => h0 (Or.inr q))) (fun q => h0 (Or.inl q))
  have hp' := hp c k hc hk ec ek
  subst ec ek
  obtain ⟨a, ha, q1, q2, q3⟩ := g3 c hc
  refine ⟨A 5, hb.1.2.1, h.1.2.2.1.1.1, A 8, g1, g2.1, sJ2_get g2 hc (by omega) ha ⟨a, 0, L a, hArr_S q1, by omega, k, by omega, rfl, ?_⟩⟩
  rw [q3 k (by omega)]
  exact hp'
theorem qM_proof (h : cR ad T L V P t A sg lw) {c k : Nat} (hc : c < nC sg) (hk : k < nT sg) {post : Int32 → MS → Prop} (hp : ∀ s9 : MS, mfr sg s9 → s9 0 2 = 0 → post (sg 11 (9 * c + k)) s9) : wM_proof sg (nI c) (nI k) post := by
  have hT := h.1.1.1
  have hC := h.1.1.2.2.1
  unfold wM_proof
  refine sM_isCase (s2c4 hC.1) (by omega) (fun _ _ _ => ?_) (fun q => absurd rfl (q c hc))
  rw [if_neg (by decide)]
  refine sM_isTown (s2c4 hT.1) (by omega) (fun _ _ _ => ?_) (fun q => absurd rfl (q k hk))
  rw [if_neg (by decide)]
  exact ⟨9 * c + k, by omega, ix9 c k, by rw [s2c (by decide)]; exact hp _ (mfr.code sg 0) s2_s⟩
theorem qM_proof0 (h : cR ad T L V P t A sg lw) {x y : Int32} (hx : notN x (nC sg) ∨ notN y (nT sg)) {post : Int32 → MS → Prop} (hp : ∀ b s9, mfr sg s9 → s9 0 2 = 1 → post b s9) : wM_proof sg x y post := by
  have hT := h.1.1.1
  have hC := h.1.1.2.2.1
  unfold wM_proof jM_proof_35
  refine sM_isCase (s2c4 hC.1) (by omega) (fun k q1 q2 => ?_) (fun q => by rw [if_pos rfl]; exact sM_fail hp)
  rw [if_neg (by decide)]
  refine sM_isTown (s2c4 hT.1) (by omega) (fun i z1 z2 => ?_) (fun q => by rw [if_pos rfl]; exact sM_fail hp)
  rcases hx with q | q
  · exact absurd q2 (q k q1)
  · exact absurd z2 (q i z1)
theorem qX_said (h : cR ad T L V P t A sg lw) (hb : bxP T L P t A) {x y w : Int32} {post : Int32 → w_V → Prop} {xp : String → w_V → w_P → Prop} (hp : ∀ c j, c < nC sg → j < nJ sg → x = nI c → y = nI j → ¬ w < 0 → ¬ 3 < w → ∀ V9, cfr V V9 t A → post (rSaid sg lw c j w) V9) (h0 : notN x (nC sg) ∨ notN y (nJ sg) ∨ w < 0 ∨ 3 < w → xp cNSE V P) : wX1_said ad T L V P t x y w post xp := by
  have hJ := h.1.1.2.1
  have hC := h.1.1.2.2.1
  unfold wX1_said
  refine sX_caseAt h hb (fun c hc ec => sX_judgeAt h hb (fun j a hj e hr => sX_within (fun q1 q2 => sX_there1 (sX1_tries h hb (fun V9 a1 a2 a3 => ?_))) (fun q => sX_there0 (h0 (Or.inr (Or.inr q))))) (fun q => h0 (Or.inr (Or.inl q)))) (fun q => h0 (Or.inl q))
  have hp' := hp c j hc hj ec e q1 q2 V9 a1
  subst ec e
  unfold rSaid at hp'
  obtain ⟨-, a4, -, a6⟩ := a3
  obtain ⟨s1, s2', s3⟩ := a4 (5 * c + j) (by omega)
  by_cases c0 : w = 0
  · rw [if_pos c0] at hp' ⊢
    exact ⟨A 4, hb.1.2.2.2.2.2.2, hb.2.2.2.2.1.1, 5 * c + j, by omega, ix5 c j, by rw [s1]; exact hp'⟩
  rw [if_neg c0] at hp' ⊢
  by_cases c1 : w = 1
  · rw [if_pos c1] at hp' ⊢
    exact ⟨A 4, hb.1.2.2.2.2.2.2, hb.2.2.2.2.1.1, 5 * c + j, by omega, ix5 c j, by rw [s2']; exact hp'⟩
  rw [if_neg c1] at hp' ⊢
  by_cases c2 : w = 2
  · rw [if_pos c2] at hp' ⊢
    exact ⟨A 4, hb.1.2.2.2.2.2.2, hb.2.2.2.2.1.1, 5 * c + j, by omega, ix5 c j, by rw [s3]; exact hp'⟩
  rw [if_neg c2] at hp' ⊢
  refine ⟨A 4, hb.1.2.2.2.2.2.2, hb.2.2.2.2.1.1, 5 * c + j, by omega, ix5 c j, ?_⟩
  rw [(a6 c (gh_c.mpr hc)).1 j (gh_j.mpr hj)]
  cases hq : pVoid (gh sg) (pTell (gh sg) lw) c j with
  | true => rw [hq] at hp'; exact hp'
  | false => rw [hq] at hp'; exact hp'
theorem qM_said (h : cR ad T L V P t A sg lw) {c j : Nat} (hc : c < nC sg) (hj : j < nJ sg) {w : Int32} (h1 : ¬ w < 0) (h2 : ¬ 3 < w) {post : Int32 → MS → Prop} (hp : ∀ s9 : MS, mfr sg s9 → s9 0 2 = 0 → post (rSaid sg lw c j w) s9) : wM_said sg (nI c) (nI j) w post := by
  have hJ := h.1.1.2.1
  have hC := h.1.1.2.2.1
  unfold wM_said
  refine sM_isCase (s2c4 hC.1) (by omega) (fun _ _ _ => ?_) (fun q => absurd rfl (q c hc))
  rw [if_neg (by decide)]
  refine sM_isJudge (s2c4 hJ.1) (by omega) (fun _ _ _ => ?_) (fun q => absurd rfl (q j hj))
  rw [if_neg (by decide)]
  refine sM_isIn (a := 0) (b := 3) (by decide) (by decide) (fun _ _ => ?_) (fun q => absurd q (fun z => z.elim h1 h2))
  rw [if_neg (by decide)]
  refine sM_now h (fun s9 a1 a2 a3 a4 a5 => ?_)
  have hp' := hp s9 a1 a2
  unfold rSaid at hp'
  obtain ⟨⟨-, -, b1⟩, b2'⟩ := a5
  obtain ⟨m1, m2⟩ := b1 (5 * c + j) (by omega)
  by_cases c3 : w = 3
  · rw [if_pos c3]
    rw [if_neg (by rw [c3]; decide), if_neg (by rw [c3]; decide), if_neg (by rw [c3]; decide)] at hp'
    exact ⟨5 * c + j, by omega, ix5 c j, by rw [(b2' c (gh_c.mpr hc)).1 j (gh_j.mpr hj)]; exact hp'⟩
  rw [if_neg c3]
  have c2 : ¬ w = 0 → ¬ w = 1 → w = 2 := by
    intro c0 c1
    obtain ⟨k, hk, e⟩ := le_of2 (n := 3) (by decide) h1 h2
    subst e
    have d0 : k ≠ 0 := fun z => c0 (by rw [z]; rfl)
    have d1 : k ≠ 1 := fun z => c1 (by rw [z]; rfl)
    have d3 : k ≠ 3 := fun z => c3 (by rw [z]; rfl)
    rw [show k = 2 by omega]; rfl
  refine ⟨5 * c + j, by omega, ix5 c j, ?_⟩
  rw [m1]
  by_cases s0 : pTell (gh sg) lw 0 (5 * c + j) = -1
  · rw [if_pos s0]
    obtain ⟨n1, n2⟩ := tell_none _ _ _ s0
    rw [s0, n1, n2] at hp'
    by_cases c0 : w = 0
    · rw [if_pos c0] at hp'; exact hp'
    rw [if_neg c0] at hp'
    by_cases c1 : w = 1
    · rw [if_pos c1] at hp'; exact hp'
    rw [if_neg c1, if_pos (c2 c0 c1)] at hp'
    exact hp'
  rw [if_neg s0]
  obtain ⟨m3, m4⟩ := m2 s0
  by_cases c0 : w = 0
  · rw [if_pos c0] at hp' ⊢
    exact ⟨5 * c + j, by omega, ix5 c j, by rw [m1]; exact hp'⟩
  rw [if_neg c0] at hp' ⊢
  by_cases c1 : w = 1
  · rw [if_pos c1] at hp' ⊢
    exact ⟨5 * c + j, by omega, ix5 c j, by rw [m3]; exact hp'⟩
  rw [if_neg c1] at hp' ⊢
  rw [if_pos (c2 c0 c1)] at hp'
  exact ⟨5 * c + j, by omega, ix5 c j, by rw [m4]; exact hp'⟩
theorem qM_said0 (h : cR ad T L V P t A sg lw) {x y w : Int32} (hx : notN x (nC sg) ∨ notN y (nJ sg) ∨ w < 0 ∨ 3 < w) {post : Int32 → MS → Prop} (hp : ∀ b s9, mfr sg s9 → s9 0 2 = 1 → post b s9) : wM_said sg x y w post := by
  have hJ := h.1.1.2.1
  have hC := h.1.1.2.2.1
  unfold wM_said jM_said_33
  refine sM_isCase (s2c4 hC.1) (by omega) (fun k q1 q2 => ?_) (fun q => by rw [if_pos rfl]; exact sM_fail hp)
  rw [if_neg (by decide)]
  refine sM_isJudge (s2c4 hJ.1) (by omega) (fun i z1 z2 => ?_) (fun q => by rw [if_pos rfl]; exact sM_fail hp)
  rw [if_neg (by decide)]
  refine sM_isIn (a := 0) (b := 3) (by decide) (by decide) (fun u1 u2 => ?_) (fun q => by rw [if_pos rfl]; exact sM_fail hp)
  rcases hx with q | q | q | q
  · exact absurd q2 (q k q1)
  · exact absurd z2 (q i z1)
  · exact absurd q u1
  · exact absurd q u2
theorem qX_met (h : cR ad T L V P t A sg lw) (hb : bxP T L P t A) {x y : Int32} {post : Int32 → w_V → Prop} {xp : String → w_V → w_P → Prop} (hp : ∀ a b, a < nJ sg → b < nJ sg → x = nI a → y = nI b → a ≠ b → ∀ V9, cfr V V9 t A → post (orN (pMeet (gh sg) a b)) V9) (h0 : notN x (nJ sg) ∨ notN y (nJ sg) → xp cNSE V P) (h02 : ∀ a, a < nJ sg → x = nI a → y = nI a → xp cIAE V P) : wX1_met ad T L V P t x y post xp := by
  have hJ := h.1.1.2.1
  obtain ⟨-, g2, g3, g4, g5⟩ := h.M
  unfold wX1_met jX1_met_22
  refine sX_judgeAt h hb (fun a _ ha ea _ => sX_judgeAt h hb (fun b _ hbb eb _ => ?_) (fun q => h0 (Or.inr q))) (fun q => h0 (Or.inl q))
  by_cases e : x = y
  · rw [if_pos e]
    exact sX_right0 (h02 a ha ea (e.symm.trans ea))
  rw [if_neg e]
  refine sX_right1 (sX1_tries h hb (fun V9 a1 a2 a3 => ?_))
  have hab : a ≠ b := fun q => e (by rw [ea, eb, q])
  have hp' := hp a b ha hbb ea eb hab V9 a1
  subst ea eb
  refine ⟨A 4, hb.1.2.2.2.2.2.2, hb.2.2.2.2.1.1, 5 * a + b, by omega, ix5 a b, ?_⟩
  rw [a3.2.2.1 a b (gh_j.mpr ha) (gh_j.mpr hbb), if_neg hab]
  obtain ⟨v, hv, hv2⟩ := pMeet_nat g2 g4 (b := b) (gh_j.mpr ha)
  rw [hv] at hp' ⊢
  rw [← clF_orN (by omega)] at hp'
  by_cases q : clF (nI v) < 9999
  · rw [if_pos q] at hp' ⊢; exact hp'
  · rw [if_neg q] at hp' ⊢; exact hp'
theorem qM_met (h : cR ad T L V P t A sg lw) {a b : Nat} (ha : a < nJ sg) (hb : b < nJ sg) (hab : a ≠ b) {post : Int32 → MS → Prop} (hp : ∀ s9 : MS, mfr sg s9 → s9 0 2 = 0 → post (orN (pMeet (gh sg) a b)) s9) : wM_met sg (nI a) (nI b) post := by
  have hJ := h.1.1.2.1
  unfold wM_met
  refine sM_isJudge (s2c4 hJ.1) (by omega) (fun _ _ _ => ?_) (fun q => absurd rfl (q a ha))
  rw [if_neg (by decide)]
  refine sM_isJudge (s2c4 hJ.1) (by omega) (fun _ _ _ => ?_) (fun q => absurd rfl (q b hb))
  rw [if_neg (by decide), if_neg (fun e => hab ((nI_eq (by omega) (by omega)).mp e))]
  refine sM_now h (fun s9 a1 a2 a3 a4 a5 => ⟨5 * a + b, by omega, ix5 a b, sM_orNone ?_⟩)
  rw [a5.1.2.1 a b (gh_j.mpr ha) (gh_j.mpr hb)]
  exact hp s9 a1 a2
theorem qM_met0 (h : cR ad T L V P t A sg lw) {x y : Int32} (hx : notN x (nJ sg) ∨ notN y (nJ sg)) {post : Int32 → MS → Prop} (hp : ∀ b s9, mfr sg s9 → s9 0 2 = 1 → post b s9) : wM_met sg x y post := by
  have hJ := h.1.1.2.1
  unfold wM_met jM_met_21
  refine sM_isJudge (s2c4 hJ.1) (by omega) (fun k q1 q2 => ?_) (fun q => by rw [if_pos rfl]; exact sM_fail hp)
  rw [if_neg (by decide)]
  refine sM_isJudge (s2c4 hJ.1) (by omega) (fun i z1 z2 => ?_) (fun q => by rw [if_pos rfl]; exact sM_fail hp)
  rcases hx with q | q
  · exact absurd q2 (q k q1)
  · exact absurd z2 (q i z1)
theorem qM_met2 (h : cR ad T L V P t A sg lw) {a : Nat} (ha : a < nJ sg) {post : Int32 → MS → Prop} (hp : ∀ b s9, mfr sg s9 → s9 0 2 = 2 → post b s9) : wM_met sg (nI a) (nI a) post := by
  have hJ := h.1.1.2.1
  unfold wM_met
  refine sM_isJudge (s2c4 hJ.1) (by omega) (fun _ _ _ => ?_) (fun q => absurd rfl (q a ha))
  rw [if_neg (by decide)]
  refine sM_isJudge (s2c4 hJ.1) (by omega) (fun _ _ _ => ?_) (fun q => absurd rfl (q a ha))
  rw [if_neg (by decide), if_pos rfl]
  exact sM_fail hp
theorem qX_guilty (h : cR ad T L V P t A sg lw) (hb : bxP T L P t A) {x w : Int32} {post : Int32 → w_V → Prop} {xp : String → w_V → w_P → Prop} (hp : ∀ c, c < nC sg → x = nI c → ¬ w < 0 → ¬ 1 < w → ∀ V9, cfr V V9 t A → post (rGuilty sg lw c w) V9) (h0 : notN x (nC sg) ∨ w < 0 ∨ 1 < w → xp cNSE V P) : wX1_guilty ad T L V P t x w post xp := by
  have hC := h.1.1.2.2.1
  unfold wX1_guilty
  refine sX_caseAt h hb (fun c hc ec => sX_within (fun q1 q2 => sX_there1 (sX1_tries h hb (fun V9 a1 a2 a3 => ?_))) (fun q => sX_there0 (h0 (Or.inr q)))) (fun q => h0 (Or.inl q))
  have hp' := hp c hc ec q1 q2 V9 a1
  subst ec
  unfold rGuilty at hp'
  obtain ⟨s1, s2'⟩ := (a3.2.2.2 c (gh_c.mpr hc)).2
  by_cases c0 : w = 0
  · rw [if_pos c0] at hp' ⊢
    exact ⟨A 4, hb.1.2.2.2.2.2.2, hb.2.2.2.2.1.1, c, by omega, rfl, by rw [s1]; exact hp'⟩
  · rw [if_neg c0] at hp' ⊢
    exact ⟨A 4, hb.1.2.2.2.2.2.2, hb.2.2.2.2.1.1, c, by omega, rfl, by rw [s2']; exact hp'⟩
theorem qM_guilty (h : cR ad T L V P t A sg lw) {c : Nat} (hc : c < nC sg) {w : Int32} (h1 : ¬ w < 0) (h2 : ¬ 1 < w) {post : Int32 → MS → Prop} (hp : ∀ s9 : MS, mfr sg s9 → s9 0 2 = 0 → post (rGuilty sg lw c w) s9) : wM_guilty sg (nI c) w post := by
  have hC := h.1.1.2.2.1
  unfold wM_guilty
  refine sM_isCase (s2c4 hC.1) (by omega) (fun _ _ _ => ?_) (fun q => absurd rfl (q c hc))
  rw [if_neg (by decide), if_neg h1, if_pos (Int32.not_lt.mp h2)]
  refine sM_now h (fun s9 a1 a2 a3 a4 a5 => ?_)
  have hp' := hp s9 a1 a2
  unfold rGuilty at hp'
  obtain ⟨-, j1, j2⟩ := a5.2 c (gh_c.mpr hc)
  by_cases c0 : w = 0
  · rw [if_pos c0] at hp' ⊢
    exact ⟨c, by omega, rfl, sM_orNone (by rw [j1]; exact hp')⟩
  · rw [if_neg c0] at hp' ⊢
    exact ⟨c, by omega, rfl, by rw [j2]; exact hp'⟩
theorem qM_guilty0 (h : cR ad T L V P t A sg lw) {x w : Int32} (hx : notN x (nC sg) ∨ w < 0 ∨ 1 < w) {post : Int32 → MS → Prop} (hp : ∀ b s9, mfr sg s9 → s9 0 2 = 1 → post b s9) : wM_guilty sg x w post := by
  have hC := h.1.1.2.2.1
  unfold wM_guilty jM_guilty_22
  refine sM_isCase (s2c4 hC.1) (by omega) (fun k q1 q2 => ?_) (fun q => by rw [if_pos rfl]; exact sM_fail hp)
  rw [if_neg (by decide)]
  by_cases h1 : w < 0
  · rw [if_pos h1]; exact sM_fail hp
  rw [if_neg h1]
  rcases hx with q | q | q
  · exact absurd q2 (q k q1)
  · exact absurd q h1
  · rw [if_neg (fun z => absurd q (Int32.not_lt.mpr z))]; exact sM_fail hp
end Q3
