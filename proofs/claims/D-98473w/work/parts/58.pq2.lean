/-! PURE: far, judge, stop, where, proof, said, met, guilty -/
set_option maxRecDepth 100000
theorem clF_orN {v : Nat} (h : v ≤ 600 ∨ v = 100000) : (if clF (nI v) < 9999 then clF (nI v) else -1) = orN (nI v) := by
  unfold clF orN
  rcases h with h | h
  · have h1 : nI v < 100000 := nI_lt (b := 100000) (by omega) (by decide)
    rw [if_pos h1, if_pos h1, if_pos (show nI v < 9999 from nI_lt (b := 9999) (by omega) (by decide))]
  · subst h
    rw [if_neg (show ¬ nI 100000 < 100000 by decide), if_neg (show ¬ nI 100000 < 100000 by decide), if_neg (by decide)]
theorem tell_none (D : MS) (lw : (Nat → Int32) → Int32) : ∀ k, pTell D lw 0 k = -1 → pTell D lw 1 k = -1 ∧ pTell D lw 2 k = -1 := by
  unfold pTell
  refine foldN_inv (P := fun S => ∀ k, S 0 k = -1 → S 1 k = -1 ∧ S 2 k = -1) 115 (fun _ _ => ⟨rfl, rfl⟩) (fun d S _ hS => ?_)
  unfold pDay
  refine foldN_inv (P := fun S => ∀ k, S 0 k = -1 → S 1 k = -1 ∧ S 2 k = -1) (nJ D) hS (fun j S _ hS => ?_)
  rw [pHear_eq]
  by_cases h1 : pAt D j (nI d) = -1
  · rw [if_pos h1]; exact hS
  rw [if_neg h1]
  by_cases h2 : pFeast D (pAt D j (nI d)) (nI d) = true
  · rw [if_pos h2]; exact hS
  rw [if_neg h2]
  refine foldN_inv (P := fun S => ∀ k, S 0 k = -1 → S 1 k = -1 ∧ S 2 k = -1) (nC D) hS (fun c S _ hS k hk => ?_)
  rw [pHear1_eq] at hk ⊢
  by_cases h3 : D 11 (9 * c + tn (pAt D j (nI d))) = -1
  · rw [if_pos h3] at hk ⊢; exact hS k hk
  rw [if_neg h3] at hk ⊢
  by_cases h4 : S 0 (5 * c + j) = -1
  · rw [if_pos h4] at hk ⊢
    by_cases e : k = 5 * c + j
    · subst e
      rw [s2_k (by decide), s2_k (by decide), s2_s] at hk
      exact absurd hk (b2_ne _)
    · rw [s2_i e, s2_i e, s2_i e] at hk
      rw [s2_i e, s2_i e, s2_i e, s2_i e, s2_i e, s2_i e]
      exact hS k hk
  · rw [if_neg h4] at hk ⊢; exact hS k hk
theorem nw_ag {D D' : MS} (h4 : D' 4 = D 4) (h25 : D' 25 = D 25) : nw D' = nw D := by
  funext a b
  unfold nw
  rw [h4, h25]
def rFar (sg : MS) (a b : Nat) (x : Int32) : Int32 := orN (if x = 0 then sg 25 (9 * a + b) else nw sg (nI a) (nI b))
def rJudge (sg : MS) (j : Nat) (x : Int32) : Int32 := if x = 0 then sg 6 j else if x = 1 then sg 7 j else if x = 2 then sg 8 j else if x = 3 then sg 9 j else pD (gh sg) j (stp sg j - 1)
def rStop (sg : MS) (j i : Nat) (x : Int32) : Int32 := if x = 0 then pT (gh sg) j i else pD (gh sg) j i
def rSaid (sg : MS) (lw : (Nat → Int32) → Int32) (c j : Nat) (x : Int32) : Int32 := if x = 0 then pTell (gh sg) lw 0 (5 * c + j) else if x = 1 then pTell (gh sg) lw 1 (5 * c + j) else if x = 2 then pTell (gh sg) lw 2 (5 * c + j) else b2 (pVoid (gh sg) (pTell (gh sg) lw) c j)
def rGuilty (sg : MS) (lw : (Nat → Int32) → Int32) (c : Nat) (x : Int32) : Int32 := if x = 0 then orN (pG (gh sg) (pTell (gh sg) lw) c).1 else (pG (gh sg) (pTell (gh sg) lw) c).2
theorem le_of2 {x : Int32} {n : Nat} (hn : n < 2000) (h1 : ¬ x < 0) (h2 : ¬ nI n < x) : ∃ k, k ≤ n ∧ x = nI k := by
  obtain ⟨k, hk, e⟩ := in_of (x := x) (n := n + 1) (by omega) h1 (fun z => h2 (Int32.lt_of_lt_of_le (nI_lt (Nat.lt_succ_self n) (by omega)) z))
  exact ⟨k, by omega, e⟩
section Q2
variable {ad : Nat → Nat} {T L : Nat → Nat} {V : w_V} {P : w_P} {t : Nat} {A : Nat → Nat} {sg : MS} {lw : (Nat → Int32) → Int32}
theorem qX_far (h : cR ad T L V P t A sg lw) (hb : bxP T L P t A) {x y w : Int32} {post : Int32 → Prop} {xp : String → w_V → w_P → Prop} (hp : ∀ a b, a < nT sg → b < nT sg → x = nI a → y = nI b → ¬ w < 0 → ¬ 1 < w → post (rFar sg a b w)) (h0 : notN x (nT sg) ∨ notN y (nT sg) ∨ w < 0 ∨ 1 < w → xp cNSE V P) : wX1_far ad T L V P t x y w post xp := by
  unfold wX1_far
  refine sX_townAt h hb (fun a ha ea => sX_townAt h hb (fun b hbb eb => sX_within (fun q1 q2 => sX_there1 ?_) (fun q => sX_there0 (h0 (Or.inr (Or.inr q))))) (fun q => h0 (Or.inr (Or.inl q)))) (fun q => h0 (Or.inl q))
  have hp' := hp a b ha hbb ea eb q1 q2
  subst ea eb
  have hL := h.1.1
  unfold rFar at hp'
  have fin : ∀ v, (v ≤ 600 ∨ v = 100000) → post (orN (nI v)) → jX1_far_44 ad T L V P t (clF (nI v)) post xp := by
    intro v hv hp
    unfold jX1_far_44
    rw [← clF_orN hv] at hp
    by_cases q : clF (nI v) < 9999
    · rw [if_pos q] at hp ⊢; exact hp
    · rw [if_neg q] at hp ⊢; exact hp
  by_cases c0 : w = 0
  · rw [if_pos c0] at hp' ⊢
    obtain ⟨f, hf, hf2⟩ := h.1.2.1 a b ha hbb
    refine ⟨A 5, hb.1.2.1, h.1.2.2.1.1.1, sX_far hL h.1.2.2.2 ha hbb ?_⟩
    rw [hf] at hp' ⊢
    exact fin f (by omega) hp'
  · rw [if_neg c0] at hp' ⊢
    obtain ⟨f, hf, hf2⟩ := nw_nat hL h.1.2.1 ha hbb
    refine ⟨A 5, hb.1.2.1, h.1.2.2.1.1.1, sX_newsL hL h.1.2.1 h.1.2.2.1 h.1.2.2.2 ha hbb ?_⟩
    rw [hf] at hp' ⊢
    exact fin f (by omega) hp'
theorem s2c4 {n i : Nat} {x : Int32} (h : sg 4 i = nI n) : s2 sg 0 2 x 4 i = nI n := by rw [s2_rowN (by decide)]; exact h
theorem qM_far (h : cR ad T L V P t A sg lw) {a b : Nat} (ha : a < nT sg) (hb : b < nT sg) {w : Int32} (h1 : ¬ w < 0) (h2 : ¬ 1 < w) {post : Int32 → MS → Prop} (hp : ∀ s9 : MS, mfr sg s9 → s9 0 2 = 0 → post (rFar sg a b w) s9) : wM_far sg (nI a) (nI b) w post := by
  have hT := h.1.1.1
  unfold wM_far
  refine sM_isTown (s2c4 hT.1) (by omega) (fun k _ _ => ?_) (fun q => absurd rfl (q a ha))
  rw [if_neg (by decide)]
  refine sM_isTown (s2c4 hT.1) (by omega) (fun k _ _ => ?_) (fun q => absurd rfl (q b hb))
  rw [if_neg (by decide), if_neg h1, if_pos (Int32.not_lt.mp h2)]
  have hp' := hp _ (mfr.code sg 0) s2_s
  unfold rFar at hp'
  unfold jM_far_59
  by_cases c0 : w = 0
  · rw [if_pos c0] at hp' ⊢
    unfold wM_couple
    refine ⟨9 * a + b, by omega, ix9 a b, sM_orNone ?_⟩
    rw [s2c (by decide)]
    exact hp'
  · rw [if_neg c0] at hp' ⊢
    have hL2 : lndOk (s2 sg 0 2 0) := (agL.of (fun k hk => s2_rowN (by omega))).lnd h.1.1
    have eT : nT (s2 sg 0 2 0) = nT sg := (agL.of (D := sg) (D' := s2 sg 0 2 0) (fun k hk => s2_rowN (by omega))).nT
    refine sM_newsDays (inp.rf _) hL2 (by rw [eT]; exact ha) (by rw [eT]; exact hb) (sM_orNone ?_)
    rw [nw_ag (D := sg) (D' := s2 sg 0 2 0) (s2_rowN (by decide)) (s2_rowN (by decide))]
    exact hp'
theorem qM_far0 (h : cR ad T L V P t A sg lw) {x y w : Int32} (hx : notN x (nT sg) ∨ notN y (nT sg) ∨ w < 0 ∨ 1 < w) {post : Int32 → MS → Prop} (hp : ∀ b s9, mfr sg s9 → s9 0 2 = 1 → post b s9) : wM_far sg x y w post := by
  have hT := h.1.1.1
  unfold wM_far jM_far_30
  refine sM_isTown (s2c4 hT.1) (by omega) (fun k q1 q2 => ?_) (fun q => by rw [if_pos rfl]; exact sM_fail hp)
  rw [if_neg (by decide)]
  refine sM_isTown (s2c4 hT.1) (by omega) (fun k2 q3 q4 => ?_) (fun q => by rw [if_pos rfl]; exact sM_fail hp)
  rw [if_neg (by decide)]
  by_cases h1 : w < 0
  · rw [if_pos h1]; exact sM_fail hp
  rw [if_neg h1]
  rcases hx with q | q | q | q
  · exact absurd q2 (q k q1)
  · exact absurd q4 (q k2 q3)
  · exact absurd q h1
  · rw [if_neg (fun z => absurd q (Int32.not_lt.mpr z))]; exact sM_fail hp
theorem qX_judge (h : cR ad T L V P t A sg lw) (hb : bxP T L P t A) {x w : Int32} {post : Int32 → w_V → Prop} {xp : String → w_V → w_P → Prop} (hp : ∀ j, j < nJ sg → x = nI j → ¬ w < 0 → ¬ 4 < w → ∀ V9, cfr V V9 t A → post (rJudge sg j w) V9) (h0 : notN x (nJ sg) ∨ w < 0 ∨ 4 < w → xp cNSE V P) : wX1_judge ad T L V P t x w post xp := by
  have hv := h.vw
  have hL := h.1.1
  have hJ := h.1.1.2.1
  unfold wX1_judge
  refine sX_judgeAt h hb (fun j a hj e hr => sX_within (fun q1 q2 => sX_there1 (sX1_tries h hb (fun V9 a1 a2 a3 => ?_))) (fun q => sX_there0 (h0 (Or.inr q)))) (fun q => h0 (Or.inl q))
  have hp' := hp j hj e q1 q2 V9 a1
  subst e
  unfold rJudge at hp'
  have hr9 := hr.V (a1.l hb hv)
  by_cases c0 : w = 0
  · rw [if_pos c0] at hp' ⊢
    unfold wX17_kind wX18_kind wX16_kind
    rcases hr.1 with ⟨k1, k2⟩ | ⟨k1, k2⟩ | ⟨k1, k2⟩ <;> rw [k1] at hp'
    · exact ⟨fun _ => hp', fun e => absurd (k2.symm.trans e) (by decide), fun e => absurd (k2.symm.trans e) (by decide)⟩
    · exact ⟨fun e => absurd (k2.symm.trans e) (by decide), fun _ => hp', fun e => absurd (k2.symm.trans e) (by decide)⟩
    · exact ⟨fun e => absurd (k2.symm.trans e) (by decide), fun e => absurd (k2.symm.trans e) (by decide), fun _ => hp'⟩
  rw [if_neg c0] at hp' ⊢
  by_cases c1 : w = 1
  · rw [if_pos c1] at hp' ⊢
    refine ⟨A 2, hb.1.2.2.2.2.1, bx_st hb stI2, j, by omega, rfl, ?_⟩
    rw [a1.s hb hv stI2 (by decide), h.2.1.1.1 j hj, pk_d (by omega)]
    exact hp'
  rw [if_neg c1] at hp' ⊢
  by_cases c2 : w = 2
  · rw [if_pos c2] at hp' ⊢
    rw [hr9.2.1]
    exact hp'
  rw [if_neg c2] at hp' ⊢
  by_cases c3 : w = 3
  · rw [if_pos c3] at hp' ⊢
    refine sX16_towns hL hj hr9 ?_
    rw [(hL.2.2.2.2.2.1 j hj).2.1] at hp'
    exact hp'
  rw [if_neg c3] at hp' ⊢
  obtain ⟨-, h9, h91, h97, -⟩ := hL.2.2.2.2.2.1 j hj
  refine ⟨A 4, hb.1.2.2.2.2.2.2, hb.2.2.2.2.1.1, sX16_towns hL hj hr9 ⟨7 * j + (stp sg j - 1), by omega, ?_, ?_⟩⟩
  · rw [ix7, nI_m1 (by omega)]
    exact congrArg nI (by omega)
  · have eS : stp (gh sg) j = stp sg j := (gh_ag sg).stp (by omega)
    rw [(a3.1 j (stp sg j - 1) (by rw [(gh_ag sg).nJ]; exact hj) (by rw [eS]; omega)).2]
    exact hp'
/-- set and the stops -/
theorem sM_setStops (h : cR ad T L V P t A sg lw) {post : MS → Prop} (hp : ∀ s9 : MS, mfr sg s9 → s9 0 2 = 0 → inp s9 (gh sg) → stops s9 (gh sg) → post s9) : wM_set (s2 sg 0 2 0) (fun g => wM_tellStops g post) := by
  obtain ⟨-, g2, g3, g4, g5⟩ := h.M
  have hJ := h.1.1.2.1
  have e2 : nJ (s2 sg 0 2 0) = nJ sg := by
    show tn (s2 sg 0 2 0 4 4) = tn (sg 4 4)
    rw [s2_rowN (by decide)]
  have hI : inp (s2 (gh sg) 0 2 0) (gh sg) := ⟨fun k hk => s2_rowN (fun e => by rw [e] at hk; cases hk), fun j hj => s2_i (fun e => by rw [e] at hj; cases hj)⟩
  refine sM_set (by rw [e2, s2_rowN (by decide)]; exact hJ.1) (by rw [e2]; exact hJ.2) ?_
  rw [gh_code]
  refine sM_tellStops hI g2 (fun s9 a1 a2 => hp s9 ?_ ?_ (hI.tr (fun q hq => a1 q (offT2_in hq).2.1 (offT2_in hq).2.2.1)) a2)
  · refine ((mfr.gh sg).tr (mfr.code _ 0)).tr ⟨fun k _ _ _ hk => a1 k ?_ ?_, fun j _ _ _ _ _ _ => by rw [a1 0 (by decide) (by decide)], fun i _ => by rw [a1 26 (by decide) (by decide)], fun i _ => by rw [a1 28 (by decide) (by decide)]⟩ <;> (intro e; subst e; cases hk)
  · rw [a1 0 (by decide) (by decide), s2_s]
theorem qM_judge (h : cR ad T L V P t A sg lw) {j : Nat} (hj : j < nJ sg) {w : Int32} (h1 : ¬ w < 0) (h2 : ¬ 4 < w) {post : Int32 → MS → Prop} (hp : ∀ s9 : MS, mfr sg s9 → s9 0 2 = 0 → post (rJudge sg j w) s9) : wM_judge sg (nI j) w post := by
  have hL := h.1.1
  have hJ := hL.2.1
  unfold wM_judge
  refine sM_isJudge (s2c4 hJ.1) (by omega) (fun k _ _ => ?_) (fun q => absurd rfl (q j hj))
  rw [if_neg (by decide)]
  refine sM_isIn (a := 0) (b := 4) (by decide) (by decide) (fun _ _ => ?_) (fun q => absurd q (fun z => z.elim h1 h2))
  rw [if_neg (by decide)]
  unfold rJudge at hp
  by_cases c4 : w = 4
  · rw [if_pos c4]
    rw [if_neg (by rw [c4]; decide), if_neg (by rw [c4]; decide), if_neg (by rw [c4]; decide), if_neg (by rw [c4]; decide)] at hp
    refine sM_setStops h (fun s9 a1 a2 a3 a4 => ?_)
    obtain ⟨-, h9, h91, h97, -⟩ := hL.2.2.2.2.2.1 j hj
    have e9 : s9 9 j = nI (stp sg j) := by rw [a3.a (k := 9) rfl, gh_k (by decide)]; exact h9
    refine ⟨j, by omega, rfl, 7 * j + (stp sg j - 1), by omega, ?_, ?_⟩
    · rw [e9, ix7, nI_m1 (by omega)]
      exact congrArg nI (by omega)
    · have eS : stp (gh sg) j = stp sg j := (gh_ag sg).stp (by omega)
      rw [(a4 j (stp sg j - 1) (by rw [(gh_ag sg).nJ]; exact hj) (by rw [eS]; omega)).2]
      exact hp s9 a1 a2
  rw [if_neg c4]
  have hp' := hp _ (mfr.code sg 0) s2_s
  by_cases c0 : w = 0
  · rw [if_pos c0] at hp' ⊢
    exact ⟨j, by omega, rfl, by rw [s2c (by decide)]; exact hp'⟩
  rw [if_neg c0] at hp' ⊢
  by_cases c1 : w = 1
  · rw [if_pos c1] at hp' ⊢
    exact ⟨j, by omega, rfl, by rw [s2c (by decide)]; exact hp'⟩
  rw [if_neg c1] at hp' ⊢
  by_cases c2 : w = 2
  · rw [if_pos c2] at hp' ⊢
    exact ⟨j, by omega, rfl, by rw [s2c (by decide)]; exact hp'⟩
  rw [if_neg c2] at hp' ⊢
  obtain ⟨k, hk, e⟩ := le_of2 (n := 4) (by decide) h1 h2
  subst e
  have c3 : nI k = 3 := by
    have d0 : k ≠ 0 := fun z => c0 (by rw [z]; rfl)
    have d1 : k ≠ 1 := fun z => c1 (by rw [z]; rfl)
    have d2 : k ≠ 2 := fun z => c2 (by rw [z]; rfl)
    have d4 : k ≠ 4 := fun z => c4 (by rw [z]; rfl)
    rw [show k = 3 by omega]; rfl
  rw [if_pos c3] at hp'
  exact ⟨j, by omega, rfl, by rw [s2c (by decide)]; exact hp'⟩
theorem qM_judge0 (h : cR ad T L V P t A sg lw) {x w : Int32} (hx : notN x (nJ sg) ∨ w < 0 ∨ 4 < w) {post : Int32 → MS → Prop} (hp : ∀ b s9, mfr sg s9 → s9 0 2 = 1 → post b s9) : wM_judge sg x w post := by
  have hJ := h.1.1.2.1
  unfold wM_judge jM_judge_25
  refine sM_isJudge (s2c4 hJ.1) (by omega) (fun k q1 q2 => ?_) (fun q => by rw [if_pos rfl]; exact sM_fail hp)
  rw [if_neg (by decide)]
  refine sM_isIn (a := 0) (b := 4) (by decide) (by decide) (fun z1 z2 => ?_) (fun q => by rw [if_pos rfl]; exact sM_fail hp)
  rcases hx with q | q | q
  · exact absurd q2 (q k q1)
  · exact absurd q z1
  · exact absurd q z2
end Q2
