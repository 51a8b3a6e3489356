/-! PURE: burn, when, round, deaf -/
set_option maxRecDepth 100000
def upP (p : pP) (k v : Int32) : pP := if p.2 < v then (k, v) else p
def burnD (sg : MS) (t : Nat) : MS := s2 (gh sg) 0 29 (sg 0 29 ^^^ ((1 : Int32) <<< (nI t &&& 31)))
def burnF (sg : MS) (lw : (Nat → Int32) → Int32) : Nat → pP
  | 0 => (-1, -1)
  | t + 1 => if ((sg 0 29 >>> (nI t &&& 31)) &&& 1) = 0 then burnF sg lw t else upP (burnF sg lw t) (nI t) (pN (burnD sg t) (pTell (burnD sg t) lw))
theorem burnF_s {sg : MS} {lw : (Nat → Int32) → Int32} {t : Nat} : burnF sg lw (t + 1) = if ((sg 0 29 >>> (nI t &&& 31)) &&& 1) = 0 then burnF sg lw t else upP (burnF sg lw t) (nI t) (pN (burnD sg t) (pTell (burnD sg t) lw)) := rfl
def whenD (sg : MS) (j d : Nat) : MS := s2 (gh sg) 7 j (nI d)
def whenF (sg : MS) (lw : (Nat → Int32) → Int32) (j : Nat) : Nat → pP
  | 0 => (-1, -1)
  | d + 1 => upP (whenF sg lw j d) (nI d) (pN (whenD sg j d) (pTell (whenD sg j d) lw))
theorem whenF_s {sg : MS} {lw : (Nat → Int32) → Int32} {j d : Nat} : whenF sg lw j (d + 1) = upP (whenF sg lw j d) (nI d) (pN (whenD sg j d) (pTell (whenD sg j d) lw)) := rfl
def rndD (sg : MS) (j : Nat) : MS := s2 (gh sg) 0 40 (nI j)
def deafD (sg : MS) (j : Nat) : MS := s2 (gh sg) 0 41 (gh sg 0 41 ^^^ ((1 : Int32) <<< (nI j &&& 31)))
def pick (w : Int32) (p : pP) : Int32 := if w = 0 then p.1 else p.2
section Q4
variable {ad : Nat → Nat} {T L : Nat → Nat} {V : w_V} {P : w_P} {t : Nat} {A : Nat → Nat} {sg : MS} {lw : (Nat → Int32) → Int32}
/-- tried.like(now), as the ghost sees it -/
theorem sX_like3g (h : cR ad T L V P t A sg lw) (hb : bxP T L P t A) {post : w_V → Prop} (hp : ∀ V9 : w_V, (∀ a, a ≠ A 3 → V9 a = V a) → cfr V V9 t A → stR T V9 (A 3) (gh sg) → exR V9 (A 3) (gh sg) → post V9) : wX6_like ad T L V P (A 3) (A 2) post := by
  have hJ := h.1.1.2.1.2
  exact sX_like3 h hb (fun V9 a1 a2 => hp V9 a1 (cfr.one hb h.vw a1) (a2.st h.2.1.2 hJ (bx_st hb stI3)) (a2.ex hJ))
theorem qX_burn (h : cR ad T L V P t A sg lw) (hb : bxP T L P t A) {w : Int32} {post : Int32 → w_V → Prop} {xp : String → w_V → w_P → Prop} (hp : ¬ w < 0 → ¬ 1 < w → ∀ V9, cfr V V9 t A → post (pick w (burnF sg lw (nT sg))) V9) (h0 : w < 0 ∨ 1 < w → xp cNSE V P) : wX1_burn ad T L V P t w post xp := by
  have hT := h.1.1.1
  have hv := h.vw
  obtain ⟨-, g2, g3, g4, g5⟩ := h.M
  unfold wX1_burn
  refine sX_within (fun q1 q2 => sX_there1 ?_) (fun q => sX_there0 (h0 q))
  refine loop0 (F := fun n i (q : pP × w_V) => lX1_burn_16 ad T L P t w post xp _ n q.1.1 q.1.2 i q.2) (nT sg) (fun k q => q.1 = burnF sg lw k ∧ cfr V q.2 t A) ((-1, -1), V) ⟨rfl, cfr.rf _ _ _⟩ (fun n k q hk hq kk => ?_)
  obtain ⟨⟨y, m⟩, W⟩ := q
  obtain ⟨hy, hW⟩ := hq
  dsimp only at hy hW
  have hR := h.fr hb hW
  show lX1_burn_16 ad T L P t w post xp _ (n + 1) y m (nI k) W
  unfold lX1_burn_16
  refine ⟨A 5, hb.1.2.1, hR.1.2.2.1.1.1, ?_⟩
  rw [hR.1.2.2.1.1.2.1, hT.1]
  by_cases hkN : k < nT sg
  · rw [if_neg (nI_ge hkN (by omega))]
    refine ⟨A 2, hb.1.2.2.2.2.1, bx_st hb stI2, ?_⟩
    have ei : W (A 2) 0 4 = sg 0 29 := by rw [hR.2.1.1.2.1, pk_5]
    rw [ei]
    unfold jX1_burn_99
    rw [nI_1]
    by_cases hbit : ((sg 0 29 >>> (nI k &&& 31)) &&& 1) = 0
    · rw [if_pos hbit]
      exact kk ((y, m), W) hkN ⟨by rw [burnF_s, if_pos hbit]; exact hy, hW⟩
    · rw [if_neg hbit]
      refine ⟨A 3, hb.1.2.2.2.2.2.1, bx_st hb stI3, A 2, hb.1.2.2.2.2.1, bx_st hb stI2, sX_like3g hR hb (fun V1 a1 a2 a3 a4 => ⟨A 3, hb.1.2.2.2.2.2.1, bx_st hb stI3, fun V2 e2 => ⟨A 4, hb.1.2.2.2.2.2.2, hb.2.2.2.2.1.1, ?_⟩⟩)⟩
      have ei1 : V1 (A 3) 0 4 = sg 0 29 := by rw [a3.2.2.1, gh_0 (by decide) (by decide) (by decide) (by decide)]
      obtain ⟨mm, em, hm⟩ := hR.2.1.2.2.2.2.2.2.2
      rw [pk_5] at em
      have eb : sg 0 29 &&& (((1 : Int32) <<< (nI k &&& 31)) ^^^ (-1)) = sg 0 29 ^^^ ((1 : Int32) <<< (nI k &&& 31)) := by
        rw [em] at hbit ⊢
        exact (bit_inn mm hm k (by omega)).resolve_left hbit
      rw [ei1, eb] at e2
      have hc2 : cfr V1 V2 t A := by rw [e2]; exact cfr.up hb hv
      have hR2 := hR.fr hb (a2.tr hc2)
      have hs : stR T V2 (A 3) (burnD sg k) := by rw [e2]; exact a3.inn
      have he : exR V2 (A 3) (burnD sg k) := by rw [e2]; exact (a4.v (Or.inr (by decide))).f (Or.inl ⟨rfl, by decide, by decide, by decide, by decide⟩)
      refine sX_run hR2 hb (D := burnD sg k) ?_ (g4.f (by decide) (by decide) (by decide)) hs he (fun V9 b1 b2' b3 => ?_)
      · exact agL.of (fun q hq => by unfold burnD; rw [s2_rowN (by omega), gh_k (by omega)])
      · have hn := kk (upP (y, m) (nI k) (pN (burnD sg k) (pTell (burnD sg k) lw)), V9) hkN ⟨by rw [burnF_s, if_neg hbit, ← hy], hW.tr ((a2.tr hc2).tr b1)⟩
        unfold upP at hn
        dsimp only at hn
        by_cases hl : m < pN (burnD sg k) (pTell (burnD sg k) lw)
        · rw [if_pos hl] at hn ⊢; exact hn
        · rw [if_neg hl] at hn ⊢; exact hn
  · have ek : k = nT sg := by omega
    rw [if_pos (nI_le (by omega) (by omega))]
    have hp' := hp q1 q2 W hW
    rw [← ek, ← hy] at hp'
    unfold pick at hp'
    by_cases c0 : w = 0
    · rw [if_pos c0] at hp' ⊢; exact hp'
    · rw [if_neg c0] at hp' ⊢; exact hp'
/-- the model's numbers, off the rows that a tale writes -/
def offA (q : Nat) : Prop := offT2 q ∧ offJ q
theorem offA_0 : offA 0 := ⟨offT2_in (Or.inr rfl), offJ_in (Or.inr rfl)⟩
theorem offA_in {q : Nat} (h : inS q = true ∨ q = 0) : offA q := ⟨offT2_in h, offJ_in h⟩
theorem mfr.oA {a b : MS} (h : ∀ q, offA q → b q = a q) : mfr a b := mfr.tell (fun q h1 h2 => h q ⟨h1, h2⟩)
/-- the start of a question at the model: set -/
theorem gX_inp : inp (s2 (gh sg) 0 2 0) (gh sg) := ⟨fun k hk => s2_rowN (fun e => by rw [e] at hk; cases hk), fun j hj => s2_i (fun e => by rw [e] at hj; cases hj)⟩
theorem sM_set0 (h : cR ad T L V P t A sg lw) {post : MS → Prop} (hp : post (s2 (gh sg) 0 2 0)) : wM_set (s2 sg 0 2 0) post := by
  have hJ := h.1.1.2.1
  have e2 : nJ (s2 sg 0 2 0) = nJ sg := by
    show tn (s2 sg 0 2 0 4 4) = tn (sg 4 4)
    rw [s2_rowN (by decide)]
  refine sM_set (by rw [e2, s2_rowN (by decide)]; exact hJ.1) (by rw [e2]; exact hJ.2) ?_
  rw [gh_code]
  exact hp
theorem mfr_gX {s : MS} (hs : ∀ q, offA q → s q = s2 (gh sg) 0 2 0 q) : mfr sg s ∧ s 0 2 = 0 := ⟨((mfr.gh sg).tr (mfr.code _ 0)).tr (mfr.oA hs), by rw [hs 0 offA_0, s2_s]⟩
/-- a tale of D from a state that is D off a tale's rows -/
theorem sM_run {s D : MS} (h : cR ad T L V P t A sg lw) (hs : ∀ q, offA q → q ≠ 0 → s q = D q) (hf : ∀ j, inF j = true → s 0 j = D 0 j) (ha : agL sg D) (hO : stOk D) {post : Int32 → MS → Prop} (hp : ∀ s9 : MS, (∀ q, offA q → s9 q = s q) → full s9 D (pTell D lw) → post (pN D (pTell D lw)) s9) : wM_tell s post := by
  have hL := h.1.1
  have hI : inp s D := ⟨fun q hq => hs q (offA_in (Or.inl hq)) (fun e => by rw [e] at hq; cases hq), hf⟩
  exact sM_all hI (ha.lnd hL) (ha.far hL h.1.2.1) hO (lawR.M (ha.land hL h.1.2.2.1).2.2.2.2.2) (fun s9 a1 a2 => hp s9 (fun q hq => a1 q hq.1 hq.2) a2)
theorem qM_burn (h : cR ad T L V P t A sg lw) {w : Int32} (h1 : ¬ w < 0) (h2 : ¬ 1 < w) {post : Int32 → MS → Prop} (hp : ∀ s9 : MS, mfr sg s9 → s9 0 2 = 0 → post (pick w (burnF sg lw (nT sg))) s9) : wM_burn sg w post := by
  have hT := h.1.1.1
  obtain ⟨-, g2, g3, g4, g5⟩ := h.M
  unfold wM_burn
  rw [if_neg h1, if_pos (Int32.not_lt.mp h2)]
  refine sM_set0 h ?_
  refine loop0 (F := fun n i (q : pP × MS) => lM_burn_31 w post _ n q.1.1 q.1.2 i q.2) (nT sg) (fun k q => q.1 = burnF sg lw k ∧ ∀ z, offA z → q.2 z = s2 (gh sg) 0 2 0 z) ((-1, -1), s2 (gh sg) 0 2 0) ⟨rfl, fun _ _ => rfl⟩ (fun n k q hk hq kk => ?_)
  obtain ⟨⟨y, m⟩, s⟩ := q
  obtain ⟨hy, hs⟩ := hq
  dsimp only at hy hs
  show lM_burn_31 w post _ (n + 1) y m (nI k) s
  unfold lM_burn_31 jM_burn_104
  have e4 : s 4 0 = nI (nT sg) := by rw [hs 4 (offA_in (Or.inl rfl)), s2_rowN (by decide), gh_k (by decide)]; exact hT.1
  have e29 : s 0 29 = sg 0 29 := by rw [hs 0 offA_0, s2_i (by decide), gh_0 (by decide) (by decide) (by decide) (by decide)]
  rw [e4, e29]
  by_cases hkN : k < nT sg
  · rw [if_neg (nI_ge hkN (by omega)), nI_1]
    by_cases hbit : ((sg 0 29 >>> (nI k &&& 31)) &&& 1) = 0
    · rw [if_pos hbit]
      exact kk ((y, m), s) hkN ⟨by rw [burnF_s, if_pos hbit]; exact hy, hs⟩
    · rw [if_neg hbit]
      refine sM_run h (D := burnD sg k) (fun q hq h0 => ?_) (fun j hj => ?_) ?_ (g4.f (by decide) (by decide) (by decide)) (fun s9 a1 a2 => ?_)
      · unfold burnD; rw [s2_rowN h0, hs q hq, s2_rowN h0, s2_rowN h0]
      · unfold burnD
        by_cases e : j = 29
        · subst e; rw [s2_s, s2_s]
        · rw [s2_i e, s2_i e, hs 0 offA_0, s2_i (fun e => by rw [e] at hj; cases hj)]
      · exact agL.of (fun q hq => by unfold burnD; rw [s2_rowN (by omega), gh_k (by omega)])
      · have e9 : s2 s9 0 29 (s9 0 29 ^^^ ((1 : Int32) <<< (nI k &&& 31))) 0 = s2 (gh sg) 0 2 0 0 := by
          funext i
          have f0 : s9 0 = s2 s 0 29 (sg 0 29 ^^^ ((1 : Int32) <<< (nI k &&& 31))) 0 := a1 0 offA_0
          by_cases e : i = 29
          · subst e
            rw [s2_s, f0, s2_s, xor_xor, ← e29, hs 0 offA_0]
          · rw [s2_i e, f0, s2_i e, hs 0 offA_0]
        have hn := kk (upP (y, m) (nI k) (pN (burnD sg k) (pTell (burnD sg k) lw)), s2 s9 0 29 (s9 0 29 ^^^ ((1 : Int32) <<< (nI k &&& 31)))) hkN ⟨by rw [burnF_s, if_neg hbit, ← hy], fun z hz => by
          show s2 s9 0 29 _ z = _
          by_cases e : z = 0
          · subst e; exact e9
          · rw [s2_rowN e, a1 z hz, s2_rowN e]; exact hs z hz⟩
        unfold upP at hn
        dsimp only at hn
        by_cases hl : m < pN (burnD sg k) (pTell (burnD sg k) lw)
        · rw [if_pos hl] at hn ⊢; exact hn
        · rw [if_neg hl] at hn ⊢; exact hn
  · have ek : k = nT sg := by omega
    rw [if_pos (nI_le (by omega) (by omega))]
    have hp' := hp s (mfr_gX hs).1 (mfr_gX hs).2
    rw [← ek, ← hy] at hp'
    unfold pick at hp'
    by_cases c0 : w = 0
    · rw [if_pos c0] at hp' ⊢; exact hp'
    · rw [if_neg c0] at hp' ⊢; exact hp'
theorem qM_burn0 {w : Int32} (hx : w < 0 ∨ 1 < w) {post : Int32 → MS → Prop} (hp : ∀ b s9, mfr sg s9 → s9 0 2 = 1 → post b s9) : wM_burn sg w post := by
  unfold wM_burn jM_burn_14
  by_cases h1 : w < 0
  · rw [if_pos h1]; exact sM_fail hp
  · rw [if_neg h1, if_neg (fun z => absurd (hx.resolve_left h1) (Int32.not_lt.mpr z))]; exact sM_fail hp
theorem qX_when (h : cR ad T L V P t A sg lw) (hb : bxP T L P t A) {x w : Int32} {post : Int32 → w_V → Prop} {xp : String → w_V → w_P → Prop} (hp : ∀ j, j < nJ sg → x = nI j → ¬ w < 0 → ¬ 1 < w → ∀ V9, cfr V V9 t A → post (pick w (whenF sg lw j 61)) V9) (h0 : notN x (nJ sg) ∨ w < 0 ∨ 1 < w → xp cNSE V P) : wX1_when ad T L V P t x w post xp := by
  have hv := h.vw
  have hJ := h.1.1.2.1
  obtain ⟨-, g2, g3, g4, g5⟩ := h.M
  unfold wX1_when
  refine sX_judgeAt h hb (fun j a hj e hr => sX_within (fun q1 q2 => sX_there1 ?_) (fun q => sX_there0 (h0 (Or.inr q)))) (fun q => h0 (Or.inl q))
  have hp' := hp j hj e q1 q2
  subst e
  refine loop0 (F := fun n i (q : pP × w_V) => lX1_when_23 ad T L P t (nI j) w post xp _ n q.1.1 q.1.2 i q.2) 61 (fun k q => q.1 = whenF sg lw j k ∧ cfr V q.2 t A) ((-1, -1), V) ⟨rfl, cfr.rf _ _ _⟩ (fun n k q hk hq kk => ?_)
  obtain ⟨⟨y, m⟩, W⟩ := q
  obtain ⟨hy, hW⟩ := hq
  dsimp only at hy hW
  have hR := h.fr hb hW
  show lX1_when_23 ad T L P t (nI j) w post xp _ (n + 1) y m (nI k) W
  unfold lX1_when_23
  by_cases hkN : k < 61
  · rw [if_neg (show ¬ (60 : Int32) < nI k from nI_nlt (a := 60) (by omega) (by decide))]
    refine ⟨A 3, hb.1.2.2.2.2.2.1, bx_st hb stI3, A 2, hb.1.2.2.2.2.1, bx_st hb stI2, sX_like3g hR hb (fun V1 a1 a2 a3 a4 => ⟨A 3, hb.1.2.2.2.2.2.1, bx_st hb stI3, j, by omega, rfl, fun V2 e2 => ⟨A 4, hb.1.2.2.2.2.2.2, hb.2.2.2.2.1.1, ?_⟩⟩)⟩
    have hc2 : cfr V1 V2 t A := by rw [e2]; exact cfr.up hb hv
    have hR2 := hR.fr hb (a2.tr hc2)
    have hs : stR T V2 (A 3) (whenD sg j k) := by rw [e2]; exact a3.day
    have he : exR V2 (A 3) (whenD sg j k) := by rw [e2]; exact (a4.v (Or.inl (by decide))).f (Or.inr ⟨by decide, by decide, by decide⟩)
    refine sX_run hR2 hb (D := whenD sg j k) ?_ (g4.day (by omega)) hs he (fun V9 b1 b2' b3 => ?_)
    · exact agL.of (fun q hq => by unfold whenD; rw [s2_rowN (by omega), gh_k (by omega)])
    · have hn := kk (upP (y, m) (nI k) (pN (whenD sg j k) (pTell (whenD sg j k) lw)), V9) hkN ⟨by rw [whenF_s, ← hy], hW.tr ((a2.tr hc2).tr b1)⟩
      unfold jX1_when_78
      rw [nI_1]
      unfold upP at hn
      dsimp only at hn
      by_cases hl : m < pN (whenD sg j k) (pTell (whenD sg j k) lw)
      · rw [if_pos hl] at hn ⊢; exact hn
      · rw [if_neg hl] at hn ⊢; exact hn
  · have ek : k = 61 := by omega
    subst ek
    rw [if_pos (show (60 : Int32) < nI 61 by decide)]
    have hp'' := hp' W hW
    rw [← hy] at hp''
    unfold pick at hp''
    by_cases c0 : w = 0
    · rw [if_pos c0] at hp'' ⊢; exact hp''
    · rw [if_neg c0] at hp'' ⊢; exact hp''
theorem qM_when (h : cR ad T L V P t A sg lw) {j : Nat} (hj : j < nJ sg) {w : Int32} (h1 : ¬ w < 0) (h2 : ¬ 1 < w) {post : Int32 → MS → Prop} (hp : ∀ s9 : MS, mfr sg s9 → s9 0 2 = 0 → post (pick w (whenF sg lw j 61)) s9) : wM_when sg (nI j) w post := by
  have hJ := h.1.1.2.1
  obtain ⟨-, g2, g3, g4, g5⟩ := h.M
  unfold wM_when
  refine sM_isJudge (s2c4 hJ.1) (by omega) (fun k _ _ => ?_) (fun q => absurd rfl (q j hj))
  rw [if_neg (by decide), if_neg h1, if_pos (Int32.not_lt.mp h2)]
  refine sM_set0 h ⟨j, by omega, rfl, ?_⟩
  refine loop0 (F := fun n i (q : pP × MS) => lM_when_48 (nI j) w _ post _ n q.1.1 q.1.2 i q.2) 61 (fun k q => q.1 = whenF sg lw j k ∧ (∀ z, offA z → z ≠ 7 → q.2 z = s2 (gh sg) 0 2 0 z) ∧ ∀ i, i ≠ j → q.2 7 i = gh sg 7 i) ((-1, -1), s2 (gh sg) 0 2 0) ⟨rfl, fun _ _ _ => rfl, fun i _ => by show s2 (gh sg) 0 2 0 7 i = _; rw [s2_rowN (by decide)]⟩ (fun n k q hk hq kk => ?_)
  obtain ⟨⟨y, m⟩, s⟩ := q
  obtain ⟨hy, hs, hs7⟩ := hq
  dsimp only at hy hs hs7
  show lM_when_48 (nI j) w _ post _ (n + 1) y m (nI k) s
  unfold lM_when_48 jM_when_87
  by_cases hkN : k < 61
  · rw [if_neg (show ¬ (60 : Int32) < nI k from nI_nlt (a := 60) (by omega) (by decide))]
    refine ⟨j, by omega, rfl, sM_run h (D := whenD sg j k) (fun q hq h0 => ?_) (fun i hi => ?_) ?_ (g4.day (by omega)) (fun s9 a1 a2 => ?_)⟩
    · unfold whenD
      by_cases e : q = 7
      · subst e
        funext i
        by_cases e2 : i = j
        · subst e2; rw [s2_s, s2_s]
        · rw [s2_i e2, s2_i e2]; exact hs7 i e2
      · rw [s2_rowN e, s2_rowN e, hs q hq e, s2_rowN h0]
    · unfold whenD
      rw [s2_k (by decide), s2_k (by decide), hs 0 offA_0 (by decide), s2_i (fun e => by rw [e] at hi; cases hi)]
    · exact agL.of (fun q hq => by unfold whenD; rw [s2_rowN (by omega), gh_k (by omega)])
    · have hn := kk (upP (y, m) (nI k) (pN (whenD sg j k) (pTell (whenD sg j k) lw)), s9) hkN ⟨by rw [whenF_s, ← hy], fun z hz h7 => by
          show s9 z = _
          rw [a1 z hz, s2_rowN h7]; exact hs z hz h7, fun i hi => by
          show s9 7 i = _
          rw [a1 7 (offA_in (Or.inl rfl)), s2_i hi]; exact hs7 i hi⟩
      rw [nI_1]
      unfold upP at hn
      dsimp only at hn
      by_cases hl : m < pN (whenD sg j k) (pTell (whenD sg j k) lw)
      · rw [if_pos hl] at hn ⊢; exact hn
      · rw [if_neg hl] at hn ⊢; exact hn
  · have ek : k = 61 := by omega
    subst ek
    rw [if_pos (show (60 : Int32) < nI 61 by decide)]
    refine ⟨j, by omega, rfl, ?_⟩
    have e9 : ∀ z, offA z → s2 s 7 j (s2 (gh sg) 0 2 0 7 j) z = s2 (gh sg) 0 2 0 z := by
      intro z hz
      by_cases e : z = 7
      · subst e
        funext i
        by_cases e2 : i = j
        · subst e2; rw [s2_s]
        · rw [s2_i e2, s2_rowN (by decide)]; exact hs7 i e2
      · rw [s2_rowN e]; exact hs z hz e
    have hp' := hp _ (mfr_gX e9).1 (mfr_gX e9).2
    rw [← hy] at hp'
    unfold pick at hp'
    by_cases c0 : w = 0
    · rw [if_pos c0] at hp' ⊢; exact hp'
    · rw [if_neg c0] at hp' ⊢; exact hp'
theorem qM_when0 (h : cR ad T L V P t A sg lw) {x w : Int32} (hx : notN x (nJ sg) ∨ w < 0 ∨ 1 < w) {post : Int32 → MS → Prop} (hp : ∀ b s9, mfr sg s9 → s9 0 2 = 1 → post b s9) : wM_when sg x w post := by
  have hJ := h.1.1.2.1
  unfold wM_when jM_when_22
  refine sM_isJudge (s2c4 hJ.1) (by omega) (fun k q1 q2 => ?_) (fun q => by rw [if_pos rfl]; exact sM_fail hp)
  rw [if_neg (by decide)]
  by_cases h1 : w < 0
  · rw [if_pos h1]; exact sM_fail hp
  rw [if_neg h1]
  rcases hx with q | q | q
  · exact absurd q2 (q k q1)
  · exact absurd q h1
  · rw [if_neg (fun z => absurd q (Int32.not_lt.mpr z))]; exact sM_fail hp
theorem qX_round (h : cR ad T L V P t A sg lw) (hb : bxP T L P t A) {x : Int32} {post : Int32 → w_V → Prop} {xp : String → w_V → w_P → Prop} (hp : ∀ j, j < nJ sg → x = nI j → ∀ V9, cfr V V9 t A → post (pN (rndD sg j) (pTell (rndD sg j) lw) - pN (gh sg) (pTell (gh sg) lw)) V9) (h0 : notN x (nJ sg) → xp cNSE V P) : wX1_round ad T L V P t x post xp := by
  have hv := h.vw
  have hJ := h.1.1.2.1
  obtain ⟨-, g2, g3, g4, g5⟩ := h.M
  unfold wX1_round
  refine sX_judgeAt h hb (fun j a hj e hr => sX1_tries h hb (fun V1 a1 a2 a3 => ⟨A 3, hb.1.2.2.2.2.2.1, bx_st hb stI3, fun V2 e2 => ⟨A 4, hb.1.2.2.2.2.2.2, hb.2.2.2.2.1.1, ?_⟩⟩)) h0
  have hp' := hp j hj e
  subst e
  have hc2 : cfr V1 V2 t A := by rw [e2]; exact cfr.up hb hv
  have b3 := a2.st h.2.1.2 hJ.2 (bx_st hb stI3)
  have b4 := a2.ex hJ.2
  have hR2 := h.fr hb (a1.tr hc2)
  have hs : stR T V2 (A 3) (rndD sg j) := by rw [e2]; exact (b3.v (Or.inl rfl)).f (by decide) (by decide) (by decide) (by decide)
  have he : exR V2 (A 3) (rndD sg j) := by rw [e2]; exact b4.back (by rw [(gh_ag sg).nJ]; exact hJ.2) (by omega)
  refine sX_run hR2 hb (D := rndD sg j) ?_ (g4.f (by decide) (by decide) (by decide)) hs he (fun V9 b1 b2' b3 => hp' V9 ((a1.tr hc2).tr b1))
  exact agL.of (fun q hq => by unfold rndD; rw [s2_rowN (by omega), gh_k (by omega)])
theorem qM_round (h : cR ad T L V P t A sg lw) {j : Nat} (hj : j < nJ sg) {post : Int32 → MS → Prop} (hp : ∀ s9 : MS, mfr sg s9 → s9 0 2 = 0 → post (pN (rndD sg j) (pTell (rndD sg j) lw) - pN (gh sg) (pTell (gh sg) lw)) s9) : wM_round sg (nI j) post := by
  have hJ := h.1.1.2.1
  obtain ⟨-, g2, g3, g4, g5⟩ := h.M
  unfold wM_round
  refine sM_isJudge (s2c4 hJ.1) (by omega) (fun k _ _ => ?_) (fun q => absurd rfl (q j hj))
  rw [if_neg (by decide)]
  refine sM_now h (fun s a1 a2 a3 a4 a5 => sM_run h (D := rndD sg j) (fun q hq h0 => ?_) (fun i hi => ?_) ?_ (g4.f (by decide) (by decide) (by decide)) (fun s9 b1 b2' => hp s9 ?_ ?_))
  · unfold rndD; rw [s2_rowN h0, s2_rowN h0, a3 q hq.1 hq.2, s2_rowN h0]
  · unfold rndD
    by_cases e : i = 40
    · subst e; rw [s2_s, s2_s]
    · rw [s2_i e, s2_i e, a3 0 offA_0.1 offA_0.2, s2_i (fun e => by rw [e] at hi; cases hi)]
  · exact agL.of (fun q hq => by unfold rndD; rw [s2_rowN (by omega), gh_k (by omega)])
  · refine (a1.tr ?_).tr (mfr.oA b1)
    exact ⟨fun k h _ _ _ => s2_rowN h, fun j _ h _ _ _ _ => s2_i h, fun i _ => s2_k (by decide), fun i _ => s2_k (by decide)⟩
  · rw [b1 0 offA_0, s2_i (by decide)]; exact a2
theorem qM_judgeOnly0 {F : MS → (Int32 → MS → Prop) → Prop} (h : cR ad T L V P t A sg lw) {x : Int32} (hx : notN x (nJ sg)) {post : Int32 → MS → Prop} (hp : ∀ b s9, mfr sg s9 → s9 0 2 = 1 → post b s9) : wM_isJudge (s2 sg 0 2 0) x (fun r1 => if r1 = 0 then wM_fail (s2 sg 0 2 0) 1 (fun r7 g8 => post r7 g8) else F (s2 sg 0 2 0) post) := by
  have hJ := h.1.1.2.1
  exact sM_isJudge (s2c4 hJ.1) (by omega) (fun k q1 q2 => absurd q2 (hx k q1)) (fun q => by rw [if_pos rfl]; exact sM_fail hp)
theorem qM_round0 (h : cR ad T L V P t A sg lw) {x : Int32} (hx : notN x (nJ sg)) {post : Int32 → MS → Prop} (hp : ∀ b s9, mfr sg s9 → s9 0 2 = 1 → post b s9) : wM_round sg x post := by
  have hJ := h.1.1.2.1
  unfold wM_round
  exact sM_isJudge (s2c4 hJ.1) (by omega) (fun k q1 q2 => absurd q2 (hx k q1)) (fun q => by rw [if_pos rfl]; exact sM_fail hp)
theorem qX_deaf (h : cR ad T L V P t A sg lw) (hb : bxP T L P t A) {x : Int32} {post : Int32 → w_V → Prop} {xp : String → w_V → w_P → Prop} (hp : ∀ j, j < nJ sg → x = nI j → ∀ V9, cfr V V9 t A → post (pN (deafD sg j) (pTell (deafD sg j) lw)) V9) (h0 : notN x (nJ sg) → xp cNSE V P) : wX1_deaf ad T L V P t x post xp := by
  have hv := h.vw
  have hJ := h.1.1.2.1
  obtain ⟨-, g2, g3, g4, g5⟩ := h.M
  unfold wX1_deaf
  refine sX_judgeAt h hb (fun j a hj e hr => ⟨A 3, hb.1.2.2.2.2.2.1, bx_st hb stI3, A 2, hb.1.2.2.2.2.1, bx_st hb stI2, sX_like3g h hb (fun V1 a1 a2 a3 a4 => ⟨A 3, hb.1.2.2.2.2.2.1, bx_st hb stI3, fun V2 e2 => ⟨A 4, hb.1.2.2.2.2.2.2, hb.2.2.2.2.1.1, ?_⟩⟩)⟩) h0
  have hp' := hp j hj e
  subst e
  have hc2 : cfr V1 V2 t A := by rw [e2]; exact cfr.up hb hv
  have hR2 := h.fr hb (a2.tr hc2)
  have hs : stR T V2 (A 3) (deafD sg j) := by rw [e2]; exact (a3.v (Or.inr (Or.inl rfl))).f (by decide) (by decide) (by decide) (by decide)
  have he : exR V2 (A 3) (deafD sg j) := by
    rw [e2]
    refine a4.turn (fun i hi => ?_)
    rw [(gh_ag sg).nJ] at hi
    obtain ⟨m, m1, m2, m3⟩ := dfS_bit (D := sg) (nJ sg) hJ.2
    rw [gh_41, m2, bit_xor m m1 j (by omega) i (by omega), m3 i (by omega), gh_k (by decide), bit_one j (by omega) i (by omega)]
    have e1 : decide (i < nJ sg ∧ sg 6 i = 1) = decide (sg 6 i = 1) := decide_eq_decide.mpr ⟨fun q => q.2, fun q => ⟨hi, q⟩⟩
    have e2' : decide (nI j = nI i) = decide (i = j) := decide_eq_decide.mpr ⟨fun q => ((nI_eq (by omega) (by omega)).mp q).symm, fun q => by rw [q]⟩
    rw [e1, e2']
    cases decide (sg 6 i = 1) <;> cases decide (i = j) <;> rfl
  refine sX_run hR2 hb (D := deafD sg j) ?_ (g4.f (by decide) (by decide) (by decide)) hs he (fun V9 b1 b2' b3 => hp' V9 ((a2.tr hc2).tr b1))
  exact agL.of (fun q hq => by unfold deafD; rw [s2_rowN (by omega), gh_k (by omega)])
theorem qM_deaf (h : cR ad T L V P t A sg lw) {j : Nat} (hj : j < nJ sg) {post : Int32 → MS → Prop} (hp : ∀ s9 : MS, mfr sg s9 → s9 0 2 = 0 → post (pN (deafD sg j) (pTell (deafD sg j) lw)) s9) : wM_deaf sg (nI j) post := by
  have hL := h.1.1
  have hJ := h.1.1.2.1
  obtain ⟨-, g2, g3, g4, g5⟩ := h.M
  unfold wM_deaf
  refine sM_isJudge (s2c4 hJ.1) (by omega) (fun k _ _ => ?_) (fun q => absurd rfl (q j hj))
  rw [if_neg (by decide)]
  refine sM_now h (fun s a1 a2 a3 a4 a5 => ?_)
  have ha : agL sg (deafD sg j) := agL.of (fun q hq => by unfold deafD; rw [s2_rowN (by omega), gh_k (by omega)])
  have hsm : sameT (gh sg) (deafD sg j) := ⟨fun k h1 _ => s2_rowN h1, fun i _ h2 _ _ => s2_i h2⟩
  have e41 : s 0 41 = gh sg 0 41 := a4.f rfl
  rw [e41]
  have hI : inp (s2 s 0 41 (gh sg 0 41 ^^^ ((1 : Int32) <<< (nI j &&& 31)))) (deafD sg j) := by
    refine ⟨fun q hq => ?_, fun i hi => ?_⟩
    · have q0 : q ≠ 0 := fun e => by rw [e] at hq; cases hq
      unfold deafD
      rw [s2_rowN q0, s2_rowN q0]; exact a4.1 q hq
    · unfold deafD
      by_cases e : i = 41
      · subst e; rw [s2_s, s2_s]
      · rw [s2_i e, s2_i e]; exact a4.f hi
  have hT : judgeOn (s2 s 0 41 (gh sg 0 41 ^^^ ((1 : Int32) <<< (nI j &&& 31)))) (gh sg) (pTell (gh sg) lw) := by
    obtain ⟨t1, t2, t3⟩ := a5.1
    refine ⟨fun j i x y => ?_, fun a b x y => ?_, fun k hk => ?_⟩
    · rw [s2_rowN (by decide), s2_rowN (by decide)]; exact t1 j i x y
    · rw [s2_rowN (by decide)]; exact t2 a b x y
    · rw [s2_rowN (by decide), s2_rowN (by decide), s2_rowN (by decide)]; exact t3 k hk
  rw [hsm.tell] at hp
  refine sM_judgeAll hI (ha.lnd hL) (ha.far hL h.1.2.1) (g4.f (by decide) (by decide) (by decide)) (hsm.judgeOn hT) (hsm.sOk (pTell_ok g2 lw)) (fun s9 b1 b2' => hp s9 ?_ ?_)
  · refine (a1.tr ?_).tr (mfr.oA (fun q hq => b1 q hq.2))
    exact ⟨fun k h _ _ _ => s2_rowN h, fun j _ _ h _ _ _ => s2_i h, fun i _ => s2_k (by decide), fun i _ => s2_k (by decide)⟩
  · rw [b1 0 offA_0.2, s2_i (by decide)]; exact a2
theorem qM_deaf0 (h : cR ad T L V P t A sg lw) {x : Int32} (hx : notN x (nJ sg)) {post : Int32 → MS → Prop} (hp : ∀ b s9, mfr sg s9 → s9 0 2 = 1 → post b s9) : wM_deaf sg x post := by
  have hJ := h.1.1.2.1
  unfold wM_deaf
  exact sM_isJudge (s2c4 hJ.1) (by omega) (fun k q1 q2 => absurd q2 (hx k q1)) (fun q => by rw [if_pos rfl]; exact sM_fail hp)
end Q4
