/-! PURE: sent -/
set_option maxRecDepth 100000
def seenB (sg D S : MS) : Bool := !anyI (fun k => decide (¬ b2 (pVoid D S (tn (sg 51 k)) (tn (sg 52 k))) = sg 53 k)) (tn (sg 0 34)) 0
def sentF (sg : MS) (lw : (Nat → Int32) → Int32) (c : Nat) : Nat → pP
  | 0 => (0, -1)
  | k + 1 => if seenB sg (wD sg c k) (pTell (wD sg c k) lw) = true then ((sentF sg lw c k).1 + 1, if (sentF sg lw c k).2 = -1 then 100 * nI (k / nT sg) + nI (k % nT sg) else (sentF sg lw c k).2) else sentF sg lw c k
theorem sentF_s {sg : MS} {lw : (Nat → Int32) → Int32} {c k : Nat} : sentF sg lw c (k + 1) = if seenB sg (wD sg c k) (pTell (wD sg c k) lw) = true then ((sentF sg lw c k).1 + 1, if (sentF sg lw c k).2 = -1 then 100 * nI (k / nT sg) + nI (k % nT sg) else (sentF sg lw c k).2) else sentF sg lw c k := rfl
def rSent (sg : MS) (lw : (Nat → Int32) → Int32) (c : Nat) (w : Int32) : Int32 := if w = 2 then b2 (seenB sg (gh sg) (pTell (gh sg) lw)) else pick w (sentF sg lw c (nT sg * 61))
section Q8
variable {ad : Nat → Nat} {T L : Nat → Nat} {V : w_V} {P : w_P} {t : Nat} {A : Nat → Nat} {sg : MS} {lw : (Nat → Int32) → Int32}
theorem sX_isSeen {D : MS} (h : cR ad T L V P t A sg lw) (hb : bxP T L P t A) (ha : agL sg D) (hO : stOk D) (hs : stR T V (A 3) D) (he : exR V (A 3) D) {post : Int32 → w_V → Prop} (hp : ∀ V9 : w_V, cfr V V9 t A → post (b2 (seenB sg D (pTell D lw))) V9) : wX1_isSeen ad T L V P t post := by
  have hC := h.1.1.2.2.1
  have hJ := h.1.1.2.1
  have hv := h.vw
  obtain ⟨-, -, ⟨sn, k1, k2, k3, k4⟩, -, -⟩ := h.2.2.1
  have etn : tn (sg 0 34) = sn := by rw [k1, tn_nI (by omega)]
  unfold wX1_isSeen
  refine ⟨A 4, hb.1.2.2.2.2.2.2, hb.2.2.2.2.1.1, sX_run h hb ha hO hs he (fun V9 a1 a2 a3 => ?_)⟩
  have hp' := hp V9 a1
  have e0 : V9 (A 0) = V (A 0) := a1.k hb hv hb.2.1.1 (by decide)
  unfold seenB at hp'
  rw [etn] at hp'
  refine loop0 (F := fun n i (_ : Unit) => lX1_isSeen_10 ad T L P t post n i V9) sn (fun k _ => anyI (fun k => decide (¬ b2 (pVoid D (pTell D lw) (tn (sg 51 k)) (tn (sg 52 k))) = sg 53 k)) sn 0 = anyI (fun k => decide (¬ b2 (pVoid D (pTell D lw) (tn (sg 51 k)) (tn (sg 52 k))) = sg 53 k)) (sn - k) k) () rfl (fun n k s hk hs2 kk => ?_)
  show lX1_isSeen_10 ad T L P t post (n + 1) (nI k) V9
  unfold lX1_isSeen_10
  refine ⟨A 0, hb.1.2.2.1, hb.2.1.1, ?_⟩
  rw [e0, k3]
  by_cases hkN : k < sn
  · rw [if_neg (nI_ge hkN (by omega)), nI_1]
    rw [anyI_s hkN] at hs2
    obtain ⟨q1, q2, q3, ⟨c, c1, c2⟩, j, j1, j2⟩ := k4 k hkN
    refine ⟨A 4, hb.1.2.2.2.2.2.2, hb.2.2.2.2.1.1, A 0, hb.1.2.2.1, hb.2.1.1, k, by omega, rfl, A 0, hb.1.2.2.1, hb.2.1.1, k, by omega, rfl, 5 * c + j, by omega, ?_, A 0, hb.1.2.2.1, hb.2.1.1, k, by omega, rfl, ?_⟩
    · rw [e0, q1, q2, c2, j2]; exact ix5 c j
    · rw [e0, q3, (a3.2.2.2 c (by rw [ha.nC]; exact c1)).1 j (by rw [ha.nJ]; exact j1)]
      rw [c2, j2, tn_nI (by omega), tn_nI (by omega)] at hs2
      by_cases e : b2 (pVoid D (pTell D lw) c j) = sg 53 k
      · rw [if_pos e]
        rw [decide_eq_false (fun z => z e), if_neg (by decide)] at hs2
        exact kk () hkN hs2
      · rw [if_neg e]
        rw [decide_eq_true e, if_pos rfl] at hs2
        rw [hs2] at hp'
        exact hp'
  · have ek : k = sn := by omega
    rw [if_pos (nI_le (by omega) (by omega))]
    rw [ek, anyI_z] at hs2
    rw [hs2] at hp'
    exact hp'
theorem sM_isAsSeen {s D S : MS} (h : cR ad T L V P t A sg lw) (hI : inp s D) (ha : agL sg D) (hO : stOk D) (hj : judgeOn s D S) (hS : sOk D S) (e51 : s 51 = sg 51) (e52 : s 52 = sg 52) (e53 : s 53 = sg 53) (e34 : s 0 34 = sg 0 34) {post : Int32 → Prop} (hp : post (b2 (seenB sg D S))) : wM_isAsSeen s post := by
  have hC := h.1.1.2.2.1
  have hJ := h.1.1.2.1
  obtain ⟨-, -, ⟨sn, k1, k2, k3, k4⟩, -, -⟩ := h.2.2.1
  have etn : tn (sg 0 34) = sn := by rw [k1, tn_nI (by omega)]
  unfold wM_isAsSeen
  unfold seenB at hp
  rw [etn] at hp
  refine loop0 (F := fun n i (_ : Unit) => lM_isAsSeen_2 s post n i) sn (fun k _ => anyI (fun k => decide (¬ b2 (pVoid D S (tn (sg 51 k)) (tn (sg 52 k))) = sg 53 k)) sn 0 = anyI (fun k => decide (¬ b2 (pVoid D S (tn (sg 51 k)) (tn (sg 52 k))) = sg 53 k)) (sn - k) k) () rfl (fun n k u hk hs2 kk => ?_)
  show lM_isAsSeen_2 s post (n + 1) (nI k)
  unfold lM_isAsSeen_2 jM_isAsSeen_34
  rw [e34, k1]
  by_cases hkN : k < sn
  · rw [if_neg (nI_ge hkN (by omega)), nI_1]
    rw [anyI_s hkN] at hs2
    obtain ⟨q1, q2, q3, ⟨c, c1, c2⟩, j, j1, j2⟩ := k4 k hkN
    refine ⟨k, by omega, rfl, k, by omega, rfl, ?_⟩
    rw [e51, e52, c2, j2]
    rw [c2, j2, tn_nI (by omega), tn_nI (by omega)] at hs2
    refine sM_isVoided hI (ha.lnd h.1.1) (ha.far h.1.1 h.1.2.1) hO hj.1 hj.2.2 hS (by rw [ha.nC]; exact c1) (by rw [ha.nJ]; exact j1) ?_
    have fin : ∀ x : Int32, x = b2 (pVoid D S c j) → (∃ i9 : Nat, i9 < 8 ∧ nI k = nI i9 ∧ (if x = s 53 i9 then lM_isAsSeen_2 s post n (nI (k + 1)) else post 0)) := fun x hx => by
      refine ⟨k, by omega, rfl, ?_⟩
      rw [e53, hx]
      by_cases e : b2 (pVoid D S c j) = sg 53 k
      · rw [if_pos e]
        rw [decide_eq_false (fun z => z e), if_neg (by decide)] at hs2
        exact kk () hkN hs2
      · rw [if_neg e]
        rw [decide_eq_true e, if_pos rfl] at hs2
        rw [hs2] at hp
        exact hp
    cases hq : pVoid D S c j with
    | false => rw [hq] at fin; rw [if_pos (show b2 false = 0 from rfl)]; exact fin 0 rfl
    | true => rw [hq] at fin; rw [if_neg (show ¬ b2 true = 0 by decide)]; exact fin 1 rfl
  · have ek : k = sn := by omega
    rw [if_pos (nI_le (by omega) (by omega))]
    rw [ek, anyI_z] at hs2
    rw [hs2] at hp
    exact hp
theorem qX_sent (h : cR ad T L V P t A sg lw) (hb : bxP T L P t A) {x w : Int32} {post : Int32 → w_V → Prop} {xp : String → w_V → w_P → Prop} (hp : ∀ c, c < nC sg → x = nI c → ¬ w < 0 → ¬ 2 < w → ∀ V9, cfr V V9 t A → post (rSent sg lw c w) V9) (h0 : notN x (nC sg) ∨ w < 0 ∨ 2 < w → xp cNSE V P) : wX1_sent ad T L V P t x w post xp := by
  have hT := h.1.1.1
  have hv := h.vw
  obtain ⟨-, g2, g3, g4, g5⟩ := h.M
  obtain ⟨wn, n1, n2, n3, n4, n5⟩ := gh_wn h
  unfold wX1_sent
  refine sX_caseAt h hb (fun c hc ec => sX_within (fun q1 q2 => sX_there1 ?_) (fun q => sX_there0 (h0 (Or.inr q)))) (fun q => h0 (Or.inl q))
  have hp' := hp c hc ec q1 q2
  subst ec
  refine ⟨A 3, hb.1.2.2.2.2.2.1, bx_st hb stI3, A 2, hb.1.2.2.2.2.1, bx_st hb stI2, sX_like3g h hb (fun V1 a1 a2 a3 a4 => ?_)⟩
  unfold rSent at hp'
  by_cases c2 : w = 2
  · rw [if_pos c2] at hp' ⊢
    refine sX_isSeen (h.fr hb a2) hb (gh_ag sg) g4 a3 a4 (fun V2 b1 => ?_)
    have hp2 := hp' V2 (a2.tr b1)
    cases hq : seenB sg (gh sg) (pTell (gh sg) lw) with
    | false => rw [hq] at hp2; rw [if_pos (show b2 false = 0 from rfl)]; exact hp2
    | true => rw [hq] at hp2; rw [if_neg (show ¬ b2 true = 0 by decide)]; exact hp2
  rw [if_neg c2] at hp' ⊢
  refine loop0 (F := fun n i (q : pP × w_V) => lX1_sent_51 ad T L P t (nI c) w post xp _ n q.1.1 q.1.2 i q.2) 61 (fun d q => q.1 = sentF sg lw c (nT sg * d) ∧ cfr V q.2 t A) ((0, -1), V1) ⟨rfl, a2⟩ (fun m1 d q hd hq kk => ?_)
  obtain ⟨⟨y, m⟩, W⟩ := q
  obtain ⟨hy, hW⟩ := hq
  dsimp only at hy hW
  show lX1_sent_51 ad T L P t (nI c) w post xp _ (m1 + 1) y m (nI d) W
  unfold lX1_sent_51
  by_cases hdN : d < 61
  · rw [if_neg (show ¬ (60 : Int32) < nI d from nI_nlt (a := 60) (by omega) (by decide))]
    have hdm : nT sg * d + nT sg ≤ nT sg * 61 := by
      rw [← Nat.mul_succ]; exact Nat.mul_le_mul_left _ (by omega)
    refine loop0 (F := fun n i (q : pP × w_V) => lX1_sent_61 ad T L P t (nI c) w (nI d) post xp _ n q.1.1 q.1.2 i q.2) (nT sg) (fun k q => q.1 = sentF sg lw c (nT sg * d + k) ∧ cfr V q.2 t A) ((y, m), W) ⟨hy, hW⟩ (fun m2 k q hk hq kk2 => ?_)
    obtain ⟨⟨y1, f1⟩, W1⟩ := q
    obtain ⟨hy1, hW1⟩ := hq
    dsimp only at hy1 hW1
    have hR := h.fr hb hW1
    show lX1_sent_61 ad T L P t (nI c) w (nI d) post xp _ (m2 + 1) y1 f1 (nI k) W1
    unfold lX1_sent_61 jX1_sent_125
    refine ⟨A 5, hb.1.2.1, hR.1.2.2.1.1.1, ?_⟩
    rw [hR.1.2.2.1.1.2.1, hT.1]
    by_cases hkN : k < nT sg
    · rw [if_neg (nI_ge hkN (by omega)), nI_1 k]
      obtain ⟨e1, e2, e3⟩ := wD_at (sg := sg) (d := d) c hkN
      refine ⟨A 3, hb.1.2.2.2.2.2.1, bx_st hb stI3, A 2, hb.1.2.2.2.2.1, bx_st hb stI2, sX_like3g hR hb (fun V3 b1 b2' b3 b4 => ⟨A 3, hb.1.2.2.2.2.2.1, bx_st hb stI3, sX_sends hb hv g4 (by omega) b3 b4 (fun V4 c1 c2 c3 => ?_)⟩)⟩
      rw [← e1] at c2 c3
      have hR4 := hR.fr hb (b2'.tr c1)
      refine sX_isSeen hR4 hb wD_ag (wD_st h (by omega) (by omega)) c2 c3 (fun V5 d1 => ?_)
      have hW5 : cfr V V5 t A := hW1.tr ((b2'.tr c1).tr d1)
      have hn := fun q e => kk2 (q, V5) hkN ⟨e, hW5⟩
      rw [show nT sg * d + (k + 1) = (nT sg * d + k) + 1 from rfl, sentF_s, ← hy1, e2, e3] at hn
      cases hq : seenB sg (wD sg c (nT sg * d + k)) (pTell (wD sg c (nT sg * d + k)) lw) with
      | false =>
        rw [hq, if_neg (by decide)] at hn
        rw [if_pos (show b2 false = 0 from rfl)]
        exact hn (y1, f1) rfl
      | true =>
        rw [hq, if_pos rfl] at hn
        rw [if_neg (show ¬ b2 true = 0 by decide)]
        dsimp only at hn
        by_cases hf : f1 = -1
        · rw [if_pos hf] at hn ⊢
          exact hn (_, _) rfl
        · rw [if_neg hf] at hn ⊢
          exact hn (_, _) rfl
    · have ek : k = nT sg := by omega
      rw [if_pos (nI_le (by omega) (by omega)), nI_1 d]
      refine kk ((y1, f1), W1) hdN ⟨?_, hW1⟩
      rw [ek] at hy1
      exact hy1
  · have ed : d = 61 := by omega
    subst ed
    rw [if_pos (show (60 : Int32) < nI 61 by decide)]
    have hp2 := hp' W hW
    rw [← hy] at hp2
    unfold pick at hp2
    by_cases c0 : w = 0
    · rw [if_pos c0] at hp2 ⊢; exact hp2
    · rw [if_neg c0] at hp2 ⊢; exact hp2
theorem qM_sent (h : cR ad T L V P t A sg lw) {c : Nat} (hc : c < nC sg) {w : Int32} (h1 : ¬ w < 0) (h2 : ¬ 2 < w) {post : Int32 → MS → Prop} (hp : ∀ s9 : MS, mfr sg s9 → s9 0 2 = 0 → post (rSent sg lw c w) s9) : wM_sent sg (nI c) w post := by
  have hL := h.1.1
  have hT := hL.1
  have hC := h.1.1.2.2.1
  obtain ⟨-, g2, g3, g4, g5⟩ := h.M
  have hSo := pTell_ok g2 lw
  unfold wM_sent
  refine sM_isCase (s2c4 hC.1) (by omega) (fun _ _ _ => ?_) (fun q => absurd rfl (q c hc))
  rw [if_neg (by decide)]
  refine sM_isIn (a := 0) (b := 2) (by decide) (by decide) (fun _ _ => ?_) (fun q => absurd q (fun z => z.elim h1 h2))
  rw [if_neg (by decide)]
  refine sM_now h (fun s a1 a2 a3 a4 a5 => ?_)
  unfold rSent at hp
  have off51 : ∀ q, q = 51 ∨ q = 52 ∨ q = 53 → offA q := by
    intro q hq
    refine ⟨⟨⟨?_, ?_, ?_, ?_, ?_⟩, ?_, ?_, ?_⟩, ?_, ?_, ?_⟩ <;> omega
  by_cases c2 : w = 2
  · rw [if_pos c2] at hp ⊢
    have e : ∀ q, q = 51 ∨ q = 52 ∨ q = 53 → s q = sg q := fun q hq => by rw [a3 q (off51 q hq).1 (off51 q hq).2, s2_rowN (by omega), gh_k (by omega)]
    refine sM_isAsSeen h a4 (gh_ag sg) g4 a5.1 hSo (e 51 (Or.inl rfl)) (e 52 (Or.inr (Or.inl rfl))) (e 53 (Or.inr (Or.inr rfl))) ?_ ?_
    · rw [a3 0 offA_0.1 offA_0.2, s2_i (by decide), gh_0 (by decide) (by decide) (by decide) (by decide)]
    · have hp2 := hp s a1 a2
      cases hq : seenB sg (gh sg) (pTell (gh sg) lw) with
      | false => rw [hq] at hp2; rw [if_pos (show b2 false = 0 from rfl)]; exact hp2
      | true => rw [hq] at hp2; rw [if_neg (show ¬ b2 true = 0 by decide)]; exact hp2
  rw [if_neg c2] at hp ⊢
  refine loop0 (F := fun n i (q : pP × MS) => lM_sent_72 (nI c) w post _ n q.1.1 q.1.2 i q.2) (nT sg * 61) (fun k q => q.1 = sentF sg lw c k ∧ wS sg (pTell (gh sg) lw) q.2) ((0, -1), s2 s 0 30 (s 0 30 + 1)) ⟨rfl, wS.of h a3 a5.1⟩ (fun n k q hk hq kk => ?_)
  obtain ⟨⟨y, f⟩, s1⟩ := q
  obtain ⟨hy, hs⟩ := hq
  dsimp only at hy hs
  show lM_sent_72 (nI c) w post _ (n + 1) y f (nI k) s1
  unfold lM_sent_72 jM_sent_164 jM_sent_166
  have e4 : s1 4 0 = nI (nT sg) := by rw [hs.1 4 (offA_in (Or.inl rfl)) (by decide) (by decide), gh_k (by decide)]; exact hT.1
  have eN : s1 4 0 * 61 = nI (nT sg * 61) := by rw [e4, show (61 : Int32) = nI 61 from rfl, nI_mul]
  rw [eN]
  by_cases hkN : k < nT sg * 61
  · rw [if_neg (nI_ge hkN (by omega)), nI_1]
    have hT0 : 0 < nT sg := by
      rcases Nat.eq_zero_or_pos (nT sg) with q | q
      · rw [q] at hkN; omega
      · exact q
    have n0 : ¬ s1 4 0 = 0 := by rw [e4]; exact nI_ne0 hT0 (by omega)
    refine ⟨n0, n0, sM_putW h hs hkN (fun s2' b1 b2' b3 => ?_)⟩
    have hsm : sameT (gh sg) (wD sg c k) := wrd_same _ _ _ _
    have eT : pTell (wD sg c k) lw = pTell (gh sg) lw := hsm.tell lw
    have e : ∀ q, q = 51 ∨ q = 52 ∨ q = 53 → s2' q = sg q := fun q hq => by rw [b1.1 q (off51 q hq) (by omega) (by omega), gh_k (by omega)]
    have e4' : s2' 4 0 = nI (nT sg) := by rw [b1.1 4 (offA_in (Or.inl rfl)) (by decide) (by decide), gh_k (by decide)]; exact hT.1
    have n0' : ¬ s2' 4 0 = 0 := by rw [e4']; exact nI_ne0 hT0 (by omega)
    refine sM_isAsSeen h b2' wD_ag (wD_st h hT0 hkN) b3 (hsm.sOk hSo) (e 51 (Or.inl rfl)) (e 52 (Or.inr (Or.inl rfl))) (e 53 (Or.inr (Or.inr rfl))) ?_ ?_
    · rw [b1.2.1 34 (by decide), s2_i (by decide), gh_0 (by decide) (by decide) (by decide) (by decide)]
    · have hn := fun q e => kk (q, s2') hkN ⟨e, b1⟩
      rw [sentF_s, ← hy, eT] at hn
      cases hq : seenB sg (wD sg c k) (pTell (gh sg) lw) with
      | false =>
        rw [hq, if_neg (by decide)] at hn
        rw [if_pos (show b2 false = 0 from rfl)]
        exact hn (y, f) rfl
      | true =>
        rw [hq, if_pos rfl] at hn
        rw [if_neg (show ¬ b2 true = 0 by decide)]
        dsimp only at hn
        by_cases hf : f = -1
        · rw [if_pos hf] at hn ⊢
          refine ⟨n0', n0', ?_⟩
          rw [e4', nI_mod (by omega) (by omega), nI_div (by omega) (by omega)]
          exact hn (_, _) rfl
        · rw [if_neg hf] at hn ⊢
          exact hn (_, _) rfl
  · have ek : k = nT sg * 61 := by omega
    rw [if_pos (nI_le (by omega) (by omega))]
    have hp' := hp _ hs.m.1 hs.m.2
    rw [← ek, ← hy] at hp'
    unfold pick at hp'
    by_cases c0 : w = 0
    · rw [if_pos c0] at hp' ⊢; exact hp'
    · rw [if_neg c0] at hp' ⊢; exact hp'
theorem qM_sent0 (h : cR ad T L V P t A sg lw) {x w : Int32} (hx : notN x (nC sg) ∨ w < 0 ∨ 2 < w) {post : Int32 → MS → Prop} (hp : ∀ b s9, mfr sg s9 → s9 0 2 = 1 → post b s9) : wM_sent sg x w post := by
  have hC := h.1.1.2.2.1
  unfold wM_sent jM_sent_25
  refine sM_isCase (s2c4 hC.1) (by omega) (fun k q1 q2 => ?_) (fun q => by rw [if_pos rfl]; exact sM_fail hp)
  rw [if_neg (by decide)]
  refine sM_isIn (a := 0) (b := 2) (by decide) (by decide) (fun z1 z2 => ?_) (fun q => by rw [if_pos rfl]; exact sM_fail hp)
  rcases hx with q | q | q
  · exact absurd q2 (q k q1)
  · exact absurd q z1
  · exact absurd q z2
end Q8
