/-! PURE: free, mercy -/
set_option maxRecDepth 100000
theorem nI_mod {a b : Nat} (ha : a < 2147483648) (hb : b < 2147483648) : nI a - nI a / nI b * nI b = nI (a % b) := by
  rw [nI_div ha hb, nI_mul, nI_sub (Nat.div_mul_le_self a b)]
  refine congrArg nI ?_
  have h := Nat.div_add_mod a b
  rw [Nat.mul_comm] at h
  omega
/-- whether it is guilty, by D -/
def gB (D : MS) (lw : (Nat → Int32) → Int32) (c : Nat) : Bool := decide (¬ 100000 ≤ (pG D (pTell D lw) c).1)
theorem orN_m1 {D S : MS} (hS : sOk D S) (c : Nat) : orN (pG D S c).1 = -1 ↔ 100000 ≤ (pG D S c).1 := by
  obtain ⟨m, hm, hm2, -⟩ := pG_nat hS c
  rw [hm]
  rcases hm2 with h | h
  · rw [orN_nI (by omega)]
    exact ⟨fun q => absurd q (nI_ne1 (by omega)), fun q => absurd q (show ¬ (100000 : Int32) ≤ nI m from nI_ge (b := 100000) (by omega) (by decide))⟩
  · subst h
    rw [orN_no]
    exact ⟨fun _ => (by decide), fun _ => rfl⟩
def wD (sg : MS) (c k : Nat) : MS := wrd (gh sg) (nI c) (nI (k % nT sg)) (nI (k / nT sg))
def freeR (sg : MS) (lw : (Nat → Int32) → Int32) (c : Nat) (w : Int32) (m k : Nat) : Int32 := firstI (fun k => !gB (wD sg c k) lw c) (fun k => if w = 0 then nI (k / nT sg) else nI (k % nT sg)) (-1) m k
def rFree (sg : MS) (lw : (Nat → Int32) → Int32) (c : Nat) (w : Int32) : Int32 := if gB (gh sg) lw c = false then -2 else freeR sg lw c w (nT sg * 61) 0
section Q6
variable {ad : Nat → Nat} {T L : Nat → Nat} {V : w_V} {P : w_P} {t : Nat} {A : Nat → Nat} {sg : MS} {lw : (Nat → Int32) → Int32}
theorem sX_isGuilty {D : MS} (h : cR ad T L V P t A sg lw) (hb : bxP T L P t A) (ha : agL sg D) (hO : stOk D) (hs : stR T V (A 3) D) (he : exR V (A 3) D) {c : Nat} (hc : c < nC sg) {post : Int32 → w_V → Prop} (hp : ∀ V9 : w_V, cfr V V9 t A → post (b2 (gB D lw c)) V9) : wX1_isGuilty ad T L V P t (nI c) post := by
  have hC := h.1.1.2.2.1
  unfold wX1_isGuilty
  refine ⟨A 4, hb.1.2.2.2.2.2.2, hb.2.2.2.2.1.1, sX_run h hb ha hO hs he (fun V9 a1 a2 a3 => ⟨A 4, hb.1.2.2.2.2.2.2, hb.2.2.2.2.1.1, c, by omega, rfl, ?_⟩)⟩
  have hp' := hp V9 a1
  have e := orN_m1 (pTell_ok (ha.lnd h.1.1) lw) c
  rw [(a3.2.2.2 c (by rw [ha.nC]; exact hc)).2.1]
  unfold gB at hp'
  by_cases q : 100000 ≤ (pG D (pTell D lw) c).1
  · rw [if_pos (e.mpr q)]
    rw [decide_eq_false (fun z => z q)] at hp'
    exact hp'
  · rw [if_neg (fun z => q (e.mp z))]
    rw [decide_eq_true q] at hp'
    exact hp'
/-- a word more, of what is tried -/
theorem sX_sends {D : MS} (hb : bxP T L P t A) (hv : T (A 10) = 4) (hO : stOk D) (hw : tn (D 0 30) ≤ 4) (hs : stR T V (A 3) D) (he : exR V (A 3) D) {x y z : Int32} {post : w_V → Prop} (hp : ∀ V9 : w_V, cfr V V9 t A → stR T V9 (A 3) (wrd D x y z) → exR V9 (A 3) (wrd D x y z) → post V9) : wX6_sends ad T L V P (A 3) x y z post := by
  obtain ⟨w1, w2⟩ := hO.2.1
  unfold wX6_sends wX6_puts
  have e5 : V (A 3) 0 5 = nI (tn (D 0 30)) := by rw [hs.2.2.2.1]; exact w1
  rw [e5]
  refine ⟨3 * tn (D 0 30), by omega, ix3 _, fun V1 e1 => ⟨3 * tn (D 0 30) + 1, by omega, ix31 _, fun V2 e2 => ⟨3 * tn (D 0 30) + 2, by omega, ix32 _, fun V3 e3 V4 e4 => ?_⟩⟩⟩
  have ep : V3 (A 3) = put3 (V (A 3)) 2 (tn (D 0 30)) x y z := by rw [e3, e2, e1, up3_put]
  have e44 : V4 (A 3) = s2 (V3 (A 3)) 0 5 (V3 (A 3) 0 5 + 1) := by rw [e4, up3_a]
  refine hp V4 ?_ (hs.wrd hO ep e44) ?_
  · exact cfr.one hb hv (fun a ha => by rw [e4, up3_n ha, e3, up3_n ha, e2, up3_n ha, e1, up3_n ha])
  · have f : ∀ i, i = 8 ∨ i = 9 ∨ i = 10 ∨ i = 11 → V4 (A 3) 0 i = V (A 3) 0 i := fun i hi => by
      rw [e44, s2_i (by omega), ep, put3_n (by decide)]
    unfold exR at he ⊢
    rw [f 8 (by decide), f 9 (by decide), f 10 (by decide), f 11 (by decide), (wrd_ag D x y z).nJ, wrd_0 (j := 40) (by decide), wrd_0 (j := 41) (by decide), wrd_0 (j := 42) (by decide), wrd_0 (j := 43) (by decide), wrd_k (k := 6) (by decide) (by decide)]
    exact he
theorem gh_wn (h : cR ad T L V P t A sg lw) : ∃ n, n ≤ 4 ∧ sg 0 30 = nI n ∧ gh sg 0 30 = nI n ∧ tn (gh sg 0 30) = n ∧ tn (sg 0 30) = n := by
  obtain ⟨q1, q2⟩ := h.2.1.2.2.1
  rw [pk_6] at q1 q2
  have e : gh sg 0 30 = sg 0 30 := gh_0 (by decide) (by decide) (by decide) (by decide)
  exact ⟨tn (sg 0 30), q2, q1, by rw [e]; exact q1, by rw [e], rfl⟩
theorem wD_at {d k : Nat} (c : Nat) (hk : k < nT sg) : wD sg c (nT sg * d + k) = wrd (gh sg) (nI c) (nI k) (nI d) ∧ (nT sg * d + k) / nT sg = d ∧ (nT sg * d + k) % nT sg = k := by
  have e1 : (nT sg * d + k) / nT sg = d := by
    rw [Nat.mul_add_div (by omega), Nat.div_eq_of_lt hk, Nat.add_zero]
  have e2 : (nT sg * d + k) % nT sg = k := by rw [Nat.mul_add_mod, Nat.mod_eq_of_lt hk]
  unfold wD
  rw [e1, e2]
  exact ⟨rfl, rfl, rfl⟩
theorem wD_st (h : cR ad T L V P t A sg lw) {c k : Nat} (hT : 0 < nT sg) (hk : k < nT sg * 61) : stOk (wD sg c k) := by
  obtain ⟨-, g2, g3, g4, g5⟩ := h.M
  obtain ⟨n, n1, n2, n3, n4, n5⟩ := gh_wn h
  have e2 : k / nT sg < 61 := Nat.div_lt_of_lt_mul hk
  exact g4.wrd (by omega) (by rw [(gh_ag sg).nT]; exact Nat.mod_lt _ hT) (by omega)
theorem wD_ag {c k : Nat} : agL sg (wD sg c k) := agL.of (fun q hq => by unfold wD; rw [wrd_k (by omega) (by omega), gh_k (by omega)])
theorem qX_free (h : cR ad T L V P t A sg lw) (hb : bxP T L P t A) {x w : Int32} {post : Int32 → w_V → Prop} {xp : String → w_V → w_P → Prop} (hp : ∀ c, c < nC sg → x = nI c → ¬ w < 0 → ¬ 1 < w → ∀ V9, cfr V V9 t A → post (rFree sg lw c w) V9) (h0 : notN x (nC sg) ∨ w < 0 ∨ 1 < w → xp cNSE V P) : wX1_free ad T L V P t x w post xp := by
  have hT := h.1.1.1
  have hv := h.vw
  obtain ⟨-, g2, g3, g4, g5⟩ := h.M
  obtain ⟨wn, n1, n2, n3, n4, n5⟩ := gh_wn h
  unfold wX1_free
  refine sX_caseAt h hb (fun c hc ec => sX_within (fun q1 q2 => sX_there1 ?_) (fun q => sX_there0 (h0 (Or.inr q)))) (fun q => h0 (Or.inl q))
  have hp' := hp c hc ec q1 q2
  subst ec
  unfold wX1_isGuiltyNow
  refine ⟨A 3, hb.1.2.2.2.2.2.1, bx_st hb stI3, A 2, hb.1.2.2.2.2.1, bx_st hb stI2, sX_like3g h hb (fun V1 a1 a2 a3 a4 => sX_isGuilty (h.fr hb a2) hb (gh_ag sg) g4 a3 a4 hc (fun V2 b1 => ⟨nB_b2 _, ?_⟩))⟩
  unfold rFree at hp'
  have hc2 : cfr V V2 t A := a2.tr b1
  dsimp only
  cases hg : gB (gh sg) lw c with
  | false =>
    rw [hg, if_pos rfl] at hp'
    rw [if_pos (show b2 false = 0 from rfl)]
    exact hp' V2 hc2
  | true =>
  rw [hg, if_neg (by decide)] at hp'
  rw [if_neg (show ¬ b2 true = 0 by decide)]
  refine loop0 (F := fun n i (W : w_V) => lX1_free_27 ad T L P t (nI c) w post xp _ n i W) 61 (fun d W => cfr V W t A ∧ freeR sg lw c w (nT sg * 61) 0 = freeR sg lw c w (nT sg * 61 - nT sg * d) (nT sg * d)) V2 ⟨hc2, rfl⟩ (fun n1 d W hd hs kk => ?_)
  obtain ⟨hW, hf⟩ := hs
  show lX1_free_27 ad T L P t (nI c) w post xp _ (n1 + 1) (nI d) W
  unfold lX1_free_27
  by_cases hdN : d < 61
  · rw [if_neg (show ¬ (60 : Int32) < nI d from nI_nlt (a := 60) (by omega) (by decide))]
    have hdm : nT sg * d + nT sg ≤ nT sg * 61 := by
      rw [← Nat.mul_succ]; exact Nat.mul_le_mul_left _ (by omega)
    refine loop0 (F := fun n i (W : w_V) => lX1_free_36 ad T L P t (nI c) w (nI d) post xp _ _ n i W) (nT sg) (fun k W => cfr V W t A ∧ freeR sg lw c w (nT sg * 61) 0 = freeR sg lw c w (nT sg * 61 - (nT sg * d + k)) (nT sg * d + k)) W ⟨hW, hf⟩ (fun n2 k W1 hk hs1 kk2 => ?_)
    obtain ⟨hW1, hf1⟩ := hs1
    have hR := h.fr hb hW1
    show lX1_free_36 ad T L P t (nI c) w (nI d) post xp _ _ (n2 + 1) (nI k) W1
    unfold lX1_free_36
    refine ⟨A 5, hb.1.2.1, hR.1.2.2.1.1.1, ?_⟩
    rw [hR.1.2.2.1.1.2.1, hT.1]
    by_cases hkN : k < nT sg
    · rw [if_neg (nI_ge hkN (by omega)), nI_1 k]
      obtain ⟨e1, e2, e3⟩ := wD_at (sg := sg) (d := d) c hkN
      refine ⟨A 3, hb.1.2.2.2.2.2.1, bx_st hb stI3, A 2, hb.1.2.2.2.2.1, bx_st hb stI2, sX_like3g hR hb (fun V3 a1 a2 a3 a4 => ⟨A 3, hb.1.2.2.2.2.2.1, bx_st hb stI3, sX_sends hb hv g4 (by omega) a3 a4 (fun V4 c1 c2 c3 => ?_)⟩)⟩
      rw [← e1] at c2 c3
      have hR4 := hR.fr hb (a2.tr c1)
      refine sX_isGuilty hR4 hb wD_ag (wD_st h (by omega) (by omega)) c2 c3 hc (fun V5 d1 => ?_)
      have hW5 : cfr V V5 t A := hW1.tr ((a2.tr c1).tr d1)
      have hlt : nT sg * d + k < nT sg * 61 := by omega
      unfold freeR at hf1
      rw [firstI_s hlt] at hf1
      cases hg2 : gB (wD sg c (nT sg * d + k)) lw c with
      | false =>
        rw [hg2] at hf1
        rw [if_pos (show b2 false = 0 from rfl)]
        rw [if_pos (show (!false) = true from rfl), e2, e3] at hf1
        have hp2 := hp' V5 hW5
        unfold freeR at hp2
        rw [hf1] at hp2
        by_cases c0 : w = 0
        · rw [if_pos c0] at hp2 ⊢; exact hp2
        · rw [if_neg c0] at hp2 ⊢; exact hp2
      | true =>
        rw [hg2] at hf1
        rw [if_neg (show ¬ b2 true = 0 by decide)]
        rw [if_neg (show ¬ (!true) = true by decide)] at hf1
        refine kk2 V5 hkN ⟨hW5, ?_⟩
        unfold freeR
        exact hf1
    · have ek : k = nT sg := by omega
      rw [if_pos (nI_le (by omega) (by omega)), nI_1 d]
      refine kk W1 hdN ⟨hW1, ?_⟩
      rw [ek] at hf1
      rw [hf1, show nT sg * (d + 1) = nT sg * d + nT sg from Nat.mul_succ _ _]
  · have ed : d = 61 := by omega
    subst ed
    rw [if_pos (show (60 : Int32) < nI 61 by decide)]
    have hp2 := hp' W hW
    rw [hf, Nat.sub_self] at hp2
    exact hp2
/-- the model's state while words are tried -/
def wS (sg S s : MS) : Prop := (∀ q, offA q → q ≠ 0 → q ≠ 26 → s q = gh sg q) ∧ (∀ j, j ≠ 30 → s 0 j = s2 (gh sg) 0 2 0 0 j) ∧ s 0 30 = sg 0 30 + 1 ∧ (∀ i, i < 3 * tn (sg 0 30) ∨ 3 * tn (sg 0 30) + 3 ≤ i → s 26 i = gh sg 26 i) ∧ judgeOn s (gh sg) S
theorem wS.fr {S s s9 : MS} (h : wS sg S s) (hs : ∀ q, offJ q → s9 q = s q) : wS sg S s9 := by
  obtain ⟨h1, h2, h3, h4, h5⟩ := h
  have o0 : offJ 0 := offJ_in (Or.inr rfl)
  have o26 : offJ 26 := offJ_in (Or.inl rfl)
  exact ⟨fun q hq a b => by rw [hs q hq.2]; exact h1 q hq a b, fun j hj => by rw [hs 0 o0]; exact h2 j hj, by rw [hs 0 o0]; exact h3, fun i hi => by rw [hs 26 o26]; exact h4 i hi, h5.tr hs⟩
theorem wS.of (h : cR ad T L V P t A sg lw) {S s : MS} (a3 : ∀ q, offT2 q → offJ q → s q = s2 (gh sg) 0 2 0 q) (hj : judgeOn s (gh sg) S) : wS sg S (s2 s 0 30 (s 0 30 + 1)) := by
  have e30 : s 0 30 = sg 0 30 := by rw [a3 0 offA_0.1 offA_0.2, s2_i (by decide), gh_0 (by decide) (by decide) (by decide) (by decide)]
  refine ⟨fun q hq a b => by rw [s2_rowN a, a3 q hq.1 hq.2, s2_rowN a], fun j hj => by rw [s2_i hj, a3 0 offA_0.1 offA_0.2], by rw [s2_s, e30], fun i _ => by rw [s2_rowN (by decide), a3 26 (offA_in (Or.inl rfl)).1 (offA_in (Or.inl rfl)).2, s2_rowN (by decide)], ?_⟩
  obtain ⟨t1, t2, t3⟩ := hj
  exact ⟨fun j i x y => by rw [s2_rowN (by decide), s2_rowN (by decide)]; exact t1 j i x y, fun a b x y => by rw [s2_rowN (by decide)]; exact t2 a b x y, fun k hk => by rw [s2_rowN (by decide), s2_rowN (by decide), s2_rowN (by decide)]; exact t3 k hk⟩
/-- a row of words put -/
theorem sM_putW (h : cR ad T L V P t A sg lw) {S s : MS} (hs : wS sg S s) {c k : Nat} (hk : k < nT sg * 61) {post : MS → Prop} (hp : ∀ s9 : MS, wS sg S s9 → inp s9 (wD sg c k) → judgeOn s9 (wD sg c k) S → post s9) : wM_putRow s 25 15 (s 0 30 - 1) (nI c) (nI k - nI k / s 4 0 * s 4 0) (nI k / s 4 0) post := by
  obtain ⟨wn, n1, n2, n3, n4, n5⟩ := gh_wn h
  have hT := h.1.1.1
  obtain ⟨h1, h2, h3, h4, h5⟩ := hs
  have e4 : s 4 0 = nI (nT sg) := by rw [h1 4 (offA_in (Or.inl rfl)) (by decide) (by decide), gh_k (by decide)]; exact hT.1
  have e30 : s 0 30 - 1 = nI wn := by rw [h3, Int32.add_sub_cancel, n2]
  rw [e4, e30, nI_mod (by omega) (by omega), nI_div (by omega) (by omega)]
  unfold wM_putRow
  refine ⟨3 * wn, by omega, ix3 wn, 3 * wn + 1, by omega, ix31 wn, 3 * wn + 2, by omega, ix32 wn, ?_⟩
  obtain ⟨s1, hs1⟩ : ∃ s1, s1 = put3 s 26 wn (nI c) (nI (k % nT sg)) (nI (k / nT sg)) := ⟨_, rfl⟩
  show post (put3 s 26 wn (nI c) (nI (k % nT sg)) (nI (k / nT sg)))
  rw [← hs1]
  have r : ∀ q, q ≠ 26 → s1 q = s q := fun q hq => by rw [hs1, put3_n hq]
  have hJ : judgeOn s1 (gh sg) S := by
    obtain ⟨t1, t2, t3⟩ := h5
    exact ⟨fun j i x y => by rw [r 38 (by decide), r 39 (by decide)]; exact t1 j i x y, fun a b x y => by rw [r 40 (by decide)]; exact t2 a b x y, fun k hk => by rw [r 45 (by decide), r 46 (by decide), r 47 (by decide)]; exact t3 k hk⟩
  have hsm : sameT (gh sg) (wD sg c k) := wrd_same _ _ _ _
  refine hp s1 ⟨fun q hq a b => by rw [r q b]; exact h1 q hq a b, fun j hj => by rw [r 0 (by decide)]; exact h2 j hj, by rw [r 0 (by decide)]; exact h3, fun i hi => ?_, hJ⟩ ⟨fun q hq => ?_, fun j hj => ?_⟩ (hsm.judgeOn hJ)
  · rw [hs1]
    unfold put3
    rw [s2_i (by omega), s2_i (by omega), s2_i (by omega)]
    exact h4 i (by omega)
  · by_cases e : q = 26
    · subst e
      unfold wD
      rw [wrd_26, hs1, n4]
      funext i
      by_cases e1 : i < 3 * wn ∨ 3 * wn + 3 ≤ i
      · unfold put3
        rw [s2_i (by omega), s2_i (by omega), s2_i (by omega), s2_i (by omega), s2_i (by omega), s2_i (by omega)]
        exact h4 i (by omega)
      · have : i = 3 * wn ∨ i = 3 * wn + 1 ∨ i = 3 * wn + 2 := by omega
        rcases this with e | e | e <;> subst e
        · rw [put3_0, put3_0]
        · rw [put3_1, put3_1]
        · rw [put3_2, put3_2]
    · have q0 : q ≠ 0 := fun e => by rw [e] at hq; cases hq
      unfold wD
      rw [wrd_k q0 e, r q e]
      exact h1 q (offA_in (Or.inl hq)) q0 e
  · unfold wD
    rw [r 0 (by decide)]
    by_cases e : j = 30
    · subst e
      rw [wrd_30, h3, n3, n2]
    · rw [wrd_0 e, h2 j e, s2_i (fun e => by rw [e] at hj; cases hj)]
theorem wS.m {S s : MS} (h : wS sg S s) : mfr sg (s2 s 0 30 (s 0 30 - 1)) ∧ s2 s 0 30 (s 0 30 - 1) 0 2 = 0 := by
  obtain ⟨h1, h2, h3, h4, h5⟩ := h
  have e30 : s 0 30 - 1 = sg 0 30 := by rw [h3, Int32.add_sub_cancel]
  refine ⟨⟨fun k k0 k26 k28 hk => ?_, fun j j2 j40 j41 j42 j43 _ => ?_, fun i hi => ?_, fun i _ => ?_⟩, ?_⟩
  · rw [s2_rowN k0, h1 k ?_ k0 k26, gh_k k0]
    refine ⟨⟨⟨?_, ?_, ?_, ?_, ?_⟩, ?_, ?_, ?_⟩, ?_, ?_, ?_⟩ <;> (intro e; subst e; cases hk)
  · rw [e30]
    by_cases e : j = 30
    · subst e; rw [s2_s]
    · rw [s2_i e, h2 j e, s2_i j2, gh_0 j40 j41 j42 j43]
  · rw [s2_rowN (by decide), h4 i (Or.inl hi), gh_k (by decide)]
  · rw [s2_rowN (by decide), h1 28 (offA_in (Or.inl rfl)) (by decide) (by decide), gh_k (by decide)]
  · rw [s2_i (by decide), h2 2 (by decide), s2_s]
theorem qM_free (h : cR ad T L V P t A sg lw) {c : Nat} (hc : c < nC sg) {w : Int32} (h1 : ¬ w < 0) (h2 : ¬ 1 < w) {post : Int32 → MS → Prop} (hp : ∀ s9 : MS, mfr sg s9 → s9 0 2 = 0 → post (rFree sg lw c w) s9) : wM_free sg (nI c) w post := by
  have hL := h.1.1
  have hT := hL.1
  have hC := h.1.1.2.2.1
  obtain ⟨-, g2, g3, g4, g5⟩ := h.M
  unfold wM_free
  refine sM_isCase (s2c4 hC.1) (by omega) (fun _ _ _ => ?_) (fun q => absurd rfl (q c hc))
  rw [if_neg (by decide), if_neg h1, if_pos (Int32.not_lt.mp h2)]
  refine sM_now h (fun s a1 a2 a3 a4 a5 => ⟨c, by omega, rfl, ?_⟩)
  rw [(a5.2 c (gh_c.mpr hc)).2.1]
  unfold rFree at hp
  by_cases hg : (pG (gh sg) (pTell (gh sg) lw) c).1 < 100000
  · rw [if_pos hg]
    rw [if_neg (show ¬ gB (gh sg) lw c = false from fun q => (of_decide_eq_false q) (Int32.not_le.mpr hg))] at hp
    refine loop0 (F := fun n i (q : Int32 × MS) => lM_free_62 (nI c) w post _ n q.1 i q.2) (nT sg * 61) (fun k q => wS sg (pTell (gh sg) lw) q.2 ∧ ((q.1 = -1 ∧ freeR sg lw c w (nT sg * 61) 0 = freeR sg lw c w (nT sg * 61 - k) k) ∨ ∃ m, m < nT sg * 61 ∧ q.1 = nI m ∧ freeR sg lw c w (nT sg * 61) 0 = if w = 0 then nI (m / nT sg) else nI (m % nT sg))) (-1, s2 s 0 30 (s 0 30 + 1)) ⟨wS.of h a3 a5.1, Or.inl ⟨rfl, rfl⟩⟩ (fun n k q hk hq kk => ?_)
    obtain ⟨x, s1⟩ := q
    obtain ⟨hs, hx⟩ := hq
    dsimp only at hs hx
    show lM_free_62 (nI c) w post _ (n + 1) x (nI k) s1
    unfold lM_free_62 jM_free_135
    have e4 : s1 4 0 = nI (nT sg) := by rw [hs.1 4 (offA_in (Or.inl rfl)) (by decide) (by decide), gh_k (by decide)]; exact hT.1
    have fin : (∃ m, m < nT sg * 61 ∧ x = nI m ∧ freeR sg lw c w (nT sg * 61) 0 = if w = 0 then nI (m / nT sg) else nI (m % nT sg)) ∨ (x = -1 ∧ freeR sg lw c w (nT sg * 61) 0 = -1) → jM_free_142 s1 w x post := by
      intro hh
      have hp' := hp _ hs.m.1 hs.m.2
      unfold jM_free_142
      rw [s2_rowN (show (4 : Nat) ≠ 0 by decide), e4]
      rcases hh with ⟨m, m1, m2, m3⟩ | ⟨m1, m2⟩
      · have hT0 : 0 < nT sg := by
          rcases Nat.eq_zero_or_pos (nT sg) with q | q
          · rw [q] at m1; omega
          · exact q
        rw [m3] at hp'
        rw [m2, if_neg (nI_ne1 (by omega))]
        by_cases c0 : w = 0
        · rw [if_pos c0] at hp' ⊢
          exact ⟨nI_ne0 hT0 (by omega), by rw [nI_div (by omega) (by omega)]; exact hp'⟩
        · rw [if_neg c0] at hp' ⊢
          exact ⟨nI_ne0 hT0 (by omega), by rw [nI_mod (by omega) (by omega)]; exact hp'⟩
      · rw [m2] at hp'
        rw [if_pos m1]
        exact hp'
    have eN : s1 4 0 * 61 = nI (nT sg * 61) := by rw [e4, show (61 : Int32) = nI 61 from rfl, nI_mul]
    rw [eN]
    by_cases hkN : k < nT sg * 61
    · rw [if_neg (nI_ge hkN (by omega))]
      rcases hx with ⟨hx, hf⟩ | hx
      · rw [if_pos hx]
        have hT0 : 0 < nT sg := by
          rcases Nat.eq_zero_or_pos (nT sg) with q | q
          · rw [q] at hkN; omega
          · exact q
        refine ⟨by rw [e4]; exact nI_ne0 hT0 (by omega), by rw [e4]; exact nI_ne0 hT0 (by omega), sM_putW h hs hkN (fun s2' b1 b2' b3 => ?_)⟩
        have hsm : sameT (gh sg) (wD sg c k) := wrd_same _ _ _ _
        have eT : pTell (wD sg c k) lw = pTell (gh sg) lw := hsm.tell lw
        refine sM_judgeCase b2' (wD_ag.lnd hL) (wD_ag.far hL h.1.2.1) (wD_st h hT0 hkN) b3 (hsm.sOk (pTell_ok g2 lw)) (by rw [hsm.nC]; exact gh_c.mpr hc) (fun s3 d1 d2 _ => ⟨c, by omega, rfl, ?_⟩)
        rw [d2.2.1]
        have hs3 := b1.fr d1
        unfold freeR at hf
        rw [firstI_s hkN] at hf
        rw [nI_1]
        by_cases hq : (pG (wD sg c k) (pTell (gh sg) lw) c).1 < 100000
        · rw [if_pos hq]
          have e : gB (wD sg c k) lw c = true := by unfold gB; rw [eT]; exact decide_eq_true (Int32.not_le.mpr hq)
          rw [e, if_neg (by decide)] at hf
          exact kk (-1, s3) hkN ⟨hs3, Or.inl ⟨rfl, hf⟩⟩
        · rw [if_neg hq]
          have e : gB (wD sg c k) lw c = false := by unfold gB; rw [eT]; exact decide_eq_false (fun z => z (Int32.not_lt.mp hq))
          rw [e, if_pos (by decide)] at hf
          exact kk (nI k, s3) hkN ⟨hs3, Or.inr ⟨k, hkN, rfl, hf⟩⟩
      · obtain ⟨m, m1, m2, m3⟩ := hx
        rw [if_neg (by rw [m2]; exact nI_ne1 (by omega))]
        exact fin (Or.inl ⟨m, m1, m2, m3⟩)
    · have ek : k = nT sg * 61 := by omega
      rw [if_pos (nI_le (by omega) (by omega))]
      rcases hx with ⟨hx, hf⟩ | hx
      · refine fin (Or.inr ⟨hx, ?_⟩)
        rw [hf, ek, Nat.sub_self]
        rfl
      · exact fin (Or.inl hx)
  · rw [if_neg hg]
    rw [if_pos (show gB (gh sg) lw c = false from decide_eq_false (fun q => q (Int32.not_lt.mp hg)))] at hp
    exact hp s a1 a2
theorem qM_free0 (h : cR ad T L V P t A sg lw) {x w : Int32} (hx : notN x (nC sg) ∨ w < 0 ∨ 1 < w) {post : Int32 → MS → Prop} (hp : ∀ b s9, mfr sg s9 → s9 0 2 = 1 → post b s9) : wM_free sg x w post := by
  have hC := h.1.1.2.2.1
  unfold wM_free jM_free_22
  refine sM_isCase (s2c4 hC.1) (by omega) (fun k q1 q2 => ?_) (fun q => by rw [if_pos rfl]; exact sM_fail hp)
  rw [if_neg (by decide)]
  by_cases h1 : w < 0
  · rw [if_pos h1]; exact sM_fail hp
  rw [if_neg h1]
  rcases hx with q | q | q
  · exact absurd q2 (q k q1)
  · exact absurd q h1
  · rw [if_neg (fun z => absurd q (Int32.not_lt.mpr z))]; exact sM_fail hp
end Q6
