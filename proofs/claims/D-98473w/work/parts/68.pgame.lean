/-! PURE: game -/
set_option maxRecDepth 100000
def gmD (sg : MS) (c a b : Nat) : MS := s2 (s2 (s2 (gh sg) 0 41 (gh sg 0 41 ||| ((1 : Int32) <<< (nI a &&& 31)))) 0 43 (nI c)) 0 42 ((1 : Int32) <<< (nI b &&& 31))
def gv (sg : MS) (lw : (Nat → Int32) → Int32) (c a b : Nat) : Bool := gB (gmD sg c a b) lw c
/-- whether neither can do better -/
def restB (sg : MS) (lw : (Nat → Int32) → Int32) (c a b : Nat) : Bool := !anyI (fun o => if gv sg lw c a b = true then !gv sg lw c a o else gv sg lw c o b) (nJ sg) 0
def gamF (sg : MS) (lw : (Nat → Int32) → Int32) (c : Nat) : Nat → pP
  | 0 => (0, -1)
  | k + 1 => if restB sg lw c (k / nJ sg) (k % nJ sg) = true then ((gamF sg lw c k).1 + 1, if (gamF sg lw c k).2 = -1 then 10 * nI (k / nJ sg) + nI (k % nJ sg) else (gamF sg lw c k).2) else gamF sg lw c k
theorem gamF_s {sg : MS} {lw : (Nat → Int32) → Int32} {c k : Nat} : gamF sg lw c (k + 1) = if restB sg lw c (k / nJ sg) (k % nJ sg) = true then ((gamF sg lw c k).1 + 1, if (gamF sg lw c k).2 = -1 then 10 * nI (k / nJ sg) + nI (k % nJ sg) else (gamF sg lw c k).2) else gamF sg lw c k := rfl
theorem dm_at {n d k : Nat} (hk : k < n) : (n * d + k) / n = d ∧ (n * d + k) % n = k := by
  refine ⟨?_, ?_⟩
  · rw [Nat.mul_add_div (by omega), Nat.div_eq_of_lt hk, Nat.add_zero]
  · rw [Nat.mul_add_mod, Nat.mod_eq_of_lt hk]
section QA
variable {ad : Nat → Nat} {T L : Nat → Nat} {V : w_V} {P : w_P} {t : Nat} {A : Nat → Nat} {sg : MS} {lw : (Nat → Int32) → Int32}
theorem gmD_ag {c a b : Nat} : agL sg (gmD sg c a b) := agL.of (fun q hq => by unfold gmD; rw [s2_rowN (by omega), s2_rowN (by omega), s2_rowN (by omega), gh_k (by omega)])
theorem gmD_same {c a b : Nat} : sameT (gh sg) (gmD sg c a b) := ⟨fun q h _ => by unfold gmD; rw [s2_rowN h, s2_rowN h, s2_rowN h], fun j _ h0 h1 h2 => by unfold gmD; rw [s2_i h1, s2_i h2, s2_i h0]⟩
theorem gmD_st (h : stOk (gh sg)) {c a b : Nat} : stOk (gmD sg c a b) := ((h.f (by decide) (by decide) (by decide)).f (by decide) (by decide) (by decide)).f (by decide) (by decide) (by decide)
theorem sX_wins (h : cR ad T L V P t A sg lw) (hb : bxP T L P t A) {c a b : Nat} (hc : c < nC sg) (ha : a < nJ sg) (hbj : b < nJ sg) {post : Int32 → w_V → Prop} (hp : ∀ V9 : w_V, cfr V V9 t A → post (b2 (gv sg lw c a b)) V9) : wX1_wins ad T L V P t (nI c) (nI a) (nI b) post := by
  have hJ := h.1.1.2.1
  have hv := h.vw
  obtain ⟨-, g2, g3, g4, g5⟩ := h.M
  obtain ⟨m, m1, m2, m3⟩ := dfS_bit (D := sg) (nJ sg) hJ.2
  have e41 : gh sg 0 41 = nI m := by rw [gh_41, m2]
  unfold wX1_wins
  refine ⟨A 3, hb.1.2.2.2.2.2.1, bx_st hb stI3, A 2, hb.1.2.2.2.2.1, bx_st hb stI2, sX_like3g h hb (fun V1 a1 a2 a3 a4 => ?_)⟩
  have hR := h.fr hb a2
  obtain ⟨j1, j2, j3⟩ := hR.1.2.2.1.2.2.1
  obtain ⟨ja, ja1, ja2⟩ := j3 a ha
  refine ⟨A 5, hb.1.2.1, hR.1.2.2.1.1.1, A 6, j1, j2.1, sJ2_get j2 ha (by omega) ja1 ⟨ja2.jT, ?_⟩⟩
  -- what follows
  have fin : ∀ V2 : w_V, cfr V1 V2 t A → stR T V2 (A 3) (gh sg) → exR V2 (A 3) (s2 (gh sg) 0 41 (gh sg 0 41 ||| ((1 : Int32) <<< (nI a &&& 31)))) → jX1_wins_41 ad T L V2 P t (nI c) (nI b) post := by
    intro V2 b1 b2' b3
    unfold jX1_wins_41
    refine ⟨A 3, hb.1.2.2.2.2.2.1, bx_st hb stI3, fun V3 e3 => ⟨A 3, hb.1.2.2.2.2.2.1, bx_st hb stI3, fun V4 e4 => ?_⟩⟩
    have c3 : cfr V2 V3 t A := by rw [e3]; exact cfr.up hb hv
    have c4 : cfr V3 V4 t A := by rw [e4]; exact cfr.up hb hv
    have hc4 : cfr V V4 t A := a2.tr (b1.tr (c3.tr c4))
    have hs : stR T V4 (A 3) (gmD sg c a b) := by
      rw [e4, e3]
      exact ((((b2'.v (Or.inr (Or.inr (Or.inr rfl)))).v (Or.inr (Or.inr (Or.inl rfl)))).f (by decide) (by decide) (by decide) (by decide)).f (by decide) (by decide) (by decide) (by decide)).f (by decide) (by decide) (by decide) (by decide)
    have he : exR V4 (A 3) (gmD sg c a b) := by rw [e4, e3]; exact b3.mule
    exact sX_isGuilty (h.fr hb hc4) hb gmD_ag (gmD_st g4) hs he hc (fun V5 d1 => ⟨nB_b2 _, hp V5 (hc4.tr d1)⟩)
  have hears : ¬ sg 6 a = 1 → (∃ b34 : Nat, P t 4 = some b34 ∧ T b34 = 6 ∧ (∀ V37 : w_V, V37 = (up3 V1 b34 0 9 ((1 : Int32) <<< ((nI a : Int32) &&& 31))) → (jX1_wins_41 ad T L V37 P t (nI c) (nI b) post))) := by
    intro hk
    refine ⟨A 3, hb.1.2.2.2.2.2.1, bx_st hb stI3, fun V2 e2 => fin V2 (by rw [e2]; exact cfr.up hb hv) (by rw [e2]; exact a3.v (Or.inr (Or.inl rfl))) ?_⟩
    rw [e2]
    refine a4.turn (fun i hi => ?_)
    rw [(gh_ag sg).nJ] at hi
    rw [e41, bit_or m m1 a (by omega) i (by omega), m3 i (by omega), gh_k (by decide), bit_one a (by omega) i (by omega)]
    have e1 : decide (i < nJ sg ∧ sg 6 i = 1) = decide (sg 6 i = 1) := decide_eq_decide.mpr ⟨fun q => q.2, fun q => ⟨hi, q⟩⟩
    have e2' : decide (nI a = nI i) = decide (i = a) := decide_eq_decide.mpr ⟨fun q => ((nI_eq (by omega) (by omega)).mp q).symm, fun q => by rw [q]⟩
    rw [e1, e2']
    by_cases e : i = a
    · subst e
      rw [decide_eq_false hk]; simp
    · rw [decide_eq_false e]
      cases decide (sg 6 i = 1) <;> rfl
  have isdeaf : sg 6 a = 1 → jX1_wins_41 ad T L V1 P t (nI c) (nI b) post := by
    intro hk
    refine fin V1 (cfr.rf _ _ _) a3 ?_
    have ev : V1 (A 3) 0 9 = 0 ∨ True := Or.inr trivial
    unfold exR at a4 ⊢
    rw [nJ_0, s2_s, s2_i (show (40 : Nat) ≠ 41 by decide), s2_i (show (42 : Nat) ≠ 41 by decide), s2_i (show (43 : Nat) ≠ 41 by decide), s2_rowN (show (6 : Nat) ≠ 0 by decide)]
    refine ⟨a4.1, fun i hi => ?_, a4.2.2⟩
    rw [a4.2.1 i hi]
    rw [(gh_ag sg).nJ] at hi
    rw [e41, bit_or m m1 a (by omega) i (by omega), m3 i (by omega)]
    by_cases e : i = a
    · subst e
      rw [decide_eq_true (⟨hi, hk⟩ : i < nJ sg ∧ sg 6 i = 1)]; rfl
    · rw [decide_eq_false e, Bool.or_false]
  unfold wX17_hears wX16_hears
  rcases ja2.1 with ⟨k1, k2⟩ | ⟨k1, k2⟩ | ⟨k1, k2⟩
  · refine ⟨fun _ => ?_, fun e => absurd (k2.symm.trans e) (by decide), fun e => absurd (k2.symm.trans e) (by decide)⟩
    dsimp only
    rw [if_neg (by decide)]
    exact hears (by rw [k1]; decide)
  · refine ⟨fun e => absurd (k2.symm.trans e) (by decide), fun _ => ?_, fun e => absurd (k2.symm.trans e) (by decide)⟩
    dsimp only
    rw [if_neg (by decide), if_pos rfl]
    exact isdeaf k1
  · refine ⟨fun e => absurd (k2.symm.trans e) (by decide), fun e => absurd (k2.symm.trans e) (by decide), fun _ => ?_⟩
    dsimp only
    rw [if_neg (by decide)]
    exact hears (by rw [k1]; decide)
/-- the model's state in a game -/
def gS (sg S s : MS) : Prop := (∀ q, offA q → q ≠ 0 → s q = gh sg q) ∧ (∀ j, j ≠ 42 → j ≠ 43 → s 0 j = s2 (gh sg) 0 2 0 0 j) ∧ judgeOn s (gh sg) S
theorem sM_isGuiltyBy (h : cR ad T L V P t A sg lw) {s : MS} (hs : gS sg (pTell (gh sg) lw) s) {c a b : Nat} (hc : c < nC sg) (ha : a < nJ sg) (hb : b < nJ sg) {post : Int32 → MS → Prop} (hp : ∀ s9 : MS, gS sg (pTell (gh sg) lw) s9 → post (b2 (gv sg lw c a b)) s9) : wM_isGuiltyBy s (nI c) (nI a) (nI b) post := by
  have hL := h.1.1
  have hC := hL.2.2.1
  obtain ⟨-, g2, g3, g4, g5⟩ := h.M
  obtain ⟨h1, h2, h4⟩ := hs
  have e41 : s 0 41 = gh sg 0 41 := by rw [h2 41 (by decide) (by decide), s2_i (by decide)]
  unfold wM_isGuiltyBy
  rw [e41]
  have hI : inp (s2 (s2 (s2 s 0 41 (gh sg 0 41 ||| ((1 : Int32) <<< (nI a &&& 31)))) 0 43 (nI c)) 0 42 ((1 : Int32) <<< (nI b &&& 31))) (gmD sg c a b) := by
    refine ⟨fun q hq => ?_, fun j hj => ?_⟩
    · have q0 : q ≠ 0 := fun e => by rw [e] at hq; cases hq
      unfold gmD
      rw [s2_rowN q0, s2_rowN q0, s2_rowN q0, s2_rowN q0, s2_rowN q0, s2_rowN q0]
      exact h1 q (offA_in (Or.inl hq)) q0
    · unfold gmD
      by_cases e : j = 42
      · subst e; rw [s2_s, s2_s]
      · rw [s2_i e, s2_i e]
        by_cases e2 : j = 43
        · subst e2; rw [s2_s, s2_s]
        · rw [s2_i e2, s2_i e2]
          by_cases e3 : j = 41
          · subst e3; rw [s2_s, s2_s]
          · rw [s2_i e3, s2_i e3, h2 j e e2, s2_i (fun e => by rw [e] at hj; cases hj)]
  have eT : pTell (gmD sg c a b) lw = pTell (gh sg) lw := gmD_same.tell lw
  refine sM_judgeCase hI (gmD_ag.lnd hL) (gmD_ag.far hL h.1.2.1) (gmD_st g4) (gmD_same.judgeOn h4.f0.f0.f0) (gmD_same.sOk (pTell_ok g2 lw)) (by rw [gmD_same.nC]; exact gh_c.mpr hc) (fun s3 d1 d2 _ => ⟨c, by omega, rfl, ?_⟩)
  rw [s2_rowN (show (49 : Nat) ≠ 0 by decide), d2.2.1]
  have o0 : offJ 0 := offJ_in (Or.inr rfl)
  have hs3 : gS sg (pTell (gh sg) lw) (s2 s3 0 41 (gh sg 0 41)) := by
    refine ⟨fun q hq a => by rw [s2_rowN a, d1 q hq.2, s2_rowN a, s2_rowN a, s2_rowN a]; exact h1 q hq a, fun j ha hb => ?_, (h4.f0.f0.f0.tr d1).f0⟩
    by_cases e : j = 41
    · subst e; rw [s2_s, s2_i (by decide)]
    · rw [s2_i e, d1 0 o0, s2_i ha, s2_i hb, s2_i e]; exact h2 j ha hb
  have hp' := hp _ hs3
  unfold gv gB at hp'
  rw [eT] at hp'
  by_cases hg : 100000 ≤ (pG (gmD sg c a b) (pTell (gh sg) lw) c).1
  · rw [if_pos hg]
    rw [decide_eq_false (fun z => z hg)] at hp'
    exact hp'
  · rw [if_neg hg]
    rw [decide_eq_true hg] at hp'
    exact hp'
theorem qM_game (h : cR ad T L V P t A sg lw) {c : Nat} (hc : c < nC sg) {w : Int32} (h1 : ¬ w < 0) (h2 : ¬ 1 < w) {post : Int32 → MS → Prop} (hp : ∀ s9 : MS, mfr sg s9 → s9 0 2 = 0 → post (pick w (gamF sg lw c (nJ sg * nJ sg))) s9) : wM_game sg (nI c) w post := by
  have hL := h.1.1
  have hJ := hL.2.1
  have hC := h.1.1.2.2.1
  obtain ⟨-, g2, g3, g4, g5⟩ := h.M
  have hnn : nJ sg * nJ sg ≤ 25 := Nat.mul_le_mul hJ.2 hJ.2
  unfold wM_game
  refine sM_isCase (s2c4 hC.1) (by omega) (fun _ _ _ => ?_) (fun q => absurd rfl (q c hc))
  rw [if_neg (by decide), if_neg h1, if_pos (Int32.not_lt.mp h2)]
  refine sM_now h (fun s a1 a2 a3 a4 a5 => ?_)
  have i0 : gS sg (pTell (gh sg) lw) s := ⟨fun q hq a => by rw [a3 q hq.1 hq.2, s2_rowN a], fun j _ _ => by rw [a3 0 offA_0.1 offA_0.2], a5.1⟩
  have e4 : ∀ s, gS sg (pTell (gh sg) lw) s → s 4 4 = nI (nJ sg) := fun s hs => by rw [hs.1 4 (offA_in (Or.inl rfl)) (by decide), gh_k (by decide)]; exact hJ.1
  refine loop0 (F := fun n i (q : pP × MS) => lM_game_41 (nI c) w post _ n q.1.1 q.1.2 i q.2) (nJ sg) (fun a q => q.1 = gamF sg lw c (nJ sg * a) ∧ gS sg (pTell (gh sg) lw) q.2) ((0, -1), s) ⟨rfl, i0⟩ (fun n1 a q ha hq kk => ?_)
  obtain ⟨⟨y, f⟩, s1⟩ := q
  obtain ⟨hy, hs⟩ := hq
  dsimp only at hy hs
  show lM_game_41 (nI c) w post _ (n1 + 1) y f (nI a) s1
  unfold lM_game_41
  rw [e4 s1 hs]
  by_cases haN : a < nJ sg
  · rw [if_neg (nI_ge haN (by omega))]
    have hdm : nJ sg * a + nJ sg ≤ nJ sg * nJ sg := by
      rw [← Nat.mul_succ]; exact Nat.mul_le_mul_left _ (by omega)
    refine loop0 (F := fun n i (q : pP × MS) => lM_game_55 (nI c) w (nI a) post _ n q.1.1 q.1.2 i q.2) (nJ sg) (fun b q => q.1 = gamF sg lw c (nJ sg * a + b) ∧ gS sg (pTell (gh sg) lw) q.2) ((y, f), s1) ⟨hy, hs⟩ (fun n2 b q hb hq kk2 => ?_)
    obtain ⟨⟨y1, f1⟩, s2'⟩ := q
    obtain ⟨hy1, hs1⟩ := hq
    dsimp only at hy1 hs1
    show lM_game_55 (nI c) w (nI a) post _ (n2 + 1) y1 f1 (nI b) s2'
    unfold lM_game_55
    rw [e4 s2' hs1]
    by_cases hbN : b < nJ sg
    · rw [if_neg (nI_ge hbN (by omega))]
      obtain ⟨e2, e3⟩ := dm_at (d := a) hbN
      refine sM_isGuiltyBy h hs1 hc haN hbN (fun s3 hs3 => ?_)
      have hn := fun q s4 e (hs4 : gS sg (pTell (gh sg) lw) s4) => kk2 (q, s4) hbN ⟨e, hs4⟩
      rw [show nJ sg * a + (b + 1) = (nJ sg * a + b) + 1 from rfl, gamF_s, ← hy1, e2, e3] at hn
      have fin : ∀ s4, gS sg (pTell (gh sg) lw) s4 → ∀ r : Bool, r = restB sg lw c a b → jM_game_141 s4 (nI c) w y1 f1 (nI a) (nI b) (b2 r) post (lM_game_55 (nI c) w (nI a) post (fun (y16 : Int32) (y17 : Int32) (g18 : MS) => (lM_game_41 (nI c) w post (fun (y20 : Int32) (y21 : Int32) (g22 : MS) => (if (w = 0 : Prop) then (post y20 g22) else (post y21 g22))) n1) y16 y17 (nI a + 1) g18) n2) := by
        intro s4 hs4 r hr
        unfold jM_game_141 jM_game_171 jM_game_173
        rw [nI_1 b]
        rw [← hr] at hn
        cases r with
        | false =>
          rw [if_neg (by decide)] at hn
          rw [if_pos (show b2 false = 0 from rfl)]
          exact hn (y1, f1) s4 rfl hs4
        | true =>
          rw [if_pos rfl] at hn
          rw [if_neg (show ¬ b2 true = 0 by decide)]
          dsimp only at hn
          by_cases hf : f1 = -1
          · rw [if_pos hf] at hn ⊢
            exact hn (_, _) s4 rfl hs4
          · rw [if_neg hf] at hn ⊢
            exact hn (_, _) s4 rfl hs4
      have sp : ∀ N k, k < N → anyI (fun o => if gv sg lw c a b = true then !gv sg lw c a o else gv sg lw c o b) (N - k) k = if (if gv sg lw c a b = true then !gv sg lw c a k else gv sg lw c k b) = true then true else anyI (fun o => if gv sg lw c a b = true then !gv sg lw c a o else gv sg lw c o b) (N - (k + 1)) (k + 1) := fun N k hk => anyI_s hk
      refine loop0 (F := fun n i (q : Bool × MS) => lM_game_83 (nI c) w y1 f1 (nI a) (nI b) (b2 (gv sg lw c a b)) post _ n (b2 q.1) i q.2) (nJ sg) (fun k q => gS sg (pTell (gh sg) lw) q.2 ∧ ((q.1 = true ∧ restB sg lw c a b = !anyI (fun o => if gv sg lw c a b = true then !gv sg lw c a o else gv sg lw c o b) (nJ sg - k) k) ∨ (q.1 = false ∧ restB sg lw c a b = false))) (true, s3) ⟨hs3, Or.inl ⟨rfl, rfl⟩⟩ (fun n3 k q hk hq kk3 => ?_)
      obtain ⟨r, s4⟩ := q
      obtain ⟨hs4, hr⟩ := hq
      dsimp only at hs4 hr
      show lM_game_83 (nI c) w y1 f1 (nI a) (nI b) (b2 (gv sg lw c a b)) post _ (n3 + 1) (b2 r) (nI k) s4
      unfold lM_game_83 jM_game_133
      rw [e4 s4 hs4]
      by_cases hkN : k < nJ sg
      · rw [if_neg (nI_ge hkN (by omega))]
        rcases hr with ⟨hr, hr2⟩ | ⟨hr, hr2⟩
        · subst hr
          rw [if_neg (show ¬ b2 true = 0 by decide), nI_1 k]
          rw [sp (nJ sg) k hkN] at hr2
          cases hv : gv sg lw c a b with
          | false =>
            rw [if_pos (show b2 false = 0 from rfl)]
            rw [hv, if_neg (show ¬ false = true by decide)] at hr2
            refine sM_isGuiltyBy h hs4 hc hkN hbN (fun s5 hs5 => ?_)
            rw [hv] at kk3
            cases hv2 : gv sg lw c k b with
            | false =>
              rw [hv2, if_neg (show ¬ false = true by decide)] at hr2
              rw [if_pos (show b2 false = 0 from rfl)]
              exact kk3 (true, s5) hkN ⟨hs5, Or.inl ⟨rfl, hr2⟩⟩
            | true =>
              rw [hv2, if_pos rfl] at hr2
              rw [if_neg (show ¬ b2 true = 0 by decide)]
              exact kk3 (false, s5) hkN ⟨hs5, Or.inr ⟨rfl, hr2⟩⟩
          | true =>
            rw [if_neg (show ¬ b2 true = 0 by decide)]
            rw [hv, if_pos (show true = true from rfl)] at hr2
            refine sM_isGuiltyBy h hs4 hc haN hkN (fun s5 hs5 => ?_)
            rw [hv] at kk3
            cases hv2 : gv sg lw c a k with
            | false =>
              rw [hv2, if_pos (show (!false) = true from rfl)] at hr2
              exact kk3 (false, s5) hkN ⟨hs5, Or.inr ⟨rfl, hr2⟩⟩
            | true =>
              rw [hv2, if_neg (show ¬ (!true) = true by decide)] at hr2
              exact kk3 (true, s5) hkN ⟨hs5, Or.inl ⟨rfl, hr2⟩⟩
        · subst hr
          rw [if_pos (show b2 false = 0 from rfl)]
          exact fin s4 hs4 false hr2.symm
      · have ek : k = nJ sg := by omega
        rw [if_pos (nI_le (by omega) (by omega))]
        rcases hr with ⟨hr, hr2⟩ | ⟨hr, hr2⟩
        · subst hr
          rw [ek, anyI_z] at hr2
          exact fin s4 hs4 true hr2.symm
        · subst hr
          exact fin s4 hs4 false hr2.symm
    · have ebn : b = nJ sg := by omega
      rw [if_pos (nI_le (by omega) (by omega)), nI_1 a]
      refine kk ((y1, f1), s2') haN ⟨?_, hs1⟩
      rw [ebn] at hy1
      exact hy1
  · have ea : a = nJ sg := by omega
    rw [if_pos (nI_le (by omega) (by omega))]
    obtain ⟨h1', h2', h3'⟩ := hs
    have hp' := hp s1 ⟨fun q q0 q26 q28 hq => ?_, fun j j2 j40 j41 j42 j43 _ => ?_, fun i _ => ?_, fun i _ => ?_⟩ ?_
    · rw [ea] at hy
      rw [← hy] at hp'
      unfold pick at hp'
      by_cases c0 : w = 0
      · rw [if_pos c0] at hp' ⊢; exact hp'
      · rw [if_neg c0] at hp' ⊢; exact hp'
    · rw [h1' q ?_ q0, gh_k q0]
      refine ⟨⟨⟨?_, ?_, ?_, ?_, ?_⟩, ?_, ?_, ?_⟩, ?_, ?_, ?_⟩ <;> (intro e; subst e; cases hq)
    · rw [h2' j j42 j43, s2_i j2, gh_0 j40 j41 j42 j43]
    · rw [h1' 26 (offA_in (Or.inl rfl)) (by decide), gh_k (by decide)]
    · rw [h1' 28 (offA_in (Or.inl rfl)) (by decide), gh_k (by decide)]
    · rw [h2' 2 (by decide) (by decide), s2_s]
theorem qM_game0 (h : cR ad T L V P t A sg lw) {x w : Int32} (hx : notN x (nC sg) ∨ w < 0 ∨ 1 < w) {post : Int32 → MS → Prop} (hp : ∀ b s9, mfr sg s9 → s9 0 2 = 1 → post b s9) : wM_game sg x w post := by
  have hC := h.1.1.2.2.1
  unfold wM_game jM_game_22
  refine sM_isCase (s2c4 hC.1) (by omega) (fun k q1 q2 => ?_) (fun q => by rw [if_pos rfl]; exact sM_fail hp)
  rw [if_neg (by decide)]
  by_cases h1 : w < 0
  · rw [if_pos h1]; exact sM_fail hp
  rw [if_neg h1]
  rcases hx with q | q | q
  · exact absurd q2 (q k q1)
  · exact absurd q h1
  · rw [if_neg (fun z => absurd q (Int32.not_lt.mpr z))]; exact sM_fail hp
end QA
