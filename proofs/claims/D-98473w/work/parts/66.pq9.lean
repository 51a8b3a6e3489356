/-! PURE: season -/
set_option maxRecDepth 100000
def drw (i : Int32) : Int32 := i * 1103515245 + 12345
def dv (i n : Int32) : Int32 := ((i >>> ((16 : Int32) &&& 31)) &&& 32767) - ((i >>> ((16 : Int32) &&& 31)) &&& 32767) / n * n
theorem and_32767 (x : Int32) : ∃ m, m ≤ 32767 ∧ x &&& 32767 = nI m := by
  refine ⟨(x &&& 32767).toBitVec.toNat, ?_, ?_⟩
  · rw [Int32.toBitVec_and, BitVec.toNat_and]
    exact Nat.and_le_right
  · apply Int32.toBitVec_inj.mp
    apply BitVec.eq_of_toNat_eq
    show _ = (BitVec.ofNat 32 _).toNat
    rw [BitVec.toNat_ofNat, Nat.mod_eq_of_lt (BitVec.isLt _)]
theorem dv_nat (i : Int32) {n : Nat} (h0 : 0 < n) (hn : n ≤ 100) : ∃ m, m < n ∧ dv i (nI n) = nI m := by
  obtain ⟨m, h1, h2⟩ := and_32767 (i >>> ((16 : Int32) &&& 31))
  refine ⟨m % n, Nat.mod_lt _ h0, ?_⟩
  unfold dv
  rw [h2]
  exact nI_mod (by omega) (by omega)
def sStep (n : Int32) (p : Int32 × MS) : Int32 × MS := (drw (drw (drw p.1)), fld p.2 (dv (drw p.1) n) (dv (drw (drw p.1)) 30) (dv (drw (drw (drw p.1))) 6))
def sIt (sg : MS) (i : Int32) : Nat → Int32 × MS
  | 0 => (i, gh sg)
  | j + 1 => sStep (nI (nT sg)) (sIt sg i j)
theorem sStep_2 {n : Int32} {p : Int32 × MS} : (sStep n p).2 = fld p.2 (dv (drw p.1) n) (dv (drw (drw p.1)) 30) (dv (drw (drw (drw p.1))) 6) := rfl
theorem sIt_s {sg : MS} {i : Int32} {j : Nat} : sIt sg i (j + 1) = sStep (nI (nT sg)) (sIt sg i j) := rfl
def sJ (sg : MS) : Nat := if nT sg = 0 then 0 else 2
/-- a year's worth -/
def yr (sg : MS) (lw : (Nat → Int32) → Int32) (i : Int32) : Int32 := pN (sIt sg i (sJ sg)).2 (pTell (sIt sg i (sJ sg)).2 lw)
def seaF (sg : MS) (lw : (Nat → Int32) → Int32) (seed : Int32) : Nat → pP × pP
  | 0 => ((seed, 0), (0, 0))
  | k + 1 => (((sIt sg (seaF sg lw seed k).1.1 (sJ sg)).1, (seaF sg lw seed k).1.2 + yr sg lw (seaF sg lw seed k).1.1), (if k = 0 then yr sg lw (seaF sg lw seed k).1.1 else if yr sg lw (seaF sg lw seed k).1.1 < (seaF sg lw seed k).2.1 then yr sg lw (seaF sg lw seed k).1.1 else (seaF sg lw seed k).2.1, if yr sg lw (seaF sg lw seed k).1.1 = nI (nC sg) then (seaF sg lw seed k).2.2 + 1 else (seaF sg lw seed k).2.2))
theorem seaF_s {sg : MS} {lw : (Nat → Int32) → Int32} {seed : Int32} {k : Nat} : seaF sg lw seed (k + 1) = (((sIt sg (seaF sg lw seed k).1.1 (sJ sg)).1, (seaF sg lw seed k).1.2 + yr sg lw (seaF sg lw seed k).1.1), (if k = 0 then yr sg lw (seaF sg lw seed k).1.1 else if yr sg lw (seaF sg lw seed k).1.1 < (seaF sg lw seed k).2.1 then yr sg lw (seaF sg lw seed k).1.1 else (seaF sg lw seed k).2.1, if yr sg lw (seaF sg lw seed k).1.1 = nI (nC sg) then (seaF sg lw seed k).2.2 + 1 else (seaF sg lw seed k).2.2)) := rfl
def rSea (sg : MS) (lw : (Nat → Int32) → Int32) (seed : Int32) (N : Nat) (w : Int32) : Int32 := if w = 0 then (seaF sg lw seed N).1.2 else if w = 1 then (seaF sg lw seed N).2.1 else (seaF sg lw seed N).2.2
section Q9
variable {ad : Nat → Nat} {T L : Nat → Nat} {V : w_V} {P : w_P} {t : Nat} {A : Nat → Nat} {sg : MS} {lw : (Nat → Int32) → Int32}
theorem sX_run2 {D : MS} (h : cR ad T L V P t A sg lw) (hb : bxP T L P t A) (ha : agL sg D) (hO : stOk D) (hs : stR T V (A 3) D) (he : exR V (A 3) D) {post : Int32 → w_V → Prop} (hp : ∀ V9 : w_V, cfr V V9 t A → V9 t = V t → post (pN D (pTell D lw)) V9) : wX7_all ad T L V P (A 4) post := by
  have hv := h.vw
  refine sX_all (ha.lnd h.1.1) (ha.far h.1.1 h.1.2.1) hO (trX h hb (cfr.rf V t A) ha hs he) (fun V9 a1 a2 => hp V9 (cfr.of (fun a _ q1 q2 => a1 a q1 q2) (T_ne hb.1.1 (bx_st hb stI3) (by decide)) (T_ne hb.1.1 hb.2.2.2.2.1.1 (by decide)) (T_ne hb.1.1 hv (by decide))) (a1 t (T_ne hb.1.1 hb.2.2.2.2.1.1 (by decide)) (T_ne hb.1.1 hv (by decide))))
/-- a flood more, of what is tried -/
theorem sX_floods {D : MS} (hb : bxP T L P t A) (hv : T (A 10) = 4) (hO : stOk D) (hw : tn (D 0 32) ≤ 5) (hs : stR T V (A 3) D) (he : exR V (A 3) D) {x y z : Int32} {post : w_V → Prop} (hp : ∀ V9 : w_V, cfr V V9 t A → V9 t = V t → stR T V9 (A 3) (fld D x y z) → exR V9 (A 3) (fld D x y z) → post V9) : wX6_floods ad T L V P (A 3) x y z post := by
  obtain ⟨w1, w2⟩ := hO.2.2.2.1
  unfold wX6_floods wX6_puts
  have e5 : V (A 3) 0 7 = nI (tn (D 0 32)) := by rw [hs.2.2.2.2.2.1]; exact w1
  rw [e5]
  refine ⟨3 * tn (D 0 32), by omega, ix3 _, fun V1 e1 => ⟨3 * tn (D 0 32) + 1, by omega, ix31 _, fun V2 e2 => ⟨3 * tn (D 0 32) + 2, by omega, ix32 _, fun V3 e3 V4 e4 => ?_⟩⟩⟩
  have ep : V3 (A 3) = put3 (V (A 3)) 4 (tn (D 0 32)) x y z := by rw [e3, e2, e1, up3_put]
  have e44 : V4 (A 3) = s2 (V3 (A 3)) 0 7 (V3 (A 3) 0 7 + 1) := by rw [e4, up3_a]
  have fr : ∀ a, a ≠ A 3 → V4 a = V a := fun a ha => by rw [e4, up3_n ha, e3, up3_n ha, e2, up3_n ha, e1, up3_n ha]
  refine hp V4 (cfr.one hb hv fr) (fr t (T_ne hb.1.1 (bx_st hb stI3) (by decide))) (hs.fld hO ep e44) ?_
  have f : ∀ i, i = 8 ∨ i = 9 ∨ i = 10 ∨ i = 11 → V4 (A 3) 0 i = V (A 3) 0 i := fun i hi => by
    rw [e44, s2_i (by omega), ep, put3_n (by decide)]
  unfold exR at he ⊢
  rw [f 8 (by decide), f 9 (by decide), f 10 (by decide), f 11 (by decide), (fld_ag D x y z).nJ, fld_0 (j := 40) (by decide), fld_0 (j := 41) (by decide), fld_0 (j := 42) (by decide), fld_0 (j := 43) (by decide), fld_k (k := 6) (by decide) (by decide)]
  exact he
theorem gh_fn (h : cR ad T L V P t A sg lw) : ∃ n, n ≤ 4 ∧ sg 0 32 = nI n ∧ gh sg 0 32 = nI n ∧ tn (gh sg 0 32) = n ∧ tn (sg 0 32) = n := by
  obtain ⟨q1, q2⟩ := h.2.1.2.2.2.2.1
  rw [pk_8] at q1 q2
  have e : gh sg 0 32 = sg 0 32 := gh_0 (by decide) (by decide) (by decide) (by decide)
  exact ⟨tn (sg 0 32), q2, q1, by rw [e]; exact q1, by rw [e], rfl⟩
theorem fld_ok {D : MS} {n : Nat} (hT : 0 < n) (hn : n ≤ 9) (eT : nT D = n) (hO : stOk D) (hw : tn (D 0 32) ≤ 5) (i : Int32) : stOk (sStep (nI n) (i, D)).2 := by
  obtain ⟨a, a1, a2⟩ := dv_nat (drw i) hT (by omega)
  obtain ⟨b, b1, b2'⟩ := dv_nat (drw (drw (drw i))) (n := 6) (by decide) (by decide)
  show stOk (fld D (dv (drw i) (nI n)) (dv (drw (drw i)) 30) (dv (drw (drw (drw i))) 6))
  rw [a2, show (6 : Int32) = nI 6 from rfl, b2']
  exact hO.fld hw (by rw [eT]; exact a1) (by omega)
theorem sIt_ok (h : cR ad T L V P t A sg lw) (i : Int32) : ∀ j, (0 < nT sg ∨ j = 0) → j ≤ 2 → stOk (sIt sg i j).2 ∧ agL sg (sIt sg i j).2 ∧ (∃ n, n ≤ 4 ∧ sg 0 32 = nI n ∧ (sIt sg i j).2 0 32 = nI (n + j)) ∧ (∀ k, k ≠ 0 → k ≠ 28 → (sIt sg i j).2 k = gh sg k) ∧ ∀ k, k ≠ 32 → (sIt sg i j).2 0 k = gh sg 0 k
  | 0, _, _ => by
    obtain ⟨-, g2, g3, g4, g5⟩ := h.M
    obtain ⟨n, n1, n2, n3, -, -⟩ := gh_fn h
    exact ⟨g4, gh_ag sg, ⟨n, n1, n2, n3⟩, fun _ _ _ => rfl, fun _ _ => rfl⟩
  | j + 1, h0, hj => by
    have hT0 : 0 < nT sg := h0.resolve_right (by omega)
    obtain ⟨q1, q2, ⟨n, n1, n2, n3⟩, q4, q5⟩ := sIt_ok h i j (Or.inl hT0) (by omega)
    have hT := h.1.1.1
    have et : tn ((sIt sg i j).2 0 32) = n + j := by rw [n3, tn_nI (by omega)]
    rw [sIt_s]
    refine ⟨fld_ok hT0 hT.2 q2.nT q1 (by omega) _, ?_, ⟨n, n1, n2, ?_⟩, fun k h1 h2 => ?_, fun k hk => ?_⟩
    · exact agL.of (fun k hk => by
        rw [sStep_2, fld_k (by omega) (by omega), q4 k (by omega) (by omega), gh_k (by omega)])
    · rw [sStep_2, fld_32, n3, nI_1]; rfl
    · rw [sStep_2, fld_k h1 h2]; exact q4 k h1 h2
    · rw [sStep_2, fld_0 hk]; exact q5 k hk
theorem sX_draw {n : Nat} (hn : 0 < n) (hn2 : n ≤ 100) {i : Int32} (hi : V t 0 10 = i) {post : Int32 → w_V → Prop} (hp : ∀ V9 : w_V, V9 = up3 V t 0 10 (drw i) → post (dv (drw i) (nI n)) V9) : wX1_draw ad T L V P t (nI n) post := by
  unfold wX1_draw
  intro V1 e1
  refine ⟨nI_ne0 hn (by omega), ?_⟩
  have e : V1 t 0 10 = drw i := by rw [e1, up3_a, s2_s, hi]; rfl
  rw [e]
  exact hp V1 (by rw [e1, hi]; rfl)
theorem cfr.its {x : Int32} (hb : bxP T L P t A) : cfr V (up3 V t 0 10 x) t A := ⟨fun a _ _ _ h => up3_n h, fun k i q => by
  rw [up3_a]
  unfold s2
  exact if_neg q⟩
theorem qX_season (h : cR ad T L V P t A sg lw) (hb : bxP T L P t A) {x y w : Int32} {post : Int32 → w_V → Prop} {xp : String → w_V → w_P → Prop} (hp : ∀ N, N ≤ 40 → y = nI N → ¬ w < 0 → ¬ 2 < w → ∀ V9, cfr V V9 t A → post (rSea sg lw x N w) V9) (h0 : w < 0 ∨ 2 < w → xp cNSE V P) (h02 : ¬ w < 0 → ¬ 2 < w → y < 0 ∨ 40 < y → xp cIAE V P) : wX1_season ad T L V P t x y w post xp := by
  have hT := h.1.1.1
  have hC := h.1.1.2.2.1
  have hv := h.vw
  have nt3 : A 3 ≠ t := fun e => T_ne hb.1.1 (bx_st hb stI3) (by decide) e.symm
  unfold wX1_season
  refine sX_within (fun q1 q2 => sX_there1 (sX_within (fun q3 q4 => sX_right1 ?_) (fun q => sX_right0 (h02 q1 q2 q)))) (fun q => sX_there0 (h0 q))
  obtain ⟨N, hN, eN⟩ := le_of2 (n := 40) (by decide) q3 q4
  have hp' := hp N hN eN q1 q2
  subst eN
  intro V1 e1
  have hc1 : cfr V V1 t A := by rw [e1]; exact cfr.its hb
  refine loop0 (F := fun n i (q : (pP × pP) × w_V) => lX1_season_36 ad T L P t (nI N) w post xp _ n q.1.1.2 q.1.2.1 q.1.2.2 i q.2) N (fun k q => q.1 = seaF sg lw x k ∧ cfr V q.2 t A ∧ q.2 t 0 10 = q.1.1.1) (((x, 0), (0, 0)), V1) ⟨rfl, hc1, by show V1 t 0 10 = x; rw [e1, up3_a, s2_s]⟩ (fun n1 k q hk hq kk => ?_)
  obtain ⟨⟨⟨its, al⟩, ⟨fe, fu⟩⟩, W⟩ := q
  obtain ⟨hq, hW, hi⟩ := hq
  dsimp only at hq hW hi
  have hR := h.fr hb hW
  show lX1_season_36 ad T L P t (nI N) w post xp _ (n1 + 1) al fe fu (nI k) W
  unfold lX1_season_36
  by_cases hkN : k < N
  · rw [if_neg (nI_ge hkN (by omega))]
    refine ⟨A 3, hb.1.2.2.2.2.2.1, bx_st hb stI3, A 2, hb.1.2.2.2.2.1, bx_st hb stI2, sX_like3g hR hb (fun V2 a1 a2 a3 a4 => ?_)⟩
    have hi2 : V2 t 0 10 = its := by rw [a1 t (fun e => nt3 e.symm)]; exact hi
    -- what comes after the floods
    have fin : ∀ V3 : w_V, cfr V V3 t A → V3 t 0 10 = (sIt sg its (sJ sg)).1 → stR T V3 (A 3) (sIt sg its (sJ sg)).2 → exR V3 (A 3) (sIt sg its (sJ sg)).2 → (0 < nT sg ∨ sJ sg = 0) → sJ sg ≤ 2 → jX1_season_116 ad T L V3 P t (nI N) w al fe fu (nI k) post xp (lX1_season_36 ad T L P t (nI N) w post xp (fun (y57 : Int32) (y58 : Int32) (y59 : Int32) (V60 : w_V) => (if (w = 0 : Prop) then (post y57 V60) else (if (w = 1 : Prop) then (post y58 V60) else (post y59 V60)))) n1) := by
      intro V3 b1 b2' b3 b4 hj1 hj2
      have hR3 := h.fr hb b1
      obtain ⟨o1, o2, -, -, -⟩ := sIt_ok h its (sJ sg) hj1 hj2
      unfold jX1_season_116
      refine ⟨A 4, hb.1.2.2.2.2.2.2, hb.2.2.2.2.1.1, sX_run2 hR3 hb o2 o1 b3 b4 (fun V4 d1 d2 => ?_)⟩
      have hW4 : cfr V V4 t A := b1.tr d1
      have hR4 := h.fr hb hW4
      have hi4 : V4 t 0 10 = (sIt sg its (sJ sg)).1 := by rw [d2]; exact b2'
      have hn := fun q e e2 => kk (q, V4) hkN ⟨e, hW4, e2⟩
      rw [seaF_s, ← hq] at hn
      dsimp only at hn
      have ey : pN (sIt sg its (sJ sg)).2 (pTell (sIt sg its (sJ sg)).2 lw) = yr sg lw its := rfl
      rw [ey]
      unfold jX1_season_149 jX1_season_163
      rw [nI_1]
      have k0 : (nI k = 0) ↔ k = 0 := by rw [show (0 : Int32) = nI 0 from rfl]; exact nI_eq (by omega) (by decide)
      by_cases hk0 : k = 0
      · rw [if_pos (k0.mpr hk0)]
        rw [if_pos hk0] at hn
        refine sX1_cases hR4 hb ?_
        by_cases hf : yr sg lw its = nI (nC sg)
        · rw [if_pos hf] at hn ⊢
          exact hn (((_, _), (_, _))) rfl hi4
        · rw [if_neg hf] at hn ⊢
          exact hn (((_, _), (_, _))) rfl hi4
      · rw [if_neg (fun z => hk0 (k0.mp z))]
        rw [if_neg hk0] at hn
        refine sX1_cases hR4 hb ?_
        by_cases hf : yr sg lw its = nI (nC sg)
        · rw [if_pos hf] at hn ⊢
          exact hn (((_, _), (_, _))) rfl hi4
        · rw [if_neg hf] at hn ⊢
          exact hn (((_, _), (_, _))) rfl hi4
    have hW2 : cfr V V2 t A := hW.tr a2
    rcases Nat.eq_zero_or_pos (nT sg) with hz | hz
    · have ej : sJ sg = 0 := if_pos hz
      have fin2 := fin V2 hW2 (by rw [ej]; exact hi2) (by rw [ej]; exact a3) (by rw [ej]; exact a4) (Or.inr ej) (by omega)
      refine ⟨1, ?_⟩
      unfold lX1_season_56
      rw [if_neg (by decide)]
      have hR2 := h.fr hb hW2
      refine ⟨A 5, hb.1.2.1, hR2.1.2.2.1.1.1, ?_⟩
      rw [hR2.1.2.2.1.1.2.1, hT.1, hz, if_pos (show nI 0 ≤ 0 by decide)]
      exact fin2
    · have ej : sJ sg = 2 := if_neg (by omega)
      rw [ej] at fin
      refine loop0 (F := fun n i (V : w_V) => lX1_season_56 ad T L P t (nI N) w al fe fu (nI k) post xp _ n i V) 2 (fun j V3 => cfr V V3 t A ∧ V3 t 0 10 = (sIt sg its j).1 ∧ stR T V3 (A 3) (sIt sg its j).2 ∧ exR V3 (A 3) (sIt sg its j).2) V2 ⟨hW2, hi2, a3, a4⟩ (fun n2 j V3 hj hs kk2 => ?_)
      obtain ⟨b1, b2', b3, b4⟩ := hs
      show lX1_season_56 ad T L P t (nI N) w al fe fu (nI k) post xp _ (n2 + 1) (nI j) V3
      unfold lX1_season_56
      by_cases hjN : j < 2
      · rw [if_neg (show ¬ (2 : Int32) ≤ nI j from nI_ge (b := 2) hjN (by decide)), nI_1 j]
        have hR3 := h.fr hb b1
        obtain ⟨o1, o2, ⟨fn, f1, f2, f3⟩, -, -⟩ := sIt_ok h its j (Or.inl hz) (by omega)
        refine ⟨A 5, hb.1.2.1, hR3.1.2.2.1.1.1, ?_⟩
        rw [hR3.1.2.2.1.1.2.1, hT.1, if_neg (nI_nle hz (by omega))]
        refine ⟨A 5, hb.1.2.1, hR3.1.2.2.1.1.1, ?_⟩
        rw [hR3.1.2.2.1.1.2.1, hT.1]
        refine sX_draw hz (by omega) b2' (fun V4 e4 => ?_)
        have i4 : V4 t 0 10 = drw (sIt sg its j).1 := by rw [e4, up3_a, s2_s]
        refine sX_draw (n := 30) (by decide) (by decide) i4 (fun V5 e5 => ⟨A 3, hb.1.2.2.2.2.2.1, bx_st hb stI3, ?_⟩)
        have i5 : V5 t 0 10 = drw (drw (sIt sg its j).1) := by rw [e5, up3_a, s2_s]
        refine sX_draw (n := 6) (by decide) (by decide) i5 (fun V6 e6 => ?_)
        have i6 : V6 t 0 10 = drw (drw (drw (sIt sg its j).1)) := by rw [e6, up3_a, s2_s]
        have c6 : cfr V3 V6 t A := by
          have c4 : cfr V3 V4 t A := by rw [e4]; exact cfr.its hb
          have c5 : cfr V4 V5 t A := by rw [e5]; exact cfr.its hb
          have c6 : cfr V5 V6 t A := by rw [e6]; exact cfr.its hb
          exact c4.tr (c5.tr c6)
        have s6 : V6 (A 3) = V3 (A 3) := by rw [e6, up3_n nt3, e5, up3_n nt3, e4, up3_n nt3]
        refine sX_floods hb hv o1 (by rw [f3, tn_nI (by omega)]; omega) (by unfold stR at b3 ⊢; rw [s6]; exact b3) (by unfold exR at b4 ⊢; rw [s6]; exact b4) (fun V7 d1 d2 d3 d4 => ?_)
        exact kk2 V7 hjN ⟨b1.tr (c6.tr d1), by rw [d2]; exact i6, d3, d4⟩
      · have ej2 : j = 2 := by omega
        rw [if_pos (show (2 : Int32) ≤ nI j by rw [ej2]; decide)]
        rw [ej2] at b2' b3 b4
        exact fin V3 b1 b2' b3 b4 (Or.inl hz) (by decide)
  · have ek : k = N := by omega
    rw [if_pos (nI_le (by omega) (by omega))]
    have hp2 := hp' W hW
    unfold rSea at hp2
    rw [← ek, ← hq] at hp2
    by_cases c0 : w = 0
    · rw [if_pos c0] at hp2 ⊢; exact hp2
    rw [if_neg c0] at hp2 ⊢
    by_cases c1 : w = 1
    · rw [if_pos c1] at hp2 ⊢; exact hp2
    · rw [if_neg c1] at hp2 ⊢; exact hp2
/-- the model's state from year to year -/
def sS (sg s : MS) (i : Int32) (j : Nat) (D : MS) : Prop := (∀ q, offA q → q ≠ 0 → q ≠ 28 → s q = gh sg q) ∧ (∀ k, k ≠ 32 → k ≠ 53 → s 0 k = s2 (gh sg) 0 2 0 0 k) ∧ s 0 53 = i ∧ s 0 32 = sg 0 32 + nI j ∧ (∀ k, ¬ (3 * tn (sg 0 32) + 3 * j ≤ k ∧ k < 3 * tn (sg 0 32) + 6) → s 28 k = D 28 k) ∧ (nT sg = 0 → s 28 = gh sg 28)
theorem sM_draw {s : MS} {n : Nat} (hn : 0 < n) (hn2 : n ≤ 100) {i : Int32} (hi : s 0 53 = i) {post : Int32 → MS → Prop} (hp : post (dv (drw i) (nI n)) (s2 s 0 53 (drw i))) : wM_drawOf s (nI n) post := by
  unfold wM_drawOf
  refine ⟨nI_ne0 hn (by omega), ?_⟩
  rw [hi, s2_s]
  exact hp
theorem qM_season (h : cR ad T L V P t A sg lw) {N : Nat} (hN : N ≤ 40) {x w : Int32} (h1 : ¬ w < 0) (h2 : ¬ 2 < w) {post : Int32 → MS → Prop} (hp : ∀ s9 : MS, mfr sg s9 → s9 0 2 = 0 → post (rSea sg lw x N w) s9) : wM_season sg x (nI N) w post := by
  have hL := h.1.1
  have hT := hL.1
  have hC := hL.2.2.1
  obtain ⟨fn, f1, f2, f3, f4, f5⟩ := gh_fn h
  unfold wM_season
  refine sM_isIn (a := 0) (b := 2) (by decide) (by decide) (fun _ _ => ?_) (fun q => absurd q (fun z => z.elim h1 h2))
  rw [if_neg (by decide)]
  refine sM_isIn (a := 0) (b := 40) (by decide) (by decide) (fun _ _ => ?_) (fun q => absurd q (fun z => z.elim (nI_pos (by omega)) (nI_nlt (a := 40) hN (by decide))))
  rw [if_neg (by decide)]
  refine sM_set0 h ?_
  have e32 : s2 (s2 (gh sg) 0 2 0) 0 53 x 0 32 = nI fn := by rw [s2_i (by decide), s2_i (by decide), f3]
  rw [e32]
  have i0 : sS sg (s2 (s2 (gh sg) 0 2 0) 0 53 x) x 0 (gh sg) := by
    refine ⟨fun q _ a _ => ?_, fun k _ hk => ?_, s2_s, ?_, fun k _ => ?_, fun _ => ?_⟩
    · rw [s2_rowN a, s2_rowN a]
    · rw [s2_i hk]
    · rw [e32, f2, show nI 0 = 0 from rfl, Int32.add_zero]
    · rw [s2_rowN (by decide), s2_rowN (by decide)]
    · rw [s2_rowN (by decide), s2_rowN (by decide)]
  refine loop0 (F := fun n i (q : (pP × pP) × MS) => lM_season_68 (nI N) w (nI fn) post _ n q.1.1.2 q.1.2.1 q.1.2.2 i q.2) N (fun k q => q.1 = seaF sg lw x k ∧ sS sg q.2 q.1.1.1 0 (gh sg)) (((x, 0), (0, 0)), s2 (s2 (gh sg) 0 2 0) 0 53 x) ⟨rfl, i0⟩ (fun n1 k q hk hq kk => ?_)
  obtain ⟨⟨⟨its, al⟩, ⟨fe, fu⟩⟩, s⟩ := q
  obtain ⟨hq, hs⟩ := hq
  dsimp only at hq hs
  show lM_season_68 (nI N) w (nI fn) post _ (n1 + 1) al fe fu (nI k) s
  unfold lM_season_68
  by_cases hkN : k < N
  · rw [if_neg (nI_ge hkN (by omega))]
    have fin : ∀ s3 : MS, sS sg s3 (sIt sg its (sJ sg)).1 (sJ sg) (sIt sg its (sJ sg)).2 → (0 < nT sg ∨ sJ sg = 0) → sJ sg ≤ 2 → s3 28 = (sIt sg its (sJ sg)).2 28 → jM_season_149 s3 (nI N) w al fe fu (nI fn) (nI k) post (lM_season_68 (nI N) w (nI fn) post (fun (y19 : Int32) (y20 : Int32) (y21 : Int32) (g22 : MS) => (if (w = 0 : Prop) then (post y19 g22) else (if (w = 1 : Prop) then (post y20 g22) else (post y21 g22)))) n1) := by
      intro s3 b hj1 hj2 b28
      obtain ⟨b1, b2', b3, b4, b5, b6⟩ := b
      obtain ⟨o1, o2, ⟨fn2, u1, u2, u3⟩, o4, o5⟩ := sIt_ok h its (sJ sg) hj1 hj2
      have efn : fn2 = fn := by
        have := f2.symm.trans u2
        rw [nI_eq (by omega) (by omega)] at this
        exact this.symm
      subst efn
      unfold jM_season_149
      refine sM_run h (D := (sIt sg its (sJ sg)).2) (fun q hq h0 => ?_) (fun i hi => ?_) o2 o1 (fun s9 a1 a2 => ?_)
      · by_cases e : q = 28
        · subst e; exact b28
        · rw [b1 q hq h0 e, o4 q h0 e]
      · by_cases e : i = 32
        · subst e; rw [b4, f2, nI_add]; exact u3.symm
        · rw [b2' i e (fun e => by rw [e] at hi; cases hi), s2_i (fun e => by rw [e] at hi; cases hi), o5 i e]
      · have ey : pN (sIt sg its (sJ sg)).2 (pTell (sIt sg its (sJ sg)).2 lw) = yr sg lw its := rfl
        rw [ey]
        have e4 : s2 s9 0 32 (nI fn2) 4 5 = nI (nC sg) := by
          rw [s2_rowN (by decide), a1 4 (offA_in (Or.inl rfl)), b1 4 (offA_in (Or.inl rfl)) (by decide) (by decide), gh_k (by decide)]
          exact hC.1
        have hs9 : sS sg (s2 s9 0 32 (nI fn2)) (sIt sg its (sJ sg)).1 0 (gh sg) := by
          refine ⟨fun q hq h0 h28 => by rw [s2_rowN h0, a1 q hq]; exact b1 q hq h0 h28, fun k h32 h53 => by rw [s2_i h32, a1 0 offA_0]; exact b2' k h32 h53, by rw [s2_i (by decide), a1 0 offA_0]; exact b3, by rw [s2_s, f2, show nI 0 = 0 from rfl, Int32.add_zero], fun k hk => ?_, fun hz => by rw [s2_rowN (by decide), a1 28 (offA_in (Or.inl rfl))]; exact b6 hz⟩
          rw [s2_rowN (by decide), a1 28 (offA_in (Or.inl rfl)), b28]
          rw [f5] at hk
          unfold sJ at hj1 ⊢
          by_cases hz : nT sg = 0
          · rw [if_pos hz]; rfl
          · rw [if_neg hz, sIt_s, sIt_s]
            have g1 : tn ((sIt sg its 0).2 0 32) = fn2 := f4
            have g2 : tn (fld (sIt sg its 0).2 (dv (drw (sIt sg its 0).1) (nI (nT sg))) (dv (drw (drw (sIt sg its 0).1)) 30) (dv (drw (drw (drw (sIt sg its 0).1))) 6) 0 32) = fn2 + 1 := by
              rw [fld_32, show (sIt sg its 0).2 0 32 = nI fn2 from f3, nI_1, tn_nI (by omega)]
            rw [sStep_2, fld_28, show tn ((sStep (nI (nT sg)) (sIt sg its 0)).2 0 32) = fn2 + 1 from g2]
            unfold put3
            rw [s2_i (by omega), s2_i (by omega), s2_i (by omega)]
            rw [sStep_2, fld_28, g1]
            unfold put3
            rw [s2_i (by omega), s2_i (by omega), s2_i (by omega)]
            rfl
        have hn := fun q e e2 => kk (q, s2 s9 0 32 (nI fn2)) hkN ⟨e, e2⟩
        rw [seaF_s, ← hq] at hn
        dsimp only at hn
        have k0 : (nI k = 0) ↔ k = 0 := by rw [show (0 : Int32) = nI 0 from rfl]; exact nI_eq (by omega) (by decide)
        unfold jM_season_185 jM_season_205
        rw [nI_1, e4]
        by_cases hk0 : k = 0
        · rw [if_pos (k0.mpr hk0)]
          rw [if_pos hk0] at hn
          by_cases hf : yr sg lw its = nI (nC sg)
          · rw [if_pos hf] at hn ⊢
            exact hn (((_, _), (_, _))) rfl hs9
          · rw [if_neg hf] at hn ⊢
            rw [Int32.add_zero]
            exact hn (((_, _), (_, _))) rfl hs9
        · rw [if_neg (fun z => hk0 (k0.mp z))]
          rw [if_neg hk0] at hn
          by_cases hf : yr sg lw its = nI (nC sg)
          · rw [if_pos hf] at hn ⊢
            exact hn (((_, _), (_, _))) rfl hs9
          · rw [if_neg hf] at hn ⊢
            rw [Int32.add_zero]
            exact hn (((_, _), (_, _))) rfl hs9
    have e4 : ∀ s3 D j i, sS sg s3 i j D → s3 4 0 = nI (nT sg) := fun s3 D j i b => by
      rw [b.1 4 (offA_in (Or.inl rfl)) (by decide) (by decide), gh_k (by decide)]; exact hT.1
    rcases Nat.eq_zero_or_pos (nT sg) with hz | hz
    · have ej : sJ sg = 0 := if_pos hz
      rw [ej] at fin
      refine ⟨1, ?_⟩
      unfold lM_season_77
      rw [if_neg (by decide), e4 s _ _ _ hs, hz, if_pos (show nI 0 ≤ 0 by decide)]
      exact fin s hs (Or.inr rfl) (by decide) (hs.2.2.2.2.2 hz)
    · have ej : sJ sg = 2 := if_neg (by omega)
      rw [ej] at fin
      refine loop0 (F := fun n i (s : MS) => lM_season_77 (nI N) w al fe fu (nI fn) (nI k) post _ n i s) 2 (fun j s3 => sS sg s3 (sIt sg its j).1 j (sIt sg its j).2) s hs (fun n2 j s3 hj b kk2 => ?_)
      show lM_season_77 (nI N) w al fe fu (nI fn) (nI k) post _ (n2 + 1) (nI j) s3
      unfold lM_season_77
      by_cases hjN : j < 2
      · rw [if_neg (show ¬ (2 : Int32) ≤ nI j from nI_ge (b := 2) hjN (by decide)), nI_1 j, e4 s3 _ _ _ b, if_neg (nI_nle hz (by omega))]
        obtain ⟨b1, b2', b3, b4, b5, b6⟩ := b
        obtain ⟨o1, o2, ⟨fn2, u1, u2, u3⟩, o4, o5⟩ := sIt_ok h its j (Or.inl hz) (by omega)
        have efn : fn2 = fn := by
          have := f2.symm.trans u2
          rw [nI_eq (by omega) (by omega)] at this
          exact this.symm
        subst efn
        refine sM_draw hz (by omega) b3 (sM_draw (n := 30) (by decide) (by decide) s2_s ?_)
        refine sM_draw (n := 6) (by decide) (by decide) s2_s ?_
        rw [s2_s2, s2_s2, s2_i (show (32 : Nat) ≠ 53 by decide), s2_i (show (32 : Nat) ≠ 53 by decide), b4, f2, nI_add]
        obtain ⟨I, hI⟩ : ∃ I, I = (sIt sg its j).1 := ⟨_, rfl⟩
        rw [← hI]
        obtain ⟨D, hD⟩ : ∃ D, D = (sIt sg its j).2 := ⟨_, rfl⟩
        rw [← hD] at b5 u3
        unfold wM_putRow
        refine ⟨3 * (fn2 + j), by omega, ix3 _, 3 * (fn2 + j) + 1, by omega, ix31 _, 3 * (fn2 + j) + 2, by omega, ix32 _, ?_⟩
        refine kk2 _ hjN ⟨fun q hq h0 h28 => ?_, fun k h32 h53 => ?_, ?_, ?_, fun k hk => ?_, fun z => absurd z (by omega)⟩
        · rw [s2_rowN h0, s2_rowN h28, s2_rowN h28, s2_rowN h28, s2_rowN h0]; exact b1 q hq h0 h28
        · rw [s2_i h32, s2_k (by decide), s2_k (by decide), s2_k (by decide), s2_i h53]; exact b2' k h32 h53
        · rw [s2_i (by decide), s2_k (by decide), s2_k (by decide), s2_k (by decide), s2_s, sIt_s, hI]; rfl
        · rw [s2_s, s2_k (by decide), s2_k (by decide), s2_k (by decide), s2_i (by decide), b4, f2, nI_add, nI_1, nI_add]; rfl
        · rw [f5] at hk b5
          rw [s2_rowN (show (28 : Nat) ≠ 0 by decide), sIt_s, sStep_2]
          have etn : tn ((sIt sg its j).2 0 32) = fn2 + j := by rw [← hD, u3, tn_nI (by omega)]
          rw [fld_28, etn, ← hD, ← hI]
          show put3 (s2 s3 0 53 _) 28 (fn2 + j) _ _ _ 28 k = _
          by_cases e1 : k < 3 * (fn2 + j) ∨ 3 * (fn2 + j) + 3 ≤ k
          · unfold put3
            rw [s2_i (by omega), s2_i (by omega), s2_i (by omega), s2_rowN (show (28 : Nat) ≠ 0 by decide), s2_i (by omega), s2_i (by omega), s2_i (by omega)]
            exact b5 k (by omega)
          · have : k = 3 * (fn2 + j) ∨ k = 3 * (fn2 + j) + 1 ∨ k = 3 * (fn2 + j) + 2 := by omega
            rcases this with e | e | e <;> subst e
            · rw [put3_0, put3_0]
            · rw [put3_1, put3_1]; rfl
            · rw [put3_2, put3_2]; rfl
      · have ej2 : j = 2 := by omega
        rw [if_pos (show (2 : Int32) ≤ nI j by rw [ej2]; decide)]
        subst ej2
        exact fin s3 b (Or.inl hz) (by decide) (by funext i; exact b.2.2.2.2.1 i (by omega))
  · have ek : k = N := by omega
    rw [if_pos (nI_le (by omega) (by omega))]
    obtain ⟨b1, b2', b3, b4, b5, b6⟩ := hs
    have hp2 := hp s ⟨fun q q0 q26 q28 hq => ?_, fun j j2 j40 j41 j42 j43 j53 => ?_, fun i _ => ?_, fun i hi => ?_⟩ ?_
    · unfold rSea at hp2
      rw [← ek, ← hq] at hp2
      by_cases c0 : w = 0
      · rw [if_pos c0] at hp2 ⊢; exact hp2
      rw [if_neg c0] at hp2 ⊢
      by_cases c1 : w = 1
      · rw [if_pos c1] at hp2 ⊢; exact hp2
      · rw [if_neg c1] at hp2 ⊢; exact hp2
    · rw [b1 q ?_ q0 q28, gh_k q0]
      refine ⟨⟨⟨?_, ?_, ?_, ?_, ?_⟩, ?_, ?_, ?_⟩, ?_, ?_, ?_⟩ <;> (intro e; subst e; cases hq)
    · by_cases e : j = 32
      · subst e; rw [b4, show nI 0 = 0 from rfl, Int32.add_zero]
      · rw [b2' j e j53, s2_i j2, gh_0 j40 j41 j42 j43]
    · rw [b1 26 (offA_in (Or.inl rfl)) (by decide) (by decide), gh_k (by decide)]
    · rw [b5 i (by omega), gh_k (by decide)]
    · rw [b2' 2 (by decide) (by decide), s2_s]
theorem qM_season0 {x y w : Int32} (hx : w < 0 ∨ 2 < w) {post : Int32 → MS → Prop} (hp : ∀ b s9, mfr sg s9 → s9 0 2 = 1 → post b s9) : wM_season sg x y w post := by
  unfold wM_season
  refine sM_isIn (a := 0) (b := 2) (by decide) (by decide) (fun q1 q2 => absurd hx (fun z => z.elim q1 q2)) (fun q => by rw [if_pos rfl]; exact sM_fail hp)
theorem qM_season2 {x y w : Int32} (h1 : ¬ w < 0) (h2 : ¬ 2 < w) (hy : y < 0 ∨ 40 < y) {post : Int32 → MS → Prop} (hp : ∀ b s9, mfr sg s9 → s9 0 2 = 2 → post b s9) : wM_season sg x y w post := by
  unfold wM_season
  refine sM_isIn (a := 0) (b := 2) (by decide) (by decide) (fun _ _ => ?_) (fun q => absurd q (fun z => z.elim h1 h2))
  rw [if_neg (by decide)]
  refine sM_isIn (a := 0) (b := 40) (by decide) (by decide) (fun q1 q2 => absurd hy (fun z => z.elim q1 q2)) (fun q => by rw [if_pos rfl]; exact sM_fail hp)
end Q9
