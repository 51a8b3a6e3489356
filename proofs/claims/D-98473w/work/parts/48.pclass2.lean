/-! PURE: the class's law, what is heard, news, voids, meetings -/
set_option maxRecDepth 100000
section TR2
variable {ad : Nat → Nat} {T L : Nat → Nat} {V : w_V} {P : w_P} {tr l st jl ja cl ca vw : Nat} {D : MS} {lw : (Nat → Int32) → Int32}
theorem exprR.eT : ∀ {d a : Nat} {l : List Int32} {n : Nat} {f : (Nat → Int32) → Int32}, exprR ad T V P d a l n f → eT T a
  | 0, _, _, _, _, h => h.elim
  | d + 1, a, l, n, f, h => by
    rcases h with ⟨h, -⟩ | ⟨h, -⟩ | ⟨h, -⟩ | ⟨h, -⟩
    · exact Or.inl h
    · exact Or.inr (Or.inl h)
    · exact Or.inr (Or.inr (Or.inr h))
    · exact Or.inr (Or.inr (Or.inl h))
theorem sX_by {as : Nat → Int32} (hv : ∀ k, k < 5 → V vw 1 k = as k) : ∀ (d m a : Nat) (l : List Int32) (n : Nat) (f : (Nat → Int32) → Int32) (post : Int32 → Prop), d ≤ m → exprR ad T V P d a l n f → post (f as) → w_by ad T L V P m a vw post
  | 0, _, _, _, _, _, _, _, h, _ => h.elim
  | d + 1, m, a, l, n, f, post, hm, h, hp => by
    obtain ⟨m, rfl⟩ : ∃ m', m = m' + 1 := ⟨m - 1, by omega⟩
    unfold w_by
    rcases h with ⟨ht, k, h1, h2, h3, h4, rfl⟩ | ⟨ht, k, h1, h2, h3, h4, rfl⟩ | ⟨ht, b, l1, f1, h0, h1, h2, rfl⟩ | ⟨ht, b, c, l1, l2, f1, f2, n2, x, g1, g2, h1, h2, h3, h4, h5, rfl⟩
    · refine ⟨fun _ => ?_, fun e => absurd (ht.symm.trans e) (by decide), fun e => absurd (ht.symm.trans e) (by decide), fun e => absurd (ht.symm.trans e) (by decide)⟩
      unfold wX12_by
      rw [h2]
      exact hp
    · refine ⟨fun e => absurd (ht.symm.trans e) (by decide), fun _ => ?_, fun e => absurd (ht.symm.trans e) (by decide), fun e => absurd (ht.symm.trans e) (by decide)⟩
      unfold wX13_by
      exact ⟨ad k, h2, k, h1, rfl, k, h1, rfl, by rw [hv k h1]; exact hp⟩
    · refine ⟨fun e => absurd (ht.symm.trans e) (by decide), fun e => absurd (ht.symm.trans e) (by decide), fun e => absurd (ht.symm.trans e) (by decide), fun _ => ?_⟩
      unfold wX15_by
      refine ⟨b, h0, h1.eT, sX_by hv d m b l1 n f1 _ (by omega) h1 ?_⟩
      by_cases q : f1 as = 0
      · rw [if_pos q]
        rw [show (fun as => if f1 as = 0 then (1 : Int32) else 0) as = 1 from if_pos q] at hp
        exact hp
      · rw [if_neg q]
        rw [show (fun as => if f1 as = 0 then (1 : Int32) else 0) as = 0 from if_neg q] at hp
        exact hp
    · refine ⟨fun e => absurd (ht.symm.trans e) (by decide), fun e => absurd (ht.symm.trans e) (by decide), fun _ => ?_, fun e => absurd (ht.symm.trans e) (by decide)⟩
      unfold wX14_by
      refine ⟨b, g1, h1.eT, sX_by hv d m b l1 n f1 _ (by omega) h1 ⟨c, g2, h2.eT, sX_by hv d m c l2 n2 f2 _ (by omega) h2 ?_⟩⟩
      have hp2 : post (rk x (f1 as) (f2 as)) := hp
      generalize f1 as = u at hp2 ⊢
      generalize f2 as = w at hp2 ⊢
      unfold rk at hp2
      rcases h5 with ⟨ha, hx⟩ | ⟨ha, hx⟩ | ⟨ha, hx⟩ | ⟨ha, hx⟩ | ⟨ha, hx⟩ | ⟨ha, hx⟩ | ⟨ha, hx⟩ | ⟨ha, hx⟩ <;> subst hx <;> rw [ha]
      · rw [if_pos rfl]
        rw [if_pos rfl] at hp2
        by_cases q1 : u = 0
        · rw [if_pos q1] at hp2 ⊢; exact hp2
        · rw [if_neg q1] at hp2 ⊢
          by_cases q2 : w = 0
          · rw [if_pos q2] at hp2 ⊢; exact hp2
          · rw [if_neg q2] at hp2 ⊢; exact hp2
      · rw [if_neg (by decide), if_pos rfl]
        exact hp2
      · rw [if_neg (by decide), if_neg (by decide), if_pos rfl]
        exact hp2
      · rw [if_neg (by decide), if_neg (by decide), if_neg (by decide), if_pos rfl]
        exact hp2
      · rw [if_neg (by decide), if_neg (by decide), if_neg (by decide), if_neg (by decide), if_pos rfl]
        rw [if_neg (by decide), if_neg (by decide), if_neg (by decide), if_pos rfl] at hp2
        by_cases q2 : w = 0
        · rw [if_pos q2] at hp2 ⊢; exact hp2
        · rw [if_neg q2] at hp2 ⊢; exact ⟨q2, hp2⟩
      · rw [if_neg (by decide), if_neg (by decide), if_neg (by decide), if_neg (by decide), if_neg (by decide), if_pos rfl]
        rw [if_neg (by decide), if_neg (by decide), if_pos rfl] at hp2
        by_cases q2 : w ≤ u
        · rw [if_pos q2] at hp2 ⊢; exact hp2
        · rw [if_neg q2] at hp2 ⊢; exact hp2
      · rw [if_neg (by decide), if_neg (by decide), if_neg (by decide), if_neg (by decide), if_neg (by decide), if_neg (by decide), if_pos rfl]
        rw [if_neg (by decide), if_pos rfl] at hp2
        by_cases q2 : u = w
        · rw [if_pos q2] at hp2 ⊢; exact hp2
        · rw [if_neg q2] at hp2 ⊢; exact hp2
      · rw [if_neg (by decide), if_neg (by decide), if_neg (by decide), if_neg (by decide), if_neg (by decide), if_neg (by decide), if_neg (by decide)]
        rw [if_neg (by decide), if_neg (by decide), if_neg (by decide), if_neg (by decide), if_neg (by decide), if_neg (by decide), if_neg (by decide)] at hp2
        by_cases q1 : u = 0
        · rw [if_pos q1] at hp2 ⊢
          by_cases q2 : w = 0
          · rw [if_pos q2] at hp2 ⊢; exact hp2
          · rw [if_neg q2] at hp2 ⊢; exact hp2
        · rw [if_neg q1] at hp2 ⊢; exact hp2
def asOf (pr hs dy tw sd : Int32) : Nat → Int32
  | 0 => pr
  | 1 => hs
  | 2 => dy
  | 3 => tw
  | _ => sd
theorem sX_byLaw (h : trW ad T L V P tr l st jl ja cl ca vw D lw) {a j : Nat} (hr : jdgR T L V P a D j) {pr dy tw sd : Int32} {post : Int32 → w_V → Prop} (hp : ∀ V9 : w_V, (∀ b, b ≠ vw → V9 b = V b) → post (b2 (if nS D = 0 then decide (¬ pr ≤ 4) else decide (¬ lw (asOf pr (D 8 j) dy tw sd) ≤ 0))) V9) : wX2_byLaw ad T L V P l a pr dy tw sd post := by
  obtain ⟨h1, h2, h3, h4, h5, h6, h7⟩ := h
  obtain ⟨hv9, hv4⟩ := h4.2.2.2.2.1
  have han : a ≠ vw := fun e => by
    rw [e] at hr
    rcases hr.1 with ⟨-, q⟩ | ⟨-, q⟩ | ⟨-, q⟩ <;> rw [hv4] at q <;> cases q
  unfold wX2_byLaw
  refine ⟨fun hn => ?_, fun b1 hb1 => ?_⟩
  · have hS0 : nS D = 0 := by
      rcases h4.2.2.2.2.2 with ⟨-, q⟩ | ⟨b, d, n, q, -⟩
      · exact q
      · rw [hn] at q; cases q
    have hp1 := hp V (fun _ _ => rfl)
    rw [if_pos hS0] at hp1
    by_cases q : pr ≤ 4
    · rw [if_pos q]
      rw [show decide (¬ pr ≤ 4) = false from decide_eq_false (fun r => r q)] at hp1
      exact hp1
    · rw [if_neg q]
      rw [show decide (¬ pr ≤ 4) = true from decide_eq_true q] at hp1
      exact hp1
  · obtain ⟨b, d, n, q1, q2, q3, q4, q5⟩ := h4.2.2.2.2.2.resolve_left (fun q => by rw [hb1] at q; cases q.1)
    rw [hb1] at q1
    cases q1
    unfold wX3_sees
    refine ⟨vw, hv9, hv4, 0, by decide, rfl, 0, by decide, rfl, fun V1 e1 => ⟨vw, hv9, hv4, 1, by decide, rfl, 1, by decide, rfl, fun V2 e2 => ⟨vw, hv9, hv4, 2, by decide, rfl, 2, by decide, rfl, fun V3 e3 => ⟨vw, hv9, hv4, 3, by decide, rfl, 3, by decide, rfl, fun V4 e4 => ⟨vw, hv9, hv4, 4, by decide, rfl, 4, by decide, rfl, fun V5 e5 => ⟨b1, hb1, q5.eT, vw, hv9, hv4, ?_⟩⟩⟩⟩⟩⟩
    have f1 : ∀ c, c ≠ vw → V1 c = V c := fun c hc => by rw [e1, up3_n hc]
    have f2 : ∀ c, c ≠ vw → V2 c = V c := fun c hc => by rw [e2, up3_n hc]; exact f1 c hc
    have f3 : ∀ c, c ≠ vw → V3 c = V c := fun c hc => by rw [e3, up3_n hc]; exact f2 c hc
    have f4 : ∀ c, c ≠ vw → V4 c = V c := fun c hc => by rw [e4, up3_n hc]; exact f3 c hc
    have f5 : ∀ c, c ≠ vw → V5 c = V c := fun c hc => by rw [e5, up3_n hc]; exact f4 c hc
    have hsm : sameL T V V5 := fun c hc => f5 c (fun e => by rw [e, hv4] at hc; cases hc)
    have has : ∀ k, k < 5 → V5 vw 1 k = asOf pr (D 8 j) dy tw sd k := by
      intro k hk
      rw [e5, up3_a, e4, up3_a, e3, up3_a, e2, up3_a, f1 a han, hr.2.1, e1, up3_a]
      rcases (show k = 0 ∨ k = 1 ∨ k = 2 ∨ k = 3 ∨ k = 4 by omega) with q | q | q | q | q <;> subst q
      · rw [s2_i (by decide), s2_i (by decide), s2_i (by decide), s2_i (by decide), s2_s]; rfl
      · rw [s2_i (by decide), s2_i (by decide), s2_i (by decide), s2_s]; rfl
      · rw [s2_i (by decide), s2_i (by decide), s2_s]; rfl
      · rw [s2_i (by decide), s2_s]; rfl
      · rw [s2_s]; rfl
    refine sX_by has d 620 b1 (sigL D) n lw _ q3 (exprR.V hsm _ _ _ _ _ q5) ?_
    have hp1 := hp V5 f5
    rw [if_neg (by omega)] at hp1
    by_cases q : lw (asOf pr (D 8 j) dy tw sd) ≤ 0
    · rw [if_pos q]
      rw [show decide (¬ lw (asOf pr (D 8 j) dy tw sd) ≤ 0) = false from decide_eq_false (fun r => r q)] at hp1
      exact hp1
    · rw [if_neg q]
      rw [show decide (¬ lw (asOf pr (D 8 j) dy tw sd) ≤ 0) = true from decide_eq_true q] at hp1
      exact hp1
theorem nB_b2 (b : Bool) : nB (b2 b) := by
  cases b <;> rfl
theorem asOf_askd {S : MS} {c j t : Nat} {d : Int32} : asOf (D 11 (9 * c + t)) (D 8 j) d (nI t) (pAhead D (S 0) (S 1) c d) = askd D S c j t d := by
  funext k
  match k with
  | 0 => rfl
  | 1 => rfl
  | 2 => rfl
  | 3 => rfl
  | k + 4 => rfl
theorem cS.put {V : w_V} {tr k : Nat} {S : MS} (h : cS V tr S) {x d t : Int32} : cS (up3 (up3 (up3 V tr 5 k x) tr 6 k d) tr 7 k t) tr (s2 (s2 (s2 S 0 k x) 1 k d) 2 k t) := by
  intro q hq
  obtain ⟨h1, h2, h3⟩ := h q hq
  rw [up3_a, up3_a, up3_a]
  by_cases e : q = k
  · subst e
    refine ⟨?_, ?_, ?_⟩
    · rw [s2_k (show (5 : Nat) ≠ 7 by decide), s2_k (show (5 : Nat) ≠ 6 by decide), s2_s, s2_k (show (0 : Nat) ≠ 2 by decide), s2_k (show (0 : Nat) ≠ 1 by decide), s2_s]
    · rw [s2_k (show (6 : Nat) ≠ 7 by decide), s2_s, s2_k (show (1 : Nat) ≠ 2 by decide), s2_s]
    · rw [s2_s, s2_s]
  · refine ⟨?_, ?_, ?_⟩
    · rw [s2_i e, s2_i e, s2_i e, s2_i e, s2_i e, s2_i e]; exact h1
    · rw [s2_i e, s2_i e, s2_i e, s2_i e, s2_i e, s2_i e]; exact h2
    · rw [s2_i e, s2_i e, s2_i e, s2_i e, s2_i e, s2_i e]; exact h3
theorem sX_hears (hL : lndOk D) (hO : stOk D) (h : trW ad T L V P tr l st jl ja cl ca vw D lw) (hP : stopX V tr D) {S : MS} (hS : cS V tr S) {j : Nat} (hj : j < nJ D) {d : Int32} {post : w_V → Prop}
    (hp : ∀ V9 : w_V, (∀ a, a ≠ tr → a ≠ vw → V9 a = V a) → (∀ k, k ≠ 5 → k ≠ 6 → k ≠ 7 → V9 tr k = V tr k) → cS V9 tr (pHear D lw d S j) → post V9) : wX7_hears ad T L V P tr (nI j) d post := by
  have hJ5 := hL.2.1.2
  have hC6 := hL.2.2.1.2
  have hT9 := hL.1.2
  rw [pHear_eq] at hp
  unfold wX7_hears
  refine sX_at hL h hP hj ?_
  by_cases h1 : pAt D j d = -1
  · rw [if_pos h1]
    rw [if_pos h1] at hp
    exact hp V (fun _ _ _ => rfl) (fun _ _ _ _ => rfl) hS
  rw [if_neg h1]
  rw [if_neg h1] at hp
  obtain ⟨h7, h2, h3, h4, h5, h6, h8⟩ := id h
  obtain ⟨t, ht, htT⟩ := (pAt_nat hL hj d).resolve_left h1
  have hvt : tr ≠ vw := fun e => by have q := h4.2.2.2.2.1.2; rw [← e, h7] at q; cases q
  rw [ht] at hp ⊢
  rw [tn_nI (by omega)] at hp
  refine ⟨st, h3, h6.1, sX_isFeast h6 hO ?_⟩
  cases hf : pFeast D (nI t) d with
  | true =>
    rw [b2_t, if_neg (by decide)]
    rw [if_pos hf] at hp
    exact hp V (fun _ _ _ => rfl) (fun _ _ _ _ => rfl) hS
  | false =>
  rw [b2_f, if_pos rfl]
  rw [if_neg (by rw [hf]; decide)] at hp
  refine loop0 (F := fun n i W => lX7_hears_28 ad T L P tr (nI j) d (nI t) post n i W) (nC D) (fun c W => (∀ a, a ≠ tr → a ≠ vw → W a = V a) ∧ (∀ k, k ≠ 5 → k ≠ 6 → k ≠ 7 → W tr k = V tr k) ∧ cS W tr (foldN (pHear1 D lw j t d) S c)) V ⟨fun _ _ _ => rfl, fun _ _ _ _ => rfl, hS⟩ (fun n c W hc hs kk => ?_)
  obtain ⟨hs1, hs2, hs3⟩ := hs
  have hW : trW ad T L W P tr l st jl ja cl ca vw D lw := h.V hs1
  obtain ⟨w7, w2, w3, w4, w5, w6, w8⟩ := id hW
  show lX7_hears_28 ad T L P tr (nI j) d (nI t) post (n + 1) (nI c) W
  unfold lX7_hears_28
  refine sX_cases hW ?_
  by_cases hcN : c < nC D
  · rw [if_neg (nI_ge hcN (by omega))]
    obtain ⟨k1, k2, k3⟩ := w4.2.2.2.1
    obtain ⟨ca1, hca, c1, c2, c3⟩ := k3 c hcN
    refine ⟨l, w2, w4.1.1, cl, k1, k2.1, sJ2_get k2 hcN (by omega) hca ⟨ca1, 0, L ca1, hArr_S c1, by omega, t, by omega, rfl, ?_⟩⟩
    rw [c3 t (by omega)]
    unfold jX7_hears_156
    have ek : foldN (pHear1 D lw j t d) S (c + 1) = pHear1 D lw j t d (foldN (pHear1 D lw j t d) S c) c := rfl
    by_cases q1 : D 11 (9 * c + t) = -1
    · rw [if_pos q1, nI_1]
      refine kk W hcN ⟨hs1, hs2, ?_⟩
      rw [ek, pHear1_eq, if_pos q1]
      exact hs3
    rw [if_neg q1]
    refine ⟨5 * c + j, by omega, ix5 c j, ?_⟩
    rw [(hs3 (5 * c + j) (by omega)).1]
    by_cases q2 : foldN (pHear1 D lw j t d) S c 0 (5 * c + j) = -1
    · rw [if_pos q2]
      obtain ⟨j1, j2, j3⟩ := w4.2.2.1
      obtain ⟨ja1, hja, hjr⟩ := j3 j hj
      refine ⟨l, w2, w4.1.1, jl, j1, j2.1, sJ2_get j2 hj (by omega) hja ⟨hjr.jT, l, w2, w4.1.1, sX_saidAhead hL hW hs3 hcN ?_⟩⟩
      refine sX_byLaw hW hjr (fun W1 g1 => ?_)
      rw [asOf_askd]
      generalize hg : (if nS D = 0 then decide (¬ D 11 (9 * c + t) ≤ 4) else decide (¬ lw (askd D (foldN (pHear1 D lw j t d) S c) c j t d) ≤ 0)) = g
      have hph : pHolds D lw (foldN (pHear1 D lw j t d) S c) c j t d = (g != decide (D 6 j = 2)) := by
        unfold pHolds
        rw [hg]
      have fin : ∀ x : Int32, x = b2 (pHolds D lw (foldN (pHear1 D lw j t d) S c) c j t d) → jX7_hears_139 ad T L W1 P tr (nI j) d (nI t) (nI c) ((5 : Int32) * nI c + nI j) x ((5 : Int32) * nI c + nI j) post (lX7_hears_28 ad T L P tr (nI j) d (nI t) post n) := by
        intro x hx
        unfold jX7_hears_139 jX7_hears_156
        refine ⟨5 * c + j, by omega, ix5 c j, fun W2 e2 => ⟨5 * c + j, by omega, ix5 c j, fun W3 e3 => ⟨5 * c + j, by omega, ix5 c j, fun W4 e4 => ?_⟩⟩⟩
        subst e2 e3 e4
        rw [nI_1]
        refine kk _ hcN ⟨fun a h1 h2 => ?_, fun q h1 h2 h3 => ?_, ?_⟩
        · rw [up3_n h1, up3_n h1, up3_n h1, g1 a h2]; exact hs1 a h1 h2
        · rw [up3_a, up3_a, up3_a, s2_rowN h3, s2_rowN h2, s2_rowN h1, g1 tr hvt]
          exact hs2 q h1 h2 h3
        · rw [ek, pHear1_eq, if_neg q1, if_pos q2, hx]
          refine cS.put ?_
          unfold cS
          rw [g1 tr hvt]
          exact hs3
      -- how he says it
      rcases hjr.1 with ⟨hk, hT⟩ | ⟨hk, hT⟩ | ⟨hk, hT⟩
      · refine ⟨fun _ => ?_, fun e => absurd (hT.symm.trans e) (by decide), fun e => absurd (hT.symm.trans e) (by decide)⟩
        unfold wX16_says
        refine ⟨nB_b2 _, ?_⟩
        rw [hk, show decide ((0 : Int32) = 2) = false by decide] at hph
        cases g
        · rw [b2_f, if_pos rfl]; exact fin 0 (by rw [hph]; rfl)
        · rw [b2_t, if_neg (by decide)]; exact fin 1 (by rw [hph]; rfl)
      · refine ⟨fun e => absurd (hT.symm.trans e) (by decide), fun _ => ?_, fun e => absurd (hT.symm.trans e) (by decide)⟩
        unfold wX16_says
        refine ⟨nB_b2 _, ?_⟩
        rw [hk, show decide ((1 : Int32) = 2) = false by decide] at hph
        cases g
        · rw [b2_f, if_pos rfl]; exact fin 0 (by rw [hph]; rfl)
        · rw [b2_t, if_neg (by decide)]; exact fin 1 (by rw [hph]; rfl)
      · refine ⟨fun e => absurd (hT.symm.trans e) (by decide), fun e => absurd (hT.symm.trans e) (by decide), fun _ => ?_⟩
        unfold wX18_says wX16_says
        refine ⟨nB_b2 _, ?_⟩
        rw [hk, show decide ((2 : Int32) = 2) = true by decide] at hph
        cases g
        · rw [b2_f, if_pos rfl]
          show if (1 : Int32) = 0 then _ else _
          rw [if_neg (by decide)]
          exact fin 1 (by rw [hph]; rfl)
        · rw [b2_t, if_neg (by decide)]
          show if (0 : Int32) = 0 then _ else _
          rw [if_pos rfl]
          exact fin 0 (by rw [hph]; rfl)
    · rw [if_neg q2, nI_1]
      refine kk W hcN ⟨hs1, hs2, ?_⟩
      rw [ek, pHear1_eq, if_neg q1, if_neg q2]
      exact hs3
  · have ec : c = nC D := by omega
    rw [if_pos (nI_le (by omega) (by omega))]
    rw [ec] at hs3
    exact hp W hs1 hs2 hs3
end TR2
