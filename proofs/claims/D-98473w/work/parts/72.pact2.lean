/-! PURE: start, inn, word, feast, flood -/
set_option maxRecDepth 100000
section UP
variable {ad : Nat → Nat} {T L : Nat → Nat} {V V' : w_V} {P : w_P} {t : Nat} {A : Nat → Nat} {sg s' : MS} {lw : (Nat → Int32) → Int32}
/-- the book and what is now change alike -/
theorem cR.upd (h : cR ad T L V P t A sg lw) (hb : bxP T L P t A) (hV : ∀ b, b ≠ A 0 → b ≠ A 2 → V' b = V b) (hs : ∀ q, q ≠ 0 → q ≠ 7 → q ≠ 26 → q ≠ 27 → q ≠ 28 → q ≠ 13 → q ≠ 29 → q ≠ 51 → q ≠ 52 → q ≠ 53 → s' q = sg q) (h0 : ∀ j, j ≠ 2 → j ≠ 29 → j ≠ 30 → j ≠ 31 → j ≠ 32 → j ≠ 33 → j ≠ 34 → s' 0 j = sg 0 j) (hr : rowX V' (A 2) (nJ sg) (pk s')) (ho : rowOk (nT sg) (nJ sg) (pk s')) (hk : bkR V' (A 0) (A 11) (fun k => A (100 + k)) (s' 0 33) (s' 0 34) (s' 29) (s' 51) (s' 52) (s' 53) (s' 13) (nT sg) (nJ sg) (nC sg)) : cR ad T L V' P t A s' lw := by
  obtain ⟨⟨a1, a2, a3, a4⟩, -, -, ⟨d1, d2, d3⟩, ⟨n, e1, e2, e3, e4⟩, f1⟩ := h
  have ha : agL sg s' := agL.of (fun k hk => hs k (by omega) (by omega) (by omega) (by omega) (by omega) (by omega) (by omega) (by omega) (by omega) (by omega))
  have k : ∀ b x, T b = x → x ≠ 5 → x ≠ 6 → V' b = V b := fun b x e q1 q2 => hV b (T_ne e hb.2.1.1 q1) (T_ne e (bx_st hb stI2) q2)
  have sl : sameL T V V' := fun b hb' => hV b (fun e => by rw [e, hb.2.1.1] at hb'; cases hb') (fun e => by rw [e, bx_st hb stI2] at hb'; cases hb')
  have et := k _ _ hb.1.1 (by decide) (by decide)
  have el := k _ _ a3.1.1 (by decide) (by decide)
  have e14 := k _ _ hb.2.2.2.2.2.2.1.1 (by decide) (by decide)
  have e1' : V' (A 1) = V (A 1) := hV _ (fun e => hb.2.2.2.1 e.symm) (T_ne hb.2.2.1.1 (bx_st hb stI2) (by decide))
  have st : ∀ i, stI i → i ≠ 2 → V' (A i) = V (A i) := fun i hi hne => hV _ (T_ne (bx_st hb hi) hb.2.1.1 (by decide)) (bx_ne hb hi stI2 hne)
  have f : ∀ j, j = 54 ∨ j = 55 ∨ j = 56 ∨ j = 14 ∨ j = 23 → s' 0 j = sg 0 j := fun j hj => h0 j (by omega) (by omega) (by omega) (by omega) (by omega) (by omega) (by omega)
  have g : ∀ q, q = 58 ∨ q = 59 ∨ q = 60 ∨ q = 61 ∨ q = 62 ∨ q = 63 ∨ q = 14 → s' q = sg q := fun q hq => hs q (by omega) (by omega) (by omega) (by omega) (by omega) (by omega) (by omega) (by omega) (by omega) (by omega)
  refine ⟨⟨ha.lnd a1, ha.far a1 a2, ha.land a1 (a3.V sl), ha.ways a1 (fun a b x y => by rw [el]; exact a4 a b x y)⟩, ?_, ?_, ⟨?_, by rw [e14]; exact d2, ?_⟩, ⟨n, by rw [f 14 (by decide)]; exact e1, e2, by rw [et]; exact e3, fun i hi => by rw [et, g 14 (by decide)]; exact e4 i hi⟩, by rw [et, f 23 (by decide)]; exact f1⟩
  · rw [ha.nJ, ha.nT]; exact ⟨hr, ho⟩
  · rw [ha.nJ, ha.nT, ha.nC]; exact hk
  · rw [et, f 54 (by decide)]; exact d1
  · rw [f 54 (by decide), f 55 (by decide), f 56 (by decide), g 58 (by decide), g 59 (by decide), g 60 (by decide), g 61 (by decide), g 62 (by decide), g 63 (by decide), ha.nJ, ha.nT, ha.nC]
    rcases d3 with q | ⟨q1, ⟨q2, q3⟩, q4⟩
    · exact Or.inl q
    · exact Or.inr ⟨q1, ⟨q2.e (st 13 stI13 (by decide)), q3⟩, q4.e e1' e14 (fun k hk => st _ (stIb hk) (by omega))⟩
/-- what is now changes alike -/
theorem cR.now (h : cR ad T L V P t A sg lw) (hb : bxP T L P t A) (hV : ∀ b, b ≠ A 2 → V' b = V b) (hs : ∀ q, q ≠ 0 → q ≠ 7 → q ≠ 26 → q ≠ 27 → q ≠ 28 → s' q = sg q) (h0 : ∀ j, j ≠ 2 → j ≠ 29 → j ≠ 30 → j ≠ 31 → j ≠ 32 → s' 0 j = sg 0 j) (hr : rowX V' (A 2) (nJ sg) (pk s')) (ho : rowOk (nT sg) (nJ sg) (pk s')) : cR ad T L V' P t A s' lw := by
  refine h.upd hb (fun b _ q => hV b q) (fun q a b c d e _ _ _ _ _ => hs q a b c d e) (fun j a b c d e _ _ => h0 j a b c d e) hr ho ?_
  rw [h0 33 (by decide) (by decide) (by decide) (by decide) (by decide), h0 34 (by decide) (by decide) (by decide) (by decide) (by decide), hs 29 (by decide) (by decide) (by decide) (by decide) (by decide), hs 51 (by decide) (by decide) (by decide) (by decide) (by decide), hs 52 (by decide) (by decide) (by decide) (by decide) (by decide), hs 53 (by decide) (by decide) (by decide) (by decide) (by decide), hs 13 (by decide) (by decide) (by decide) (by decide) (by decide)]
  exact h.2.2.1.e (hV _ (T_ne hb.2.1.1 (bx_st hb stI2) (by decide))) (hV _ (T_ne hb.2.2.2.2.2.1.1 (bx_st hb stI2) (by decide))) (fun k hk => hV _ (bx_ne hb (stIa hk) stI2 (by omega)))
/-- the book changes alike -/
theorem cR.book (h : cR ad T L V P t A sg lw) (hb : bxP T L P t A) (hV : ∀ b, b ≠ A 0 → V' b = V b) (hs : ∀ q, q ≠ 0 → q ≠ 13 → q ≠ 51 → q ≠ 52 → q ≠ 53 → s' q = sg q) (h0 : ∀ j, j ≠ 2 → j ≠ 33 → j ≠ 34 → s' 0 j = sg 0 j) (hk : bkR V' (A 0) (A 11) (fun k => A (100 + k)) (s' 0 33) (s' 0 34) (s' 29) (s' 51) (s' 52) (s' 53) (s' 13) (nT sg) (nJ sg) (nC sg)) : cR ad T L V' P t A s' lw := by
  have e : pk s' = pk sg := by
    unfold pk
    rw [hs 7 (by decide) (by decide) (by decide) (by decide) (by decide), hs 26 (by decide) (by decide) (by decide) (by decide) (by decide), hs 27 (by decide) (by decide) (by decide) (by decide) (by decide), hs 28 (by decide) (by decide) (by decide) (by decide) (by decide), h0 29 (by decide) (by decide) (by decide), h0 30 (by decide) (by decide) (by decide), h0 31 (by decide) (by decide) (by decide), h0 32 (by decide) (by decide) (by decide)]
  refine h.upd hb (fun b q _ => hV b q) (fun q a _ _ _ _ b _ c d e => hs q a b c d e) (fun j a _ _ _ _ b c => h0 j a b c) ?_ (by rw [e]; exact h.2.1.2) hk
  rw [e]
  exact h.2.1.1.e (hV _ (T_ne (bx_st hb stI2) hb.2.1.1 (by decide)))
/-- one more is refused -/
theorem cR.refuse (h : cR ad T L V P t A sg lw) (hb : bxP T L P t A) {i : Nat} : cR ad T L (up3 V (A 0) 5 i (V (A 0) 5 i + 1)) P t A (s2 sg 13 i (sg 13 i + 1)) lw ∨ 3 ≤ i := by
  rcases Nat.lt_or_ge i 3 with hi | hi
  · refine Or.inl (h.book hb (fun b q => up3_n q) (fun q _ b _ _ _ => s2_rowN b) (fun j _ _ _ => s2_k (by decide)) ?_)
    obtain ⟨c1, c2, c3, c4, c5⟩ := h.2.2.1
    unfold bkR
    rw [up3_n (T_ne hb.2.2.2.2.2.1.1 hb.2.1.1 (by decide)), up3_a, s2_k (show (0 : Nat) ≠ 13 by decide), s2_k (show (0 : Nat) ≠ 13 by decide), s2_rowN (show (29 : Nat) ≠ 13 by decide), s2_rowN (show (51 : Nat) ≠ 13 by decide), s2_rowN (show (52 : Nat) ≠ 13 by decide), s2_rowN (show (53 : Nat) ≠ 13 by decide), s2_rowN (show (0 : Nat) ≠ 5 by decide), s2_rowN (show (3 : Nat) ≠ 5 by decide), s2_rowN (show (4 : Nat) ≠ 5 by decide), s2_rowN (show (6 : Nat) ≠ 5 by decide)]
    refine ⟨c1, ?_, c3, c4, fun k hk => ?_⟩
    · obtain ⟨a, a1, a2, a3, a4⟩ := c2
      exact ⟨a, a1, a2, a3, fun k hk => ⟨(a4 k hk).1.e (up3_n (T_ne (bx_st hb (stIa (by omega))) hb.2.1.1 (by decide))), (a4 k hk).2⟩⟩
    · by_cases e : k = i
      · subst e; rw [s2_s, s2_s, c5 k hk]
      · rw [s2_i e, s2_i e]; exact c5 k hk
  · exact Or.inr hi
theorem sX_refuses (hb : bxP T L P t A) {i : Nat} (hi : i < 3) {post : Int32 → w_V → Prop} (hp : post (-1) (up3 V (A 0) 5 i (V (A 0) 5 i + 1))) : wX1_refuses ad T L V P t (nI i) post := by
  unfold wX1_refuses
  exact ⟨A 0, hb.1.2.2.1, hb.2.1.1, i, hi, rfl, i, hi, rfl, fun V9 e => by rw [e]; exact hp⟩
theorem sM_refuse {i : Nat} (hi : i < 3) {post : Int32 → MS → Prop} (hp : post (-1) (s2 sg 13 i (sg 13 i + 1))) : wM_refuse sg (nI i) post := by
  unfold wM_refuse
  exact ⟨i, hi, rfl, i, hi, rfl, hp⟩
theorem kp_pk {s9 : MS} {a : Nat} (h : kpM sg s9 a) : pk s9 = pk sg := by
  obtain ⟨m1, m2, -, -⟩ := h
  unfold pk
  rw [m1 7 (by decide) (by decide), m1 26 (by decide) (by decide), m1 27 (by decide) (by decide), m1 28 (by decide) (by decide), m2 29 (by decide), m2 30 (by decide), m2 31 (by decide), m2 32 (by decide)]
end UP
