/-! PURE: what of the ghost a tale depends on; what of it a land is -/
set_option maxRecDepth 100000
/-- the same but for words, the deaf, mules -/
def sameT (D D' : MS) : Prop := (∀ k, k ≠ 0 → k ≠ 26 → D' k = D k) ∧ ∀ j, j ≠ 30 → j ≠ 41 → j ≠ 42 → j ≠ 43 → D' 0 j = D 0 j
section CG
variable {D D' : MS}
theorem sameT.eT (h : sameT D D') : pT D' = pT D := by
  funext j i
  show D' 10 (7 * j + if D' 0 40 = nI j then tn (D' 9 j) - 1 - i else i) = D 10 (7 * j + if D 0 40 = nI j then tn (D 9 j) - 1 - i else i)
  rw [h.1 10 (by decide) (by decide), h.1 9 (by decide) (by decide), h.2 40 (by decide) (by decide) (by decide) (by decide)]
theorem pD_s {j i : Nat} : pD D j (i + 1) = pD D j i + D 5 (tn ((9 : Int32) * pT D j i + pT D j (i + 1))) := rfl
theorem sameT.eD (h : sameT D D') : pD D' = pD D := by
  funext j i
  induction i with
  | zero =>
    show D' 7 j = D 7 j
    rw [h.1 7 (by decide) (by decide)]
  | succ i ih => rw [pD_s, pD_s, ih, h.eT, h.1 5 (by decide) (by decide)]
theorem sameT.stp (h : sameT D D') (j : Nat) : stp D' j = stp D j := by
  show tn (D' 9 j) = tn (D 9 j)
  rw [h.1 9 (by decide) (by decide)]
theorem sameT.nJ (h : sameT D D') : nJ D' = nJ D := by
  show tn (D' 4 4) = tn (D 4 4)
  rw [h.1 4 (by decide) (by decide)]
theorem sameT.nC (h : sameT D D') : nC D' = nC D := by
  show tn (D' 4 5) = tn (D 4 5)
  rw [h.1 4 (by decide) (by decide)]
theorem sameT.nT (h : sameT D D') : nT D' = nT D := by
  show tn (D' 4 0) = tn (D 4 0)
  rw [h.1 4 (by decide) (by decide)]
theorem sameT.nS (h : sameT D D') : nS D' = nS D := by
  show tn (D' 4 6) = tn (D 4 6)
  rw [h.1 4 (by decide) (by decide)]
theorem sameT.eAt (h : sameT D D') : pAt D' = pAt D := by
  funext j d
  unfold pAt
  rw [h.eD, h.eT, h.stp]
theorem sameT.eFeast (h : sameT D D') : pFeast D' = pFeast D := by
  funext t d
  unfold pFeast
  rw [h.1 27 (by decide) (by decide), h.2 31 (by decide) (by decide) (by decide) (by decide)]
theorem sameT.ahead (h : sameT D D') (a b : Nat → Int32) (c : Nat) (d : Int32) : pAhead D' a b c d = pAhead D a b c d := by
  unfold pAhead
  rw [h.nJ]
theorem askd_congr (h : sameT D D') (S : MS) (c j t : Nat) (d : Int32) : askd D' S c j t d = askd D S c j t d := by
  funext k
  unfold askd
  rw [h.1 11 (by decide) (by decide), h.1 8 (by decide) (by decide), h.ahead]
theorem sameT.holds (h : sameT D D') (lw : (Nat → Int32) → Int32) (S : MS) (c j t : Nat) (d : Int32) : pHolds D' lw S c j t d = pHolds D lw S c j t d := by
  unfold pHolds
  rw [askd_congr h, h.nS, h.1 11 (by decide) (by decide), h.1 6 (by decide) (by decide)]
theorem sameT.hear1 (h : sameT D D') (lw : (Nat → Int32) → Int32) (j t : Nat) (d : Int32) : pHear1 D' lw j t d = pHear1 D lw j t d := by
  funext S c
  rw [pHear1_eq, pHear1_eq, h.holds, h.1 11 (by decide) (by decide)]
theorem sameT.hear (h : sameT D D') (lw : (Nat → Int32) → Int32) (d : Int32) : pHear D' lw d = pHear D lw d := by
  funext S j
  rw [pHear_eq, pHear_eq, h.eAt, h.eFeast, h.hear1, h.nC]
theorem sameT.day (h : sameT D D') (lw : (Nat → Int32) → Int32) : pDay D' lw = pDay D lw := by
  funext S k
  unfold pDay
  rw [h.hear, h.nJ]
theorem sameT.tell (h : sameT D D') (lw : (Nat → Int32) → Int32) : pTell D' lw = pTell D lw := by
  unfold pTell
  rw [h.day]
theorem sameT.eFl (h : sameT D D') : pFl D' = pFl D := by
  funext a b d
  unfold pFl
  rw [h.1 28 (by decide) (by decide), h.1 25 (by decide) (by decide), h.2 32 (by decide) (by decide) (by decide) (by decide)]
theorem sameT.eMeet (h : sameT D D') : pMeet D' = pMeet D := by
  have e1 : pIsM D' = pIsM D := by
    funext a b d
    unfold pIsM
    rw [h.eFl, h.2 29 (by decide) (by decide) (by decide) (by decide)]
  have e2 : pMeetC D' = pMeetC D := by
    funext a b i
    unfold pMeetC
    rw [e1, h.eAt, h.eT, h.eD]
  funext a b
  unfold pMeet
  rw [e2, h.eD, h.stp]
theorem sameT.stops {sg : MS} (h : sameT D D') (hs : stops sg D) : stops sg D' := by
  intro j i h1 h2
  rw [h.eT, h.eD]
  rw [h.nJ] at h1
  rw [h.stp] at h2
  exact hs j i h1 h2
theorem sameT.judgeOn {sg S : MS} (h : sameT D D') (hs : judgeOn sg D S) : judgeOn sg D' S := by
  obtain ⟨h1, h2, h3⟩ := hs
  refine ⟨h.stops h1, fun a b q1 q2 => ?_, h3⟩
  rw [h.eMeet]
  rw [h.nJ] at q1 q2
  exact h2 a b q1 q2
theorem sameT.sOk {S : MS} (h : sameT D D') (hs : sOk D S) : sOk D' S := by
  intro k hk
  obtain ⟨h1, d, t, h2, h3, h4, h5⟩ := hs k hk
  exact ⟨h1, d, t, h2, h3, h4, by rw [h.nT]; exact h5⟩
end CG
/-- the same land: the first halves of its rows -/
def agL (D D' : MS) : Prop := (∀ i, i < 7 → D' 4 i = D 4 i) ∧ (∀ i, i < 81 → D' 5 i = D 5 i) ∧ (∀ i, i < 5 → D' 6 i = D 6 i) ∧ (∀ i, i < 5 → D' 8 i = D 8 i) ∧ (∀ i, i < 5 → D' 9 i = D 9 i) ∧ (∀ i, i < 35 → D' 10 i = D 10 i) ∧ (∀ i, i < 54 → D' 11 i = D 11 i) ∧ (∀ i, i < 600 → D' 12 i = D 12 i) ∧ ∀ i, i < 81 → D' 25 i = D 25 i
theorem agL.of {D D' : MS} (h : ∀ k, k = 4 ∨ k = 5 ∨ k = 6 ∨ k = 8 ∨ k = 9 ∨ k = 10 ∨ k = 11 ∨ k = 12 ∨ k = 25 → D' k = D k) : agL D D' := by
  refine ⟨fun i _ => ?_, fun i _ => ?_, fun i _ => ?_, fun i _ => ?_, fun i _ => ?_, fun i _ => ?_, fun i _ => ?_, fun i _ => ?_, fun i _ => ?_⟩ <;> rw [h _ (by decide)]
section AG
variable {D D' : MS}
theorem agL.nT (h : agL D D') : nT D' = nT D := by
  show tn (D' 4 0) = tn (D 4 0)
  rw [h.1 0 (by decide)]
theorem agL.nJ (h : agL D D') : nJ D' = nJ D := by
  show tn (D' 4 4) = tn (D 4 4)
  rw [h.1 4 (by decide)]
theorem agL.nC (h : agL D D') : nC D' = nC D := by
  show tn (D' 4 5) = tn (D 4 5)
  rw [h.1 5 (by decide)]
theorem agL.nS (h : agL D D') : nS D' = nS D := by
  show tn (D' 4 6) = tn (D 4 6)
  rw [h.1 6 (by decide)]
theorem agL.stp (h : agL D D') {j : Nat} (hj : j < 5) : stp D' j = stp D j := by
  show tn (D' 9 j) = tn (D 9 j)
  rw [h.2.2.2.2.1 j hj]
theorem agL.lnd (h : agL D D') (hL : lndOk D) : lndOk D' := by
  obtain ⟨h1, h2, h3, h4, h5, h6, h7⟩ := hL
  unfold lndOk
  rw [h.nT, h.nJ, h.nC, h.nS, h.1 0 (by decide), h.1 4 (by decide), h.1 5 (by decide), h.1 6 (by decide), h.1 3 (by decide)]
  refine ⟨h1, h2, h3, h4, h5, fun j hj => ?_, fun a b ha hb => ?_⟩
  · obtain ⟨q1, q2, q3, q4, q5, q6⟩ := h6 j hj
    have hj5 : j < 5 := by omega
    have hT := h1.2
    rw [h.stp hj5, h.2.2.1 j hj5, h.2.2.2.2.1 j hj5]
    refine ⟨q1, q2, q3, q4, fun i hi => ?_, fun i hi => ?_⟩
    · rw [h.2.2.2.2.2.1 _ (by omega)]
      exact q5 i hi
    · obtain ⟨a, b, r1, r2, r3, r4, r5⟩ := q6 i hi
      refine ⟨a, b, ?_, ?_, r3, r4, ?_⟩
      · rw [h.2.2.2.2.2.1 _ (by omega)]; exact r1
      · rw [h.2.2.2.2.2.1 _ (by omega)]; exact r2
      · rw [h.2.1 _ (by omega)]; exact r5
  · rw [h.2.1 _ (by omega), h.2.1 _ (by omega)]
    exact h7 a b ha hb
theorem agL.far (h : agL D D') (hL : lndOk D) (hF : farOk D) : farOk D' := by
  intro a b ha hb
  rw [h.nT] at ha hb
  have hT := hL.1.2
  rw [h.2.2.2.2.2.2.2.2 _ (by omega)]
  exact hF a b ha hb
theorem agL.sig (h : agL D D') (hL : lndOk D) : sigL D' = sigL D := by
  unfold sigL
  rw [h.nS]
  refine List.map_congr_left (fun i hi => h.2.2.2.2.2.2.2.1 i ?_)
  have h1 := List.mem_range.mp hi
  have h2 := hL.2.2.2.1.2
  omega
theorem agL.land {ad : Nat → Nat} {T L : Nat → Nat} {V : w_V} {P : w_P} {l jl ja cl ca vw : Nat} {lw : (Nat → Int32) → Int32} (h : agL D D') (hL : lndOk D) (hR : lndR ad T L V P l jl ja cl ca vw D lw) : lndR ad T L V P l jl ja cl ca vw D' lw := by
  obtain ⟨⟨h1, h2, h3, h4, h5⟩, h6, ⟨h7, h8, h9⟩, ⟨g1, g2, g3⟩, g4, g5⟩ := hR
  have hJ := hL.2.1.2
  have hC := hL.2.2.1.2
  unfold lndR
  rw [h.nJ, h.nC, h.1 0 (by decide), h.1 1 (by decide), h.1 2 (by decide), h.1 3 (by decide)]
  refine ⟨⟨h1, h2, h3, h4, h5⟩, fun k hk => by rw [h.2.1 k hk]; exact h6 k hk, ⟨h7, h8, fun j hj => ?_⟩, ⟨g1, g2, fun c hc => ?_⟩, g4, ?_⟩
  · obtain ⟨a, q1, q2, q3, r, q4, q5, q6, q7⟩ := h9 j hj
    have h97 := (hL.2.2.2.2.2.1 j hj).2.2.2.1
    refine ⟨a, q1, ?_, ?_, r, q4, q5, ?_, fun i hi => ?_⟩
    · rw [h.2.2.1 j (by omega)]; exact q2
    · rw [h.2.2.2.1 j (by omega)]; exact q3
    · rw [h.stp (by omega)]; exact q6
    · rw [h.stp (by omega)] at hi
      rw [h.2.2.2.2.2.1 _ (by omega)]; exact q7 i hi
  · obtain ⟨a, q1, q2, q3, q4⟩ := g3 c hc
    exact ⟨a, q1, q2, q3, fun t ht => by rw [h.2.2.2.2.2.2.1 _ (by omega)]; exact q4 t ht⟩
  · unfold lawR
    rw [h.sig hL, h.nS]
    exact g5
theorem agL.ways {V : w_V} {l : Nat} (h : agL D D') (hL : lndOk D) (hF : farR V l D) : farR V l D' := by
  intro a b ha hb
  rw [h.nT] at ha hb
  have hT := hL.1.2
  rw [h.2.2.2.2.2.2.2.2 _ (by omega)]
  exact hF a b ha hb
end AG
