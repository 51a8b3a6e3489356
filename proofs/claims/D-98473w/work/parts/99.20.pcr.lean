/-! PURE: the relation after a land -/
set_option maxRecDepth 100000
def A9 (A : Nat → Nat) (tr l jl ja cl ca vw : Nat) : Nat → Nat := fun i => if i = 4 then tr else if i = 5 then l else if i = 6 then jl else if i = 7 then ja else if i = 8 then cl else if i = 9 then ca else if i = 10 then vw else A i
section CT
variable {ad : Nat → Nat} {T L : Nat → Nat} {V : w_V} {P : w_P} {T' L' : Nat → Nat} {V' : w_V} {P' : w_P} {x : Nat} {A : Nat → Nat} {sg D s9 : MS} {lw lw' : (Nat → Int32) → Int32}
theorem cR_tkF {pl : Nat} (h : cR ad T L V P x A sg lw) (hb : bxP T L P x A) (hk : tkF sg pl s9) (hV : ∀ a, a ≠ x → a ≠ A 0 → V' a = V a) (h06 : V' x 0 6 = V x 0 6) (h08 : V' x 0 8 = 0) (h09 : V' x 0 9 = nI pl) (hA : V' (A 0) = s2 (V (A 0)) 5 0 (V (A 0) 5 0 + 1)) : cR ad T L V' P x A s9 lw := by
  obtain ⟨k1, k2, ⟨k3, k4, k5⟩, k6⟩ := hk
  obtain ⟨⟨a1, a2, a3, a4⟩, ⟨b1, b2'⟩, c1, ⟨d1, d2, d3⟩, ⟨n, e1, e2, e3, e4⟩, f1⟩ := h
  have row : ∀ k, k ≠ 0 → k ≠ 13 → hlf k = 0 → s9 k = sg k := fun k q0 q1 q2 => funext fun i => k1 k i q0 q1 (Or.inl q2)
  have hT : nT sg ≤ 9 := a1.1.2
  have hJ : nJ sg ≤ 5 := a1.2.1.2
  have ag : agD s9 sg := by
    obtain ⟨-, -, ⟨-, hC⟩, ⟨-, hS⟩, -, hj, -⟩ := id a1
    refine ⟨fun i hi => k1 4 i (by decide) (by decide) (Or.inr hi), fun i hi => k1 5 i (by decide) (by decide) (Or.inr hi), fun j hj' => ⟨k1 6 j (by decide) (by decide) (Or.inr (by show j < 5; omega)), k1 7 j (by decide) (by decide) (Or.inr (by show j < 5; omega)), k1 8 j (by decide) (by decide) (Or.inr (by show j < 5; omega)), k1 9 j (by decide) (by decide) (Or.inr (by show j < 5; omega)), fun i hi => ?_⟩, fun c t hc ht => k1 11 _ (by decide) (by decide) (Or.inr (by show 9 * c + t < 54; omega)), fun i hi => k1 12 i (by decide) (by decide) (Or.inr (by show i < 600; omega))⟩
    have := (hj j hj').2.2.2.1
    exact k1 10 _ (by decide) (by decide) (Or.inr (by show 7 * j + i < 35; omega))
  obtain ⟨eT, eJ, eC, eS⟩ := ag.n
  have nx : ∀ a t, T a = t → t ≠ 2 → a ≠ x := fun a t q q2 e => q2 (by rw [← q, e]; exact hb.1.1)
  have nA : ∀ a t, T a = t → t ≠ 5 → a ≠ A 0 := fun a t q q2 e => q2 (by rw [← q, e]; exact hb.2.1.1)
  have st : ∀ i, stI i → V' (A i) = V (A i) := fun i hi => hV _ (nx _ 6 (bx_st hb hi) (by decide)) (nA _ 6 (bx_st hb hi) (by decide))
  have el : V' (A 5) = V (A 5) := hV _ (nx _ 3 a3.1.1 (by decide)) (nA _ 3 a3.1.1 (by decide))
  have e11 : V' (A 11) = V (A 11) := hV _ (nx _ 16 hb.2.2.2.2.2.1.1 (by decide)) (nA _ 16 hb.2.2.2.2.2.1.1 (by decide))
  have e14 : V' (A 14) = V (A 14) := hV _ (nx _ 16 hb.2.2.2.2.2.2.1.1 (by decide)) (nA _ 16 hb.2.2.2.2.2.2.1.1 (by decide))
  have e1' : V' (A 1) = V (A 1) := hV _ (nx _ 5 hb.2.2.1.1 (by decide)) (fun e => hb.2.2.2.1 e.symm)
  have pke : ∀ i, i < 45 → pk s9 i = pk sg i := fun i hi => by
    unfold pk
    rw [k6 29 rfl (by decide) (by decide) (by decide) (by decide) (by decide) (by decide), k6 30 rfl (by decide) (by decide) (by decide) (by decide) (by decide) (by decide), k6 31 rfl (by decide) (by decide) (by decide) (by decide) (by decide) (by decide), k6 32 rfl (by decide) (by decide) (by decide) (by decide) (by decide) (by decide), row 26 (by decide) (by decide) rfl, row 27 (by decide) (by decide) rfl, row 28 (by decide) (by decide) rfl]
    by_cases q : i < 5
    · rw [if_pos q, if_pos q]; exact k1 7 i (by decide) (by decide) (Or.inr q)
    · rw [if_neg q, if_neg q]
  have ff : ∀ j, rj j = false → j ≠ 2 → j ≠ 14 → j ≠ 16 → j ≠ 21 → j ≠ 22 → j ≠ 23 → s9 0 j = sg 0 j := k6
  refine ⟨⟨ag.lnd a1, ?_, ?_, ?_⟩, ⟨?_, ?_⟩, ?_, ⟨?_, ?_, ?_⟩, ⟨0, by rw [k4]; rfl, by decide, h08, fun i hi => absurd hi (by omega)⟩, by rw [h09, k5]⟩
  · intro a b ha hb'
    rw [eT] at ha hb'
    rw [row 25 (by decide) (by decide) rfl]; exact a2 a b ha hb'
  · refine ag.lndR (a3.V (fun a ha => hV a (fun e => ?_) (fun e => ?_)))
    · rw [e, hb.1.1] at ha; cases ha
    · rw [e, hb.2.1.1] at ha; cases ha
  · intro a b ha hb'
    rw [eT] at ha hb'
    rw [row 25 (by decide) (by decide) rfl, el]; exact a4 a b ha hb'
  · rw [eJ]
    exact (b1.e (st 2 stI2)).c hJ b2' pke
  · rw [eJ, eT]
    exact rowOk.c hJ b2' pke
  · rw [eT, eJ, eC, ff 33 rfl (by decide) (by decide) (by decide) (by decide) (by decide) (by decide), ff 34 rfl (by decide) (by decide) (by decide) (by decide) (by decide) (by decide), row 29 (by decide) (by decide) rfl, row 51 (by decide) (by decide) rfl, row 52 (by decide) (by decide) rfl, row 53 (by decide) (by decide) rfl, k2]
    obtain ⟨g1, ⟨a, g2, g3, g4, g5⟩, ⟨s, g6, g7, g8, g9⟩, g10, g11⟩ := c1
    have eo : ∀ k, k ≠ 5 → V' (A 0) k = V (A 0) k := fun k hk => by rw [hA, s2_rowN hk]
    refine ⟨by rw [e11]; exact g1, ⟨a, g2, g3, by rw [eo 0 (by decide)]; exact g4, fun k hk => ⟨(g5 k hk).1.e (st _ (stIa (by omega))), (g5 k hk).2⟩⟩, ⟨s, g6, g7, by rw [eo 0 (by decide)]; exact g8, fun k hk => by rw [eo 3 (by decide), eo 4 (by decide), eo 6 (by decide)]; exact g9 k hk⟩, fun k hk => by rw [eo 6 (by decide)]; exact g10 k hk, fun k hk => ?_⟩
    rw [hA]
    by_cases e : k = 0
    · rw [e, s2_s, s2_s, g11 0 (by decide)]
    · rw [s2_i e, s2_i e]; exact g11 k hk
  · rw [h06, ff 54 rfl (by decide) (by decide) (by decide) (by decide) (by decide) (by decide)]; exact d1
  · rw [e14]; exact d2
  · rw [ff 54 rfl (by decide) (by decide) (by decide) (by decide) (by decide) (by decide), eT, eJ, eC, ff 55 rfl (by decide) (by decide) (by decide) (by decide) (by decide) (by decide), ff 56 rfl (by decide) (by decide) (by decide) (by decide) (by decide) (by decide), row 58 (by decide) (by decide) rfl, row 59 (by decide) (by decide) rfl, row 60 (by decide) (by decide) rfl, row 61 (by decide) (by decide) rfl, row 62 (by decide) (by decide) rfl, row 63 (by decide) (by decide) rfl]
    rcases d3 with q | ⟨q1, ⟨q2, q3⟩, q4⟩
    · exact Or.inl q
    · exact Or.inr ⟨q1, ⟨q2.e (st 13 stI13), q3⟩, q4.e e1' e14 (fun k hk => st _ (stIb hk))⟩
theorem cR_tkS {tr l jl ja cl ca vw : Nat} (h : cR ad T L V P x A sg lw) (hb : bxP T L P x A) (hk : tkS sg D s9) (hD : DOk D)
    (hx : ∀ a, T a ≠ 0 → T' a = T a ∧ L' a = L a ∧ (a ≠ x → P' a = P a) ∧ (a ≠ x → a ≠ A 0 → a ≠ A 2 → V' a = V a))
    (px : ∀ j, P' x j = if j = 0 then some l else if j = 5 then some tr else P x j) (vx : V' x 0 6 = 0 ∧ V' x 0 8 = 0 ∧ V' x 0 9 = -1)
    (vb : V' (A 0) 0 6 = 0 ∧ V' (A 0) 0 7 = 0 ∧ ∀ k, k ≠ 0 → V' (A 0) k = V (A 0) k)
    (vs : (∀ j, j < nJ D → V' (A 2) 1 j = D 7 j) ∧ V' (A 2) 0 4 = D 4 1 ∧ (∀ j, 5 ≤ j → j < 11 → V' (A 2) 0 j = 0) ∧ V' (A 2) 0 11 = -1)
    (ht : T' tr = 7 ∧ P' tr 0 = some l ∧ P' tr 1 = some (A 3)) (hl : lndR ad T' L' V' P' l jl ja cl ca vw D lw')
    (hf : ∀ a b, a < nT D → b < nT D → V' l 6 (9 * a + b) = clN (fw (roN D) (nT D) a b)) (h0 : T jl = 0 ∧ T ja = 0 ∧ T cl = 0 ∧ T ca = 0) : bxP T' L' P' x (A9 A tr l jl ja cl ca vw) ∧ cR ad T' L' V' P' x (A9 A tr l jl ja cl ca vw) s9 lw' := by
  obtain ⟨k1, k2, ⟨k3, k4, k5, k6⟩, k7, k8⟩ := hk
  obtain ⟨hD1, hD2, -, hD4⟩ := hD
  obtain ⟨eT, eJ, eC, eS⟩ := k1.n
  have hT : nT D ≤ 9 := hD1.1.2
  have hJ : nJ D ≤ 5 := hD1.2.1.2
  obtain ⟨⟨a1, a2, a3, a4, a5, a6, a7⟩, ⟨b1, b2', b3⟩, ⟨c1, c2, c3⟩, d, ⟨e1, e2, e3⟩, ⟨f1, f2, f3, f4⟩, ⟨g1, g2, g3, g4⟩, ⟨i1, i2, i3, i4, i5, i6⟩, j, k, m⟩ := id hb
  have AA : ∀ i, stI i → A9 A tr l jl ja cl ca vw i = A i := fun i hi => by
    unfold A9
    unfold stI at hi
    rw [if_neg (by omega), if_neg (by omega), if_neg (by omega), if_neg (by omega), if_neg (by omega), if_neg (by omega), if_neg (by omega)]
  have nx : ∀ a t, T a = t → t ≠ 2 → a ≠ x := fun a t q q2 e => q2 (by rw [← q, e]; exact a1)
  have nA : ∀ a t, T a = t → t ≠ 5 → a ≠ A 0 := fun a t q q2 e => q2 (by rw [← q, e]; exact b1)
  have nS : ∀ a t, T a = t → t ≠ 6 → a ≠ A 2 := fun a t q q2 e => q2 (by rw [← q, e]; exact k 2 stI2)
  obtain ⟨b4, b5, b6, -⟩ := hx _ (ne0 b1)
  obtain ⟨c4, c5, c6, -⟩ := hx _ (ne0 c1)
  obtain ⟨f5, f6, f7, f8⟩ := hx _ (ne0 f1)
  obtain ⟨f9, f10, f11, -⟩ := hx _ (ne0 f3)
  obtain ⟨g5, g6, g7, g8⟩ := hx _ (ne0 g1)
  obtain ⟨g9, g10, g11, -⟩ := hx _ (ne0 g3)
  have b6' := b6 (nx _ 5 b1 (by decide))
  have c6' := c6 (nx _ 5 c1 (by decide))
  have f7' := f7 (nx _ 16 f1 (by decide))
  have g7' := g7 (nx _ 16 g1 (by decide))
  have f11' := f11 (nx _ 2004 f3 (by decide))
  have g11' := g11 (nx _ 2004 g3 (by decide))
  have f8' := f8 (nx _ 16 f1 (by decide)) (nA _ 16 f1 (by decide)) (nS _ 16 f1 (by decide))
  have g8' := g8 (nx _ 16 g1 (by decide)) (nA _ 16 g1 (by decide)) (nS _ 16 g1 (by decide))
  have z0 : ∀ a q, T a = q + 1 → ∀ w, T w = 0 → a ≠ w := fun a q h1 w h2 e => by rw [e, h2] at h1; cases h1
  refine ⟨⟨⟨(hx x (ne0 a1)).1.trans a1, ?_, ?_, ?_, ?_, ?_, ?_⟩, ⟨b4.trans b1, ?_, ?_⟩, ⟨c4.trans c1, ?_, ?_⟩, d, ⟨ht.1, ht.2.1, ht.2.2⟩, ⟨f5.trans f1, ?_, f9.trans f3, f10.trans f4⟩, ⟨g5.trans g1, ?_, g9.trans g3, g10.trans g4⟩, ⟨i1, i2, z0 _ _ f1 _ h0.1, z0 _ _ f1 _ h0.2.2.1, z0 _ _ f3 _ h0.2.1, z0 _ _ f3 _ h0.2.2.2⟩, fun q hq => ?_, fun i hi => ?_, fun i j' hi hj e => ?_⟩, ?_⟩
  · rw [px]; rfl
  · rw [px]; exact a3
  · rw [px]; exact a4
  · rw [px]; exact a5
  · rw [px]; exact a6
  · rw [px]; rfl
  · rw [show A9 A tr l jl ja cl ca vw 0 = A 0 from rfl, b6']; exact b2'
  · rw [show A9 A tr l jl ja cl ca vw 0 = A 0 from rfl, b6']; exact b3
  · rw [show A9 A tr l jl ja cl ca vw 1 = A 1 from rfl, c6']; exact c2
  · rw [show A9 A tr l jl ja cl ca vw 1 = A 1 from rfl, c6']; exact c3
  · rw [show A9 A tr l jl ja cl ca vw 11 = A 11 from rfl, f7']; exact f2
  · rw [show A9 A tr l jl ja cl ca vw 14 = A 14 from rfl, g7']; exact g2
  · rw [AA _ (stIa hq), AA _ (stIb hq), show A9 A tr l jl ja cl ca vw 12 = A 12 from rfl, show A9 A tr l jl ja cl ca vw 15 = A 15 from rfl, f11', g11']; exact j q hq
  · rw [AA i hi]; exact (hx _ (ne0 (k i hi))).1.trans (k i hi)
  · rw [AA i hi, AA j' hj] at e; exact m i j' hi hj e
  · obtain ⟨hc1, hc2, hc3, ⟨hc4, hc5, -⟩, -⟩ := h
    obtain ⟨q1, -, -, q10, q11⟩ := hc3
    have k30 := k7 30 rfl (by decide)
    have k31 := k7 31 rfl (by decide)
    have k32 := k7 32 rfl (by decide)
    have k33 := k7 33 rfl (by decide)
    have k34 := k7 34 rfl (by decide)
    have k54 := k7 54 rfl (by decide)
    refine ⟨⟨k1.lnd hD1, fun a b ha hb' => ?_, k1.lndR hl, fun a b ha hb' => ?_⟩, ⟨⟨fun j hj => ?_, ?_, ?_, ?_, ?_, fun i hi => ?_, fun i hi => ?_, fun i hi => ?_, ?_, ?_, ?_, ?_⟩, ⟨fun j hj => ?_, ?_, ?_, ?_, fun i hi => ?_, fun i hi => ?_, ?_⟩⟩, ⟨?_, ⟨0, k33, by decide, vb.1, fun i hi => absurd hi (by omega)⟩, ⟨0, k34, by decide, vb.2.1, fun i hi => absurd hi (by omega)⟩, fun i hi => ?_, fun i hi => ?_⟩, ⟨?_, ?_, Or.inl k54⟩, ⟨0, k4, by decide, vx.2.1, fun i hi => absurd hi (by omega)⟩, ?_⟩
    · rw [eT] at ha hb'
      exact ⟨_, k8 a b ha hb', fw_90 (roN_le hD1) hT a b⟩
    · rw [eT] at ha hb'
      rw [k8 a b ha hb']; exact hf a b ha hb'
    · rw [eJ] at hj
      rw [pk_d (by omega), (k1.2.2.1 j hj).2.1]; exact vs.1 j hj
    · rw [pk_5, k6]; exact vs.2.1
    · rw [pk_6, k30]; exact vs.2.2.1 5 (by decide) (by decide)
    · rw [pk_7, k31]; exact vs.2.2.1 6 (by decide) (by decide)
    · rw [pk_8, k32]; exact vs.2.2.1 7 (by decide) (by decide)
    · rw [pk_6, k30] at hi; exact absurd hi (Nat.not_lt_zero i)
    · rw [pk_7, k31] at hi; exact absurd hi (Nat.not_lt_zero i)
    · rw [pk_8, k32] at hi; exact absurd hi (Nat.not_lt_zero i)
    · exact vs.2.2.1 8 (by decide) (by decide)
    · exact vs.2.2.1 9 (by decide) (by decide)
    · exact vs.2.2.1 10 (by decide) (by decide)
    · exact vs.2.2.2
    · rw [eJ] at hj
      rw [pk_d (by omega), (k1.2.2.1 j hj).2.1]; exact hD4 j hj
    · rw [pk_6, k30]; decide
    · rw [pk_7, k31]; decide
    · rw [pk_8, k32]; decide
    · rw [pk_6, k30] at hi; exact absurd hi (Nat.not_lt_zero i)
    · rw [pk_8, k32] at hi; exact absurd hi (Nat.not_lt_zero i)
    · rw [pk_5, k6]; exact hD2
    · rw [show A9 A tr l jl ja cl ca vw 11 = A 11 from rfl, f8']; exact q1
    · rw [show A9 A tr l jl ja cl ca vw 0 = A 0 from rfl, vb.2.2 6 (by decide)]; exact q10 i hi
    · rw [show A9 A tr l jl ja cl ca vw 0 = A 0 from rfl, vb.2.2 5 (by decide), k2 13 (by decide) (by decide) rfl]; exact q11 i hi
    · rw [vx.1, k54]
    · rw [show A9 A tr l jl ja cl ca vw 14 = A 14 from rfl, g8']; exact hc5
    · rw [vx.2.2, k5]
end CT
