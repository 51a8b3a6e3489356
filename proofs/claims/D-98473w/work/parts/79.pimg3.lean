/-! PURE: image at the class -/
set_option maxRecDepth 100000
section IX
variable {ad : Nat → Nat} {T L : Nat → Nat} {V : w_V} {P : w_P} {t : Nat} {A : Nat → Nat} {sg : MS} {lw : (Nat → Int32) → Int32}
theorem qX_image (h : cR ad T L V P t A sg lw) (hb : bxP T L P t A) {post : w_V → Prop} (hp : ∀ V9 : w_V, (∀ b, T b ≠ 6 → T b ≠ 5 → T b ≠ 2 → V9 b = V b) → (∀ s9, imM sg s9 → cR ad T L V9 P t A s9 lw) → post V9) : wX1_image ad T L V P t post := by
  have hJ := h.1.1.2.1.2
  have hv := h.vw
  obtain ⟨⟨a1, a2, a3, a4⟩, ⟨b1, b2'⟩, ⟨c1, ⟨a, c2, c3, c4, c5⟩, ⟨s, k2, k3, k4, k5⟩, c7, c8⟩, ⟨d1, d2, d3⟩, ⟨n, e1, e2, e3, e4⟩, f1⟩ := id h
  unfold wX1_image
  refine ⟨A 1, hb.1.2.2.2.1, hb.2.2.1.1, A 0, hb.1.2.2.1, hb.2.1.1, sX5_like (bkI hb) (bkB hb) hb.2.2.2.1 (fun i j hi hj => uBI hb hj hi) (fun i j hi hj => uI_in hb hi hj) d2 c1 c4 c3 c7 (fun V8 g1 g2 g3 g4 V9 e9 => ?_)⟩
  have tI : ∀ i, i ≤ 40 → T (uI A i) = 6 := (bkI hb).2.2.2.2.2.2.2.2
  have f8 : ∀ b, T b ≠ 6 → T b ≠ 5 → V8 b = V b := fun b q1 q2 => g1 b (fun e => q2 (by rw [e]; exact hb.2.2.1.1)) (fun i hi e => q1 (by rw [e]; exact tI i hi))
  have n9 : ∀ b, b ≠ t → V9 b = V8 b := fun b hbt => by rw [e9, up3_n hbt]
  have f9 : ∀ b, T b ≠ 6 → T b ≠ 5 → T b ≠ 2 → V9 b = V b := fun b q1 q2 q3 => by
    rw [n9 b (fun e => q3 (by rw [e]; exact hb.1.1))]; exact f8 b q1 q2
  refine hp V9 f9 (fun s9 hs => ?_)
  obtain ⟨m1, m2, m3, m4, m5, m6, m7, m8, m9⟩ := hs
  have ha : agL sg s9 := agL.of (fun k hk => m1 k (by omega) (by omega) (by omega) (by omega) (by omega) (by omega) (by omega))
  have kk : ∀ b x, T b = x → x ≠ 6 → x ≠ 5 → x ≠ 2 → V9 b = V b := fun b x e q1 q2 q3 => f9 b (by rw [e]; exact q1) (by rw [e]; exact q2) (by rw [e]; exact q3)
  have stB : ∀ i, i ≤ 40 → V9 (uB A i) = V (uB A i) := fun i hi => by
    have tB := (bkB hb).2.2.2.2.2.2.2.2 i hi
    rw [n9 _ (fun e => by rw [e, hb.1.1] at tB; cases tB)]
    exact g1 _ (fun e => by rw [e, hb.2.2.1.1] at tB; cases tB) (fun j hj => uBI hb hi hj)
  have o0 : V9 (A 0) = V (A 0) := by
    rw [n9 _ (T_ne hb.2.1.1 hb.1.1 (by decide))]
    exact g1 _ hb.2.2.2.1 (fun i hi e => by have := tI i hi; rw [← e, hb.2.1.1] at this; cases this)
  have o1 : V9 (A 1) = V8 (A 1) := n9 _ (T_ne hb.2.2.1.1 hb.1.1 (by decide))
  have ot : ∀ k i, ¬ (k = 0 ∧ i = 6) → V9 t k i = V t k i := fun k i q => by
    rw [e9, up3_a]
    unfold s2
    rw [if_neg q, f8 t (by rw [hb.1.1]; decide) (by rw [hb.1.1]; decide)]
  have el := kk _ _ a3.1.1 (by decide) (by decide) (by decide)
  have o11 := kk _ _ hb.2.2.2.2.2.1.1 (by decide) (by decide) (by decide)
  have o14 := kk _ _ hb.2.2.2.2.2.2.1.1 (by decide) (by decide) (by decide)
  have sl : sameL T V V9 := fun b hb' => f9 b (fun e => by rw [e] at hb'; cases hb') (fun e => by rw [e] at hb'; cases hb') (fun e => by rw [e] at hb'; cases hb')
  have epk : pk s9 = pk sg := by
    unfold pk
    rw [m1 7 (by decide) (by decide) (by decide) (by decide) (by decide) (by decide) (by decide), m1 26 (by decide) (by decide) (by decide) (by decide) (by decide) (by decide) (by decide), m1 27 (by decide) (by decide) (by decide) (by decide) (by decide) (by decide) (by decide), m1 28 (by decide) (by decide) (by decide) (by decide) (by decide) (by decide) (by decide), m2 29 (by decide) (by decide) (by decide) (by decide), m2 30 (by decide) (by decide) (by decide) (by decide), m2 31 (by decide) (by decide) (by decide) (by decide), m2 32 (by decide) (by decide) (by decide) (by decide)]
  have lk9 : ∀ i (σ : MS), i ≤ 40 → lkX V8 (uI A i) σ → lkX V9 (uI A i) σ := fun i σ hi hl => by
    have tB := tI i hi
    unfold lkX
    rw [n9 _ (fun e => by rw [e, hb.1.1] at tB; cases tB)]
    exact hl
  refine ⟨⟨ha.lnd a1, ha.far a1 a2, ha.land a1 (a3.V sl), ha.ways a1 (fun x y q1 q2 => by rw [el]; exact a4 x y q1 q2)⟩, ?_, ?_, ⟨?_, by rw [o14]; exact d2, Or.inr ⟨m3, ?_, ?_⟩⟩, ⟨n, by rw [m2 14 (by decide) (by decide) (by decide) (by decide)]; exact e1, e2, by rw [ot 0 8 (by decide)]; exact e3, fun i hi => by rw [ot 8 i (by omega), m1 14 (by decide) (by decide) (by decide) (by decide) (by decide) (by decide) (by decide)]; exact e4 i hi⟩, by rw [ot 0 9 (by decide), m2 23 (by decide) (by decide) (by decide) (by decide)]; exact f1⟩
  · rw [ha.nJ, ha.nT, epk]
    exact ⟨b1.e (stB 0 (by decide)), b2'⟩
  · rw [ha.nJ, ha.nT, ha.nC, m2 33 (by decide) (by decide) (by decide) (by decide), m2 34 (by decide) (by decide) (by decide) (by decide), m1 29 (by decide) (by decide) (by decide) (by decide) (by decide) (by decide) (by decide), m1 51 (by decide) (by decide) (by decide) (by decide) (by decide) (by decide) (by decide), m1 52 (by decide) (by decide) (by decide) (by decide) (by decide) (by decide) (by decide), m1 53 (by decide) (by decide) (by decide) (by decide) (by decide) (by decide) (by decide), m1 13 (by decide) (by decide) (by decide) (by decide) (by decide) (by decide) (by decide)]
    exact h.2.2.1.e o0 o11 (fun k hk => by have := stB (k + 1) (by omega); rw [uB_s] at this; exact this)
  · rw [m3, e9, up3_a, s2_s]
  · rw [ha.nJ, ha.nT]
    have hc := b1.copy hJ b2' (lk9 0 _ (by decide) g2)
    exact ⟨hc.c hJ b2' m6, b2'.c hJ m6⟩
  · rw [ha.nJ, ha.nT, ha.nC, m4, m5]
    obtain ⟨w1, w2, w3, w4⟩ := g4
    unfold bkR
    rw [o14, o1]
    refine ⟨d2, ⟨a, c2, c3, by rw [w3]; exact c4, fun k hk => ?_⟩, ⟨s, k2, k3, by rw [w4]; exact k4, fun k hk => ?_⟩, fun k hk => ?_, fun k hk => ?_⟩
    · obtain ⟨y1, y2⟩ := c5 k hk
      have hl := lk9 (k + 1) _ (by omega) (g3 k hk)
      rw [uI_s, uB_s] at hl
      have hc := y1.copy hJ y2 hl
      exact ⟨hc.c hJ y2 (fun i hi => m7 _ (by omega)), y2.c hJ (fun i hi => m7 _ (by omega))⟩
    · obtain ⟨q1, q2, q3, q4, q5⟩ := k5 k hk
      obtain ⟨u1, u2, u3⟩ := w1 k (by omega)
      obtain ⟨v1, v2, v3⟩ := m8 k (by omega)
      rw [u1, u2, u3, v1, v2, v3]
      exact ⟨q1, q2, q3, q4, q5⟩
    · rw [(w1 k hk).2.2]; exact c7 k hk
    · rw [w2 k hk, m9 k hk]; exact c8 k hk
end IX
