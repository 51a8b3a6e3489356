/-! PURE: restore -/
set_option maxRecDepth 100000
section RE
variable {ad : Nat → Nat} {T L : Nat → Nat} {V : w_V} {P : w_P} {t : Nat} {A : Nat → Nat} {sg : MS} {lw : (Nat → Int32) → Int32}
def rsM (sg s9 : MS) : Prop := (∀ q, q ≠ 0 → q ≠ 7 → q ≠ 26 → q ≠ 27 → q ≠ 28 → q ≠ 29 → q ≠ 51 → q ≠ 52 → q ≠ 53 → q ≠ 13 → s9 q = sg q) ∧ (∀ j, j ≠ 2 → j ≠ 29 → j ≠ 30 → j ≠ 31 → j ≠ 32 → j ≠ 33 → j ≠ 34 → s9 0 j = sg 0 j) ∧ s9 0 33 = sg 0 55 ∧ s9 0 34 = sg 0 56 ∧ (∀ i, i < 45 → pk s9 i = sg 58 i) ∧ (∀ i, i < 1800 → s9 29 i = sg 59 i) ∧ (∀ i, i < 8 → s9 51 i = sg 60 i ∧ s9 52 i = sg 61 i ∧ s9 53 i = sg 62 i) ∧ ∀ i, i < 3 → s9 13 i = sg 63 i
theorem qM_restore (hi : ¬ sg 0 54 = 0) {post : Int32 → MS → Prop} (hp : ∀ s9, rsM sg s9 → post 1 s9) : wM_restore sg post := by
  unfold wM_restore
  rw [s2c0 (by decide), if_neg hi]
  obtain ⟨s0, es⟩ : ∃ s0, s0 = s2 (s2 (s2 sg 0 2 0) 0 33 ((s2 sg 0 2 0) 0 55)) 0 34 ((s2 (s2 sg 0 2 0) 0 33 ((s2 sg 0 2 0) 0 55)) 0 56) := ⟨_, rfl⟩
  rw [← es]
  have r0 : ∀ q, q ≠ 0 → s0 q = sg q := fun q hq => by rw [es, s2_rowN hq, s2_rowN hq, s2_rowN hq]
  have f0 : ∀ j, j ≠ 2 → j ≠ 33 → j ≠ 34 → s0 0 j = sg 0 j := fun j a b c => by rw [es, s2_i c, s2_i b, s2_i a]
  have g0 : s0 0 33 = sg 0 55 ∧ s0 0 34 = sg 0 56 := by rw [es]; exact ⟨rfl, rfl⟩
  refine sM_unpack (p := 0) (by decide) (by decide) (Or.inr rfl) (fun s1 p1 p2 p3 => sM_be (by decide) (by decide) (by decide) (fun s2' q1 q2 => sM_be (by decide) (by decide) (by decide) (fun s3 a1 a2 => sM_be (by decide) (by decide) (by decide) (fun s4 b1 b2' => sM_be (by decide) (by decide) (by decide) (fun s5 c1 c2 => sM_be (by decide) (by decide) (by decide) (fun s6 d1 d2 => hp s6 ?_))))))
  have z : s6 0 = s1 0 := by rw [d1 0 (by decide), c1 0 (by decide), b1 0 (by decide), a1 0 (by decide), q1 0 (by decide)]
  have y : ∀ q, q ≠ 29 → q ≠ 51 → q ≠ 52 → q ≠ 53 → q ≠ 13 → s6 q = s1 q := fun q h29 h51 h52 h53 h13 => by rw [d1 q h13, c1 q h53, b1 q h52, a1 q h51, q1 q h29]
  have ep : pk s6 = pk s1 := by
    unfold pk
    rw [y 7 (by decide) (by decide) (by decide) (by decide) (by decide), y 26 (by decide) (by decide) (by decide) (by decide) (by decide), y 27 (by decide) (by decide) (by decide) (by decide) (by decide), y 28 (by decide) (by decide) (by decide) (by decide) (by decide), z]
  have u : ∀ q, q ≠ 0 → q ≠ 7 → q ≠ 26 → q ≠ 27 → q ≠ 28 → s1 q = sg q := fun q h0 a b c d => by rw [p1 q h0 a b c d]; exact r0 q h0
  refine ⟨fun q h0 h7 h26 h27 h28 h29 h51 h52 h53 h13 => ?_, fun j j2 j29 j30 j31 j32 j33 j34 => by rw [z, p2 j j29 j30 j31 j32]; exact f0 j j2 j33 j34, by rw [z, p2 33 (by decide) (by decide) (by decide) (by decide)]; exact g0.1, by rw [z, p2 34 (by decide) (by decide) (by decide) (by decide)]; exact g0.2, fun i hi => ?_, fun i hi => ?_, fun i hi => ⟨?_, ?_, ?_⟩, fun i hi => ?_⟩
  · rw [y q h29 h51 h52 h53 h13]; exact u q h0 h7 h26 h27 h28
  · rw [ep, p3 i hi, r0 58 (by decide), Nat.zero_add]
  · rw [d1 29 (by decide), c1 29 (by decide), b1 29 (by decide), a1 29 (by decide), q2 i hi, u 59 (by decide) (by decide) (by decide) (by decide) (by decide)]
  · rw [d1 51 (by decide), c1 51 (by decide), b1 51 (by decide), a2 i hi, q1 60 (by decide), u 60 (by decide) (by decide) (by decide) (by decide) (by decide)]
  · rw [d1 52 (by decide), c1 52 (by decide), b2' i hi, a1 61 (by decide), q1 61 (by decide), u 61 (by decide) (by decide) (by decide) (by decide) (by decide)]
  · rw [d1 53 (by decide), c2 i hi, b1 62 (by decide), a1 62 (by decide), q1 62 (by decide), u 62 (by decide) (by decide) (by decide) (by decide) (by decide)]
  · rw [d2 i hi, c1 63 (by decide), b1 63 (by decide), a1 63 (by decide), q1 63 (by decide), u 63 (by decide) (by decide) (by decide) (by decide) (by decide)]
theorem qM_restore0 (hi : sg 0 54 = 0) {post : Int32 → MS → Prop} (hp : post 0 (s2 sg 0 2 0)) : wM_restore sg post := by
  unfold wM_restore
  rw [s2c0 (by decide), if_pos hi]
  exact hp
theorem qX_restore (h : cR ad T L V P t A sg lw) (hb : bxP T L P t A) {post : Int32 → w_V → Prop} (h0 : sg 0 54 = 0 → post 0 V) (hp : ¬ sg 0 54 = 0 → ∀ V9 : w_V, (∀ b, T b ≠ 6 → T b ≠ 5 → V9 b = V b) → (∀ s9, rsM sg s9 → cR ad T L V9 P t A s9 lw) → post 1 V9) : wX1_restore ad T L V P t post := by
  have hJ := h.1.1.2.1.2
  obtain ⟨c1, -⟩ := h.2.2.1
  obtain ⟨d1, d2, d3⟩ := h.2.2.2.1
  unfold wX1_restore
  rw [d1]
  rcases d3 with q | ⟨q1, ⟨y1, y2⟩, ⟨-, ⟨a, c2, c3, c4, c5⟩, ⟨s, k2, k3, k4, k5⟩, c7, c8⟩⟩
  · rw [if_pos q]; exact h0 q
  have q0 : ¬ sg 0 54 = 0 := by rw [q1]; decide
  rw [if_neg q0]
  refine ⟨A 0, hb.1.2.2.1, hb.2.1.1, A 1, hb.1.2.2.2.1, hb.2.2.1.1, sX5_like (bkB hb) (bkI hb) (fun e => hb.2.2.2.1 e.symm) (fun i j hi hj e => uBI hb hi hj e.symm) (fun i j hi hj => uB_in hb hi hj) c1 d2 c4 c3 c7 (fun V9 g1 g2 g3 g4 => ?_)⟩
  have tB : ∀ i, i ≤ 40 → T (uB A i) = 6 := (bkB hb).2.2.2.2.2.2.2.2
  have f9 : ∀ b, T b ≠ 6 → T b ≠ 5 → V9 b = V b := fun b q1 q2 => g1 b (fun e => q2 (by rw [e]; exact hb.2.1.1)) (fun i hi e => q1 (by rw [e]; exact tB i hi))
  refine hp q0 V9 f9 (fun s9 hs => ?_)
  obtain ⟨m1, m2, m3, m4, m5, m6, m7, m8⟩ := hs
  obtain ⟨⟨a1, a2, a3, a4⟩, -, -, -, ⟨n, e1, e2, e3, e4⟩, f1⟩ := h
  have ha : agL sg s9 := agL.of (fun k hk => m1 k (by omega) (by omega) (by omega) (by omega) (by omega) (by omega) (by omega) (by omega) (by omega) (by omega))
  have kk : ∀ b x, T b = x → x ≠ 6 → x ≠ 5 → V9 b = V b := fun b x e q1 q2 => f9 b (by rw [e]; exact q1) (by rw [e]; exact q2)
  have stI : ∀ i, i ≤ 40 → V9 (uI A i) = V (uI A i) := fun i hi => by
    have tI := (bkI hb).2.2.2.2.2.2.2.2 i hi
    exact g1 _ (fun e => by rw [e, hb.2.1.1] at tI; cases tI) (fun j hj e => uBI hb hj hi e.symm)
  have o1 : V9 (A 1) = V (A 1) := g1 _ (fun e => hb.2.2.2.1 e.symm) (fun i hi e => by have := tB i hi; rw [← e, hb.2.2.1.1] at this; cases this)
  have el := kk _ _ a3.1.1 (by decide) (by decide)
  have et := kk _ _ hb.1.1 (by decide) (by decide)
  have o11 := kk _ _ hb.2.2.2.2.2.1.1 (by decide) (by decide)
  have o14 := kk _ _ hb.2.2.2.2.2.2.1.1 (by decide) (by decide)
  have sl : sameL T V V9 := fun b hb' => f9 b (fun e => by rw [e] at hb'; cases hb') (fun e => by rw [e] at hb'; cases hb')
  have f : ∀ j, j = 54 ∨ j = 55 ∨ j = 56 ∨ j = 14 ∨ j = 23 → s9 0 j = sg 0 j := fun j hj => m2 j (by omega) (by omega) (by omega) (by omega) (by omega) (by omega) (by omega)
  have g : ∀ q, q = 58 ∨ q = 59 ∨ q = 60 ∨ q = 61 ∨ q = 62 ∨ q = 63 ∨ q = 14 → s9 q = sg q := fun q hq => m1 q (by omega) (by omega) (by omega) (by omega) (by omega) (by omega) (by omega) (by omega) (by omega) (by omega)
  refine ⟨⟨ha.lnd a1, ha.far a1 a2, ha.land a1 (a3.V sl), ha.ways a1 (fun x y q1 q2 => by rw [el]; exact a4 x y q1 q2)⟩, ?_, ?_, ⟨?_, by rw [o14]; exact d2, Or.inr ⟨?_, ?_, ?_⟩⟩, ⟨n, by rw [f 14 (by decide)]; exact e1, e2, by rw [et]; exact e3, fun i hi => by rw [et, g 14 (by decide)]; exact e4 i hi⟩, by rw [et, f 23 (by decide)]; exact f1⟩
  · rw [ha.nJ, ha.nT]
    have hc := y1.copy hJ y2 g2
    exact ⟨hc.c hJ y2 m5, y2.c hJ m5⟩
  · rw [ha.nJ, ha.nT, ha.nC, m3, m4]
    obtain ⟨w1, w2, w3, w4⟩ := g4
    unfold bkR
    rw [o11]
    refine ⟨c1, ⟨a, c2, c3, by rw [w3]; exact c4, fun k hk => ?_⟩, ⟨s, k2, k3, by rw [w4]; exact k4, fun k hk => ?_⟩, fun k hk => ?_, fun k hk => ?_⟩
    · obtain ⟨z1, z2⟩ := c5 k hk
      have hl := g3 k hk
      rw [uI_s, uB_s] at hl
      have hc := z1.copy hJ z2 hl
      exact ⟨hc.c hJ z2 (fun i hi => m6 _ (by omega)), z2.c hJ (fun i hi => m6 _ (by omega))⟩
    · obtain ⟨q1, q2, q3, q4, q5⟩ := k5 k hk
      obtain ⟨u1, u2, u3⟩ := w1 k (by omega)
      obtain ⟨v1, v2, v3⟩ := m7 k (by omega)
      rw [u1, u2, u3, v1, v2, v3]
      exact ⟨q1, q2, q3, q4, q5⟩
    · rw [(w1 k hk).2.2]; exact c7 k hk
    · rw [w2 k hk, m8 k hk]; exact c8 k hk
  · rw [et, f 54 (by decide)]; exact d1
  · rw [f 54 (by decide)]; exact q1
  · rw [g 58 (by decide), ha.nJ, ha.nT]
    exact ⟨y1.e (stI 0 (by decide)), y2⟩
  · rw [f 55 (by decide), f 56 (by decide), g 59 (by decide), g 60 (by decide), g 61 (by decide), g 62 (by decide), g 63 (by decide), ha.nJ, ha.nT, ha.nC]
    exact bkR.e ⟨d2, ⟨a, c2, c3, c4, c5⟩, ⟨s, k2, k3, k4, k5⟩, c7, c8⟩ o1 o14 (fun k hk => by have := stI (k + 1) (by omega); rw [uI_s] at this; exact this)
end RE
