/-! PURE: the model's stops, meetings -/
set_option maxRecDepth 100000
theorem pT_nat {D : MS} (hL : lndOk D) {j i : Nat} (hj : j < nJ D) (hi : i < stp D j) : ∃ t, pT D j i = nI t ∧ t < nT D := by
  obtain ⟨-, h9, h91, h97, hr, -⟩ := hL.2.2.2.2.2.1 j hj
  unfold pT
  split
  · exact hr _ (by omega)
  · exact hr _ hi
theorem road_nat {D : MS} (hL : lndOk D) {a b : Nat} (ha : a < 9) (hb : b < 9) : ∃ r, D 5 (9 * a + b) = nI r ∧ r ≤ 9 := by
  obtain ⟨r, h1, h2, -⟩ := hL.2.2.2.2.2.2 a b ha hb
  exact ⟨r, h1, h2⟩
theorem pD_step {D : MS} (hL : lndOk D) {j i : Nat} (hj : j < nJ D) (hi : i + 1 < stp D j) : ∃ a b r, pT D j i = nI a ∧ pT D j (i + 1) = nI b ∧ a < nT D ∧ b < nT D ∧ D 5 (9 * a + b) = nI r ∧ 1 ≤ r ∧ r ≤ 9 ∧ pD D j (i + 1) = pD D j i + nI r := by
  have hT9 := hL.1.2
  obtain ⟨-, h9, h91, h97, hr, hs⟩ := hL.2.2.2.2.2.1 j hj
  obtain ⟨a, ha, hat⟩ := pT_nat hL hj (show i < stp D j by omega)
  obtain ⟨b, hb, hbt⟩ := pT_nat hL hj hi
  obtain ⟨r, h1, h2, h3⟩ := hL.2.2.2.2.2.2 a b (by omega) (by omega)
  have hne : D 5 (9 * a + b) ≠ 0 := by
    by_cases hb9 : D 0 40 = nI j
    · obtain ⟨a2, b2, g1, g2, g3, g4, g5⟩ := hs (stp D j - 1 - (i + 1)) (by omega)
      have e1 : pT D j (i + 1) = D 10 (7 * j + (stp D j - 1 - (i + 1))) := by unfold pT; rw [if_pos hb9]
      have e2 : pT D j i = D 10 (7 * j + (stp D j - 1 - i)) := by unfold pT; rw [if_pos hb9]
      rw [e1, g1] at hb
      rw [e2, show stp D j - 1 - i = stp D j - 1 - (i + 1) + 1 by omega, g2] at ha
      have ea := (nI_eq (by omega) (by omega)).mp ha
      have eb := (nI_eq (by omega) (by omega)).mp hb
      subst ea eb
      obtain ⟨r2, q1, q2, q3⟩ := hL.2.2.2.2.2.2 a2 b2 (by omega) (by omega)
      rw [q3, ← q1]
      exact g5
    · obtain ⟨a2, b2, g1, g2, g3, g4, g5⟩ := hs i hi
      have e1 : pT D j (i + 1) = D 10 (7 * j + (i + 1)) := by unfold pT; rw [if_neg hb9]
      have e2 : pT D j i = D 10 (7 * j + i) := by unfold pT; rw [if_neg hb9]
      rw [e1, g2] at hb
      rw [e2, g1] at ha
      have ea := (nI_eq (by omega) (by omega)).mp ha
      have eb := (nI_eq (by omega) (by omega)).mp hb
      subst ea eb
      exact g5
  refine ⟨a, b, r, ha, hb, hat, hbt, h1, ?_, h2, ?_⟩
  · rcases Nat.eq_zero_or_pos r with h | h
    · subst h; exact absurd h1 hne
    · exact h
  · show pD D j i + D 5 (tn ((9 : Int32) * pT D j i + pT D j (i + 1))) = _
    rw [ha, hb, ix9, tn_nI (by omega), h1]
/-- a stop's day as a number -/
theorem pD_nat {D : MS} (hL : lndOk D) (hS : stOk D) {j : Nat} (hj : j < nJ D) : ∀ i, i < stp D j → ∃ d, pD D j i = nI d ∧ d ≤ 60 + 9 * i
  | 0, _ => by
    obtain ⟨d, h1, h2⟩ := hS.1 j hj
    exact ⟨d, h1, by omega⟩
  | i + 1, hi => by
    obtain ⟨d, h1, h2⟩ := pD_nat hL hS hj i (by omega)
    obtain ⟨a, b, r, -, -, -, -, -, g1, g2, g3⟩ := pD_step hL hj hi
    exact ⟨d + r, by rw [g3, h1, nI_add], by omega⟩
theorem pD_114 {D : MS} (hL : lndOk D) (hS : stOk D) {j i : Nat} (hj : j < nJ D) (hi : i < stp D j) : ∃ d, pD D j i = nI d ∧ d ≤ 114 := by
  obtain ⟨d, h1, h2⟩ := pD_nat hL hS hj i hi
  have := (hL.2.2.2.2.2.1 j hj).2.2.2.1
  exact ⟨d, h1, by omega⟩
theorem pD_lt {D : MS} (hL : lndOk D) (hS : stOk D) {j : Nat} (hj : j < nJ D) (i : Nat) : ∀ k, i + (k + 1) < stp D j → tn (pD D j i) < tn (pD D j (i + (k + 1)))
  | 0, h => by
    obtain ⟨d, h1, h2⟩ := pD_114 hL hS hj (show i < stp D j by omega)
    obtain ⟨a, b, r, -, -, -, -, -, g1, g2, g3⟩ := pD_step hL hj h
    rw [show i + (0 + 1) = i + 1 from rfl, g3, h1, nI_add, tn_nI (by omega), tn_nI (by omega)]
    omega
  | k + 1, h => by
    have h0 := pD_lt hL hS hj i k (by omega)
    obtain ⟨d, h1, h2⟩ := pD_114 hL hS hj (show i + (k + 1) < stp D j by omega)
    obtain ⟨a, b, r, -, -, -, -, -, g1, g2, g3⟩ := pD_step hL hj (show i + (k + 1) + 1 < stp D j by omega)
    rw [show i + (k + 1 + 1) = i + (k + 1) + 1 by omega, g3, h1, nI_add, tn_nI (by omega)]
    rw [h1, tn_nI (by omega)] at h0
    omega
/-- a later stop's day is later -/
theorem pD_mono {D : MS} (hL : lndOk D) (hS : stOk D) {j i k : Nat} (hj : j < nJ D) (hi : i < k) (hk : k < stp D j) : pD D j i < pD D j k := by
  have h := pD_lt hL hS hj i (k - i - 1) (by omega)
  rw [show i + (k - i - 1 + 1) = k by omega] at h
  obtain ⟨d, h1, h2⟩ := pD_114 hL hS hj (show i < stp D j by omega)
  obtain ⟨e, h3, h4⟩ := pD_114 hL hS hj hk
  rw [h1, h3, tn_nI (by omega), tn_nI (by omega)] at h
  rw [h1, h3]
  exact nI_lt h (by omega)
/-- the place written in a row of the model's -/
theorem s2_at {sg : MS} {k i : Nat} {x : Int32} : s2 sg k i x k i = x := s2_s
theorem sM_tellStops {sg D : MS} (hI : inp sg D) (hL : lndOk D) {post : MS → Prop} (h : ∀ s9 : MS, (∀ k, k ≠ 38 → k ≠ 39 → s9 k = sg k) → stops s9 D → post s9) : wM_tellStops sg post := by
  unfold wM_tellStops
  obtain ⟨hJ, hJ5⟩ := hL.2.1
  have hT9 := hL.1.2
  refine loop0 (F := fun n i s => lM_tellStops_2 post n i s) (nJ D) (fun k s => (∀ q, q ≠ 38 → q ≠ 39 → s q = sg q) ∧ ∀ j i, j < k → i < stp D j → s 38 (7 * j + i) = pT D j i ∧ s 39 (7 * j + i) = pD D j i) sg ⟨fun _ _ _ => rfl, fun j i h => absurd h (by omega)⟩ (fun n0 k s hk hs kk => ?_)
  obtain ⟨hs1, hs2⟩ := hs
  have hIs : inp s D := hI.tr (fun q hq => hs1 q (fun e => by subst e; rcases hq with h | h <;> cases h) (fun e => by subst e; rcases hq with h | h <;> cases h))
  show lM_tellStops_2 post (n0 + 1) (nI k) s
  unfold lM_tellStops_2
  rw [hIs.a rfl, hJ]
  by_cases hkN : k < nJ D
  · rw [if_neg (nI_ge hkN (by omega))]
    obtain ⟨-, h9, h91, h97, -⟩ := hL.2.2.2.2.2.1 k hkN
    refine ⟨k, by omega, rfl, ?_⟩
    rw [hIs.a rfl]
    refine loop0 (F := fun n i (q : Int32 × MS) => lM_tellStops_21 (nI k) post _ n q.1 i q.2) (stp D k) (fun i q => (q.1 = match i with | 0 => D 7 k | i' + 1 => pD D k i') ∧ (∀ z, z ≠ 38 → z ≠ 39 → q.2 z = sg z) ∧ (∀ j i, j < k → i < stp D j → q.2 38 (7 * j + i) = pT D j i ∧ q.2 39 (7 * j + i) = pD D j i) ∧ ∀ i', i' < i → q.2 38 (7 * k + i') = pT D k i' ∧ q.2 39 (7 * k + i') = pD D k i') (D 7 k, s) ⟨rfl, hs1, hs2, fun i h => absurd h (by omega)⟩ (fun n i q hi hq kk2 => ?_)
    obtain ⟨x, s1⟩ := q
    obtain ⟨hx, hq1, hq2, hq3⟩ := hq
    dsimp only at hx hq1 hq2 hq3
    have hIq : inp s1 D := hI.tr (fun z hz => hq1 z (fun e => by subst e; rcases hz with h | h <;> cases h) (fun e => by subst e; rcases hz with h | h <;> cases h))
    show lM_tellStops_21 (nI k) post _ (n + 1) x (nI i) s1
    unfold lM_tellStops_21
    refine ⟨k, by omega, rfl, ?_⟩
    rw [hIq.a rfl, h9, hIq.f rfl]
    by_cases hiN : i < stp D k
    · rw [if_neg (nI_ge hiN (by omega))]
      obtain ⟨t, ht, htT⟩ := pT_nat hL hkN hiN
      obtain ⟨kb, hkb⟩ : ∃ kb, kb = lM_tellStops_21 (nI k) post (fun g27 => lM_tellStops_2 post n0 (nI k + 1) g27) n := ⟨_, rfl⟩
      rw [← hkb] at kk2 ⊢
      -- the stop is written
      have fin : ∀ y : Int32, y = pD D k i → jM_tellStops_95 s1 (nI k) y (nI i) (pT D k i) post kb := by
        intro y hy
        unfold jM_tellStops_95
        refine ⟨7 * k + i, by omega, ix7 k i, 7 * k + i, by omega, ix7 k i, ?_⟩
        rw [nI_1]
        refine kk2 (y, _) hiN ⟨hy, fun z h1 h2 => ?_, fun j i2 h1 h2 => ?_, fun i2 h2 => ?_⟩
        · show s2 (s2 s1 38 _ _) 39 _ _ z = _
          rw [s2_rowN h2, s2_rowN h1]
          exact hq1 z h1 h2
        · have hj7 := (hL.2.2.2.2.2.1 j (by omega)).2.2.2.1
          show s2 (s2 s1 38 (7 * k + i) (pT D k i)) 39 (7 * k + i) y 38 (7 * j + i2) = _ ∧ s2 (s2 s1 38 (7 * k + i) (pT D k i)) 39 (7 * k + i) y 39 (7 * j + i2) = _
          rw [s2_k (by decide), s2_i (by omega), s2_i (by omega), s2_k (by decide)]
          exact hq2 j i2 h1 h2
        · show s2 (s2 s1 38 (7 * k + i) (pT D k i)) 39 (7 * k + i) y 38 (7 * k + i2) = _ ∧ s2 (s2 s1 38 (7 * k + i) (pT D k i)) 39 (7 * k + i) y 39 (7 * k + i2) = _
          by_cases he : i2 = i
          · subst he
            rw [s2_k (by decide), s2_s, s2_s]
            exact ⟨rfl, hy⟩
          · rw [s2_k (by decide), s2_i (by omega), s2_i (by omega), s2_k (by decide)]
            exact hq3 i2 (by omega)
      -- the day
      have mid : ∀ p : Nat, s1 10 p = pT D k i → (if nI i ≤ 0 then jM_tellStops_95 s1 (nI k) x (nI i) (s1 10 p) post kb else ∃ i16 : Nat, i16 < 35 ∧ (((7 : Int32) * nI k + nI i) - 1) = nI i16 ∧ (wM_couple s1 (s1 38 i16) (s1 10 p) (fun (r19 : Int32) => (∃ i21 : Nat, i21 < 162 ∧ r19 = nI i21 ∧ (jM_tellStops_95 s1 (nI k) (x + (s1 5 i21)) (nI i) (s1 10 p) post kb))))) := by
        intro p hp
        rw [hp]
        cases i with
        | zero =>
          rw [if_pos (by decide)]
          exact fin x hx
        | succ i0 =>
          rw [if_neg (nI_nle (by omega) (by omega))]
          refine ⟨7 * k + i0, by omega, by rw [ix7, nI_m1 (by omega)]; rfl, ?_⟩
          unfold wM_couple
          rw [(hq3 i0 (by omega)).1]
          obtain ⟨a, b, r, g1, g2, g3, g4, g5, g6, g7, g8⟩ := pD_step hL hkN hiN
          rw [g1, g2]
          refine ⟨9 * a + b, by omega, ix9 a b, ?_⟩
          rw [hIq.a rfl, g5, ← g2]
          refine fin _ ?_
          rw [g8, hx]
      by_cases hbk : nI k = D 0 40
      · rw [if_pos hbk]
        refine ⟨k, by omega, rfl, ?_⟩
        unfold jM_tellStops_61
        refine ⟨7 * k + (stp D k - 1 - i), by omega, ?_, ?_⟩
        · rw [hIq.a (k := 9) rfl, h9, nI_m1 (by omega), nI_sub (by omega), ix7]
        · refine mid _ ?_
          rw [hIq.a rfl]
          unfold pT
          rw [if_pos hbk.symm]
      · rw [if_neg hbk]
        unfold jM_tellStops_61
        refine ⟨7 * k + i, by omega, ix7 k i, ?_⟩
        refine mid _ ?_
        rw [hIq.a rfl]
        unfold pT
        rw [if_neg (fun e => hbk e.symm)]
    · have ei : i = stp D k := by omega
      rw [if_pos (nI_le (by omega) (by omega)), nI_1]
      refine kk s1 hkN ⟨hq1, fun j i2 h1 h2 => ?_⟩
      by_cases he : j = k
      · subst he
        exact hq3 i2 (by omega)
      · exact hq2 j i2 (by omega) h2
  · have ek : k = nJ D := by omega
    rw [if_pos (nI_le (by omega) (by omega))]
    exact h s hs1 (fun j i h1 h2 => hs2 j i (by omega) h2)
