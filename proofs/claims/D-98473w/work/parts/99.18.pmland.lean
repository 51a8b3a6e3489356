/-! PURE: the model's land: start, what is taken over, fault (takeOver printed by gen/g9918.py) -/
set_option maxRecDepth 100000
/-- the model's land is D -/
def agD (s D : MS) : Prop := (∀ i, i < 7 → s 4 i = D 4 i) ∧ (∀ i, i < 81 → s 5 i = D 5 i) ∧ (∀ j, j < nJ D → s 6 j = D 6 j ∧ s 7 j = D 7 j ∧ s 8 j = D 8 j ∧ s 9 j = D 9 j ∧ ∀ i, i < stp D j → s 10 (7 * j + i) = D 10 (7 * j + i)) ∧ (∀ c t, c < nC D → t < 9 → s 11 (9 * c + t) = D 11 (9 * c + t)) ∧ ∀ i, i < nS D → s 12 i = D 12 i
section AG
variable {s D : MS}
theorem agD.n (h : agD s D) : nT s = nT D ∧ nJ s = nJ D ∧ nC s = nC D ∧ nS s = nS D := by
  refine ⟨?_, ?_, ?_, ?_⟩
  · show tn (s 4 0) = tn (D 4 0); rw [h.1 0 (by decide)]
  · show tn (s 4 4) = tn (D 4 4); rw [h.1 4 (by decide)]
  · show tn (s 4 5) = tn (D 4 5); rw [h.1 5 (by decide)]
  · show tn (s 4 6) = tn (D 4 6); rw [h.1 6 (by decide)]
theorem agD.st (h : agD s D) {j : Nat} (hj : j < nJ D) : stp s j = stp D j := by
  show tn (s 9 j) = tn (D 9 j); rw [(h.2.2.1 j hj).2.2.2.1]
theorem agD.lnd (h : agD s D) (hD : lndOk D) : lndOk s := by
  obtain ⟨eT, eJ, eC, eS⟩ := h.n
  obtain ⟨⟨a1, a2⟩, ⟨b1, b2'⟩, ⟨c1, c2⟩, ⟨d1, d2⟩, e, f, g⟩ := hD
  unfold lndOk
  rw [eT, eJ, eC, eS, h.1 0 (by decide), h.1 4 (by decide), h.1 5 (by decide), h.1 6 (by decide), h.1 3 (by decide)]
  refine ⟨⟨a1, a2⟩, ⟨b1, b2'⟩, ⟨c1, c2⟩, ⟨d1, d2⟩, e, fun j hj => ?_, fun a b ha hb => ?_⟩
  · obtain ⟨q1, q2, q3, q4, q5, q6⟩ := f j hj
    obtain ⟨r1, r2, r3, r4, r5⟩ := h.2.2.1 j hj
    rw [h.st hj, r1, r4]
    refine ⟨q1, q2, q3, q4, fun i hi => by rw [r5 i hi]; exact q5 i hi, fun i hi => ?_⟩
    obtain ⟨a, b, p1, p2, p3, p4, p5⟩ := q6 i hi
    exact ⟨a, b, by rw [r5 i (by omega)]; exact p1, by rw [r5 (i + 1) hi]; exact p2, p3, p4, by rw [h.2.1 _ (by omega)]; exact p5⟩
  · rw [h.2.1 _ (by omega), h.2.1 _ (by omega)]; exact g a b ha hb
theorem agD.lndR {ad : Nat → Nat} {T L : Nat → Nat} {V : w_V} {P : w_P} {l jl ja cl ca vw : Nat} {lw : (Nat → Int32) → Int32} (h : agD s D) (hR : lndR ad T L V P l jl ja cl ca vw D lw) : lndR ad T L V P l jl ja cl ca vw s lw := by
  obtain ⟨eT, eJ, eC, eS⟩ := h.n
  obtain ⟨⟨a1, a2, a3, a4, a5⟩, b, ⟨c1, c2, c3⟩, ⟨d1, d2, d3⟩, e, f⟩ := hR
  refine ⟨⟨a1, by rw [h.1 0 (by decide)]; exact a2, by rw [h.1 2 (by decide)]; exact a3, by rw [h.1 3 (by decide)]; exact a4, by rw [h.1 1 (by decide)]; exact a5⟩, fun k hk => by rw [h.2.1 k hk]; exact b k hk, ⟨c1, by rw [eJ]; exact c2, fun j hj => ?_⟩, ⟨d1, by rw [eC]; exact d2, fun c hc => ?_⟩, e, f.rows eS h.2.2.2.2⟩
  · rw [eJ] at hj
    obtain ⟨a, q1, q2, q3, r, q4, q5, q6, q7⟩ := c3 j hj
    obtain ⟨r1, r2, r3, r4, r5⟩ := h.2.2.1 j hj
    exact ⟨a, q1, by rw [r1]; exact q2, by rw [r3]; exact q3, r, q4, q5, by rw [h.st hj]; exact q6, fun i hi => by rw [h.st hj] at hi; rw [r5 i hi]; exact q7 i hi⟩
  · rw [eC] at hc
    obtain ⟨a, q1, q2, q3, q4⟩ := d3 c hc
    exact ⟨a, q1, q2, q3, fun t ht => by rw [h.2.2.2.1 c t hc ht]; exact q4 t ht⟩
end AG
theorem sM_takeHalf {sg : MS} {a0 n0 h : Nat} (hn : n0 = 2 * h) (hh : h ≤ 700) {post : MS → Prop} (hp : ∀ s9 : MS, (∀ k, k ≠ a0 + 1 → s9 k = sg k) → (∀ i, i < h → s9 (a0 + 1) i = sg (a0 + 1) (h + i)) → post s9) : wM_takeHalf sg a0 n0 post := by
  subst hn
  have ed : nI (2 * h) / 2 = nI h := by
    rw [show (2 : Int32) = nI 2 from rfl, nI_div (by omega) (by omega)]
    congr 1; omega
  unfold wM_takeHalf
  refine loop0 (F := fun n i s => lM_takeHalf_2 a0 (2 * h) post n i s) h (fun k s => (∀ q, q ≠ a0 + 1 → s q = sg q) ∧ (∀ i, i < k → s (a0 + 1) i = sg (a0 + 1) (h + i)) ∧ ∀ i, k ≤ i → s (a0 + 1) i = sg (a0 + 1) i) sg ⟨fun _ _ => rfl, fun i hi => absurd hi (by omega), fun _ _ => rfl⟩ (fun n k s hk hs kk => ?_)
  try dsimp only at kk ⊢
  unfold lM_takeHalf_2
  rw [ed]
  obtain ⟨f1, f2, f3⟩ := hs
  by_cases e : k < h
  · rw [if_neg (nI_ge e (by omega))]
    refine ⟨h + k, by omega, nI_add _ _, k, by omega, rfl, ?_⟩
    rw [nI_1 k]
    refine kk _ e ⟨fun q hq => by rw [s2_rowN hq]; exact f1 q hq, fun i hi => ?_, fun i hi => by rw [s2_i (by omega)]; exact f3 i (by omega)⟩
    by_cases ei : i = k
    · rw [ei, s2_s, f3 _ (by omega)]
    · rw [s2_i ei]; exact f2 i (by omega)
  · have ek : k = h := by omega
    subst ek
    rw [if_pos (nI_le (Nat.le_refl _) (by omega))]
    exact hp s f1 f2
/-- the roads as numbers -/
def roN (D : MS) (a b : Nat) : Nat := if a < 9 ∧ b < 9 then tn (D 5 (9 * a + b)) else 0
theorem roN_le {D : MS} (h : lndOk D) (a b : Nat) : roN D a b ≤ 9 := by
  unfold roN
  split
  · obtain ⟨r, q1, q2, -⟩ := h.2.2.2.2.2.2 a b (by omega) (by omega)
    rw [q1, tn_nI (by omega)]; exact q2
  · omega
theorem roN_e {D : MS} (h : lndOk D) {a b : Nat} (ha : a < 9) (hb : b < 9) : D 5 (9 * a + b) = nI (roN D a b) := by
  unfold roN
  rw [if_pos ⟨ha, hb⟩]
  obtain ⟨r, q1, q2, -⟩ := h.2.2.2.2.2.2 a b ha hb
  rw [q1, tn_nI (by omega)]
def zf (j : Nat) : Bool := j == 29 || j == 30 || j == 31 || j == 32 || j == 33 || j == 34 || j == 54
/-- what is taken over -/
def tkO (sg D s9 : MS) : Prop := agD s9 D ∧ (∀ k, k ≠ 0 → k ≠ 25 → hlf k = 0 → s9 k = sg k) ∧ (∀ j, zf j = false → s9 0 j = sg 0 j) ∧ s9 0 29 = D 4 1 ∧ (∀ j, zf j = true → j ≠ 29 → s9 0 j = 0) ∧ ∀ a b, a < nT D → b < nT D → s9 25 (9 * a + b) = nI (fw (roN D) (nT D) a b)
theorem sM_takeOver {sg D : MS} (hD : lndOk D) (hM : mAg sg D) {post : MS → Prop} (hp : ∀ s9, tkO sg D s9 → post s9) : wM_takeOver sg post := by
  unfold wM_takeOver
  refine sM_takeHalf (h := 7) rfl (by decide) (fun g0 a0 b0 => ?_)
  refine sM_takeHalf (h := 81) rfl (by decide) (fun g1 a1 b1 => ?_)
  refine sM_takeHalf (h := 5) rfl (by decide) (fun g2 a2 b2 => ?_)
  refine sM_takeHalf (h := 5) rfl (by decide) (fun g3 a3 b3 => ?_)
  refine sM_takeHalf (h := 5) rfl (by decide) (fun g4 a4 b4 => ?_)
  refine sM_takeHalf (h := 5) rfl (by decide) (fun g5 a5 b5 => ?_)
  refine sM_takeHalf (h := 35) rfl (by decide) (fun g6 a6 b6 => ?_)
  refine sM_takeHalf (h := 54) rfl (by decide) (fun g7 a7 b7 => ?_)
  refine sM_takeHalf (h := 600) rfl (by decide) (fun g8 a8 b8 => ?_)
  have fr : ∀ k, hlf k = 0 → g8 k = sg k := fun k hk => by
    have ne : ∀ q, hlf q ≠ 0 → k ≠ q := fun q hq e => hq (by rw [← e]; exact hk)
    rw [a8 k (ne 12 (by decide)), a7 k (ne 11 (by decide)), a6 k (ne 10 (by decide)), a5 k (ne 9 (by decide)), a4 k (ne 8 (by decide)), a3 k (ne 7 (by decide)), a2 k (ne 6 (by decide)), a1 k (ne 5 (by decide)), a0 k (ne 4 (by decide))]
  have r4 : ∀ i, i < 7 → g8 4 i = sg 4 (7 + i) := fun i hi => by
    rw [a8 4 (by decide), a7 4 (by decide), a6 4 (by decide), a5 4 (by decide), a4 4 (by decide), a3 4 (by decide), a2 4 (by decide), a1 4 (by decide)]
    rw [b0 i hi]
  have r5 : ∀ i, i < 81 → g8 5 i = sg 5 (81 + i) := fun i hi => by
    rw [a8 5 (by decide), a7 5 (by decide), a6 5 (by decide), a5 5 (by decide), a4 5 (by decide), a3 5 (by decide), a2 5 (by decide)]
    rw [b1 i hi]
    rw [a0 5 (by decide)]
  have r6 : ∀ i, i < 5 → g8 6 i = sg 6 (5 + i) := fun i hi => by
    rw [a8 6 (by decide), a7 6 (by decide), a6 6 (by decide), a5 6 (by decide), a4 6 (by decide), a3 6 (by decide)]
    rw [b2 i hi]
    rw [a1 6 (by decide), a0 6 (by decide)]
  have r7 : ∀ i, i < 5 → g8 7 i = sg 7 (5 + i) := fun i hi => by
    rw [a8 7 (by decide), a7 7 (by decide), a6 7 (by decide), a5 7 (by decide), a4 7 (by decide)]
    rw [b3 i hi]
    rw [a2 7 (by decide), a1 7 (by decide), a0 7 (by decide)]
  have r8 : ∀ i, i < 5 → g8 8 i = sg 8 (5 + i) := fun i hi => by
    rw [a8 8 (by decide), a7 8 (by decide), a6 8 (by decide), a5 8 (by decide)]
    rw [b4 i hi]
    rw [a3 8 (by decide), a2 8 (by decide), a1 8 (by decide), a0 8 (by decide)]
  have r9 : ∀ i, i < 5 → g8 9 i = sg 9 (5 + i) := fun i hi => by
    rw [a8 9 (by decide), a7 9 (by decide), a6 9 (by decide)]
    rw [b5 i hi]
    rw [a4 9 (by decide), a3 9 (by decide), a2 9 (by decide), a1 9 (by decide), a0 9 (by decide)]
  have r10 : ∀ i, i < 35 → g8 10 i = sg 10 (35 + i) := fun i hi => by
    rw [a8 10 (by decide), a7 10 (by decide)]
    rw [b6 i hi]
    rw [a5 10 (by decide), a4 10 (by decide), a3 10 (by decide), a2 10 (by decide), a1 10 (by decide), a0 10 (by decide)]
  have r11 : ∀ i, i < 54 → g8 11 i = sg 11 (54 + i) := fun i hi => by
    rw [a8 11 (by decide)]
    rw [b7 i hi]
    rw [a6 11 (by decide), a5 11 (by decide), a4 11 (by decide), a3 11 (by decide), a2 11 (by decide), a1 11 (by decide), a0 11 (by decide)]
  have r12 : ∀ i, i < 600 → g8 12 i = sg 12 (600 + i) := fun i hi => by
    rw [b8 i hi]
    rw [a7 12 (by decide), a6 12 (by decide), a5 12 (by decide), a4 12 (by decide), a3 12 (by decide), a2 12 (by decide), a1 12 (by decide), a0 12 (by decide)]
  have hag : agD g8 D := by
    obtain ⟨m1, m2, m3, m4, m5⟩ := hM
    obtain ⟨-, ⟨-, hJ⟩, ⟨-, hC⟩, ⟨-, hS⟩, -, hj, -⟩ := hD
    refine ⟨fun i hi => (r4 i hi).trans (m1 i hi), fun i hi => (r5 i hi).trans (m2 i hi), fun j hj' => ?_, fun c t hc ht => (r11 _ (by omega)).trans (m4 c t hc ht), fun i hi => (r12 i (by omega)).trans (m5 i hi)⟩
    obtain ⟨n1, n2, n3, n4, n5⟩ := m3 j hj'
    have hs7 := (hj j hj').2.2.2.1
    exact ⟨(r6 j (by omega)).trans n1, (r7 j (by omega)).trans n2, (r8 j (by omega)).trans n3, (r9 j (by omega)).trans n4, fun i hi => (r10 _ (by omega)).trans (n5 i hi)⟩
  have e0 : ∀ k, k ≠ 0 → (s2 (s2 (s2 (s2 (s2 (s2 (s2 g8 0 29 (g8 4 1)) 0 30 0) 0 31 0) 0 32 0) 0 33 0) 0 34 0) 0 54 0) k = g8 k := fun k hk => by
    rw [s2_rowN hk, s2_rowN hk, s2_rowN hk, s2_rowN hk, s2_rowN hk, s2_rowN hk, s2_rowN hk]
  refine sM_tellFar (N := nT D) (ro := roN D) (roN_le hD) hD.1.2 ?_ (fun a b ha hb => ?_) (fun s9 f1 f2 => hp s9 ⟨?_, fun k hk h25 hh => ?_, fun j hj => ?_, ?_, fun j hj h29 => ?_, f2⟩)
  · rw [e0 4 (by decide), hag.1 0 (by decide)]; exact hD.1.1
  · rw [e0 5 (by decide), hag.2.1 _ (by omega)]; exact roN_e hD ha hb
  · have e9 : ∀ k, k ≠ 0 → k ≠ 25 → s9 k = g8 k := fun k hk h25 => by rw [f1 k h25, e0 k hk]
    refine ⟨fun i hi => by rw [e9 4 (by decide) (by decide)]; exact hag.1 i hi, fun i hi => by rw [e9 5 (by decide) (by decide)]; exact hag.2.1 i hi, fun j hj => ?_, fun c t hc ht => by rw [e9 11 (by decide) (by decide)]; exact hag.2.2.2.1 c t hc ht, fun i hi => by rw [e9 12 (by decide) (by decide)]; exact hag.2.2.2.2 i hi⟩
    rw [e9 6 (by decide) (by decide), e9 7 (by decide) (by decide), e9 8 (by decide) (by decide), e9 9 (by decide) (by decide), e9 10 (by decide) (by decide)]
    exact hag.2.2.1 j hj
  · rw [f1 k h25, e0 k hk, fr k hh]
  · have n : ∀ q, zf q = true → j ≠ q := fun q hq e => by rw [e, hq] at hj; cases hj
    rw [f1 0 (by decide), s2_i (n 54 rfl), s2_i (n 34 rfl), s2_i (n 33 rfl), s2_i (n 32 rfl), s2_i (n 31 rfl), s2_i (n 30 rfl), s2_i (n 29 rfl), fr 0 rfl]
  · rw [f1 0 (by decide)]
    show g8 4 1 = _
    exact hag.1 1 (by decide)
  · rw [f1 0 (by decide)]
    have h : j = 30 ∨ j = 31 ∨ j = 32 ∨ j = 33 ∨ j = 34 ∨ j = 54 := by
      unfold zf at hj
      simp only [Bool.or_eq_true, beq_iff_eq] at hj
      omega
    rcases h with e | e | e | e | e | e <;> subst e <;> rfl
/-- a land of which nothing is read -/
def D0 : MS := fun k i => if k = 4 ∧ i = 3 then 10 else 0
theorem D0_ok : DOk D0 := by
  refine ⟨⟨⟨rfl, by decide⟩, ⟨rfl, by decide⟩, ⟨rfl, by decide⟩, ⟨rfl, by decide⟩, ⟨10, rfl, by decide⟩, fun j hj => absurd hj (Nat.not_lt_zero j), fun a b _ _ => ⟨0, rfl, by decide, rfl⟩⟩, ⟨0, rfl, by decide⟩, ⟨0, rfl, by decide⟩, fun j hj => absurd hj (Nat.not_lt_zero j)⟩
theorem sM_land0 {sg : MS} {post : MS → Prop} {post' : Int32 → MS → Prop} (hp : ∀ s9, mAg s9 D0 → fU sg s9 → (∀ j, s9 0 j = sg 0 j) → s9 14 = sg 14 → post s9) : ∃ n20, lM_land_50 post' (fun (g6 : MS) => ∃ n19, lM_land_84 post' post n19 0 g6) n20 0 sg := by
  refine loop0 (F := fun n i s => lM_land_50 post' _ n i s) 7 (fun k s => (∀ q, q ≠ 4 → s q = sg q) ∧ (∀ i, i < 7 → s 4 i = sg 4 i) ∧ ∀ i, i < k → s 4 (7 + i) = D0 4 i) sg ⟨fun _ _ => rfl, fun _ _ => rfl, fun i hi => absurd hi (by omega)⟩ (fun n k s hk hs kk => ?_)
  try dsimp only at kk ⊢
  unfold lM_land_50
  obtain ⟨f1, f2, f3⟩ := hs
  by_cases e : k < 7
  · rw [if_neg (show ¬ (7 : Int32) ≤ nI k from nI_ge (b := 7) e (by decide))]
    have put : ∀ x, x = D0 4 k → jM_land_75 s (nI k) x (7 + nI k) post' (lM_land_50 post' (fun (g6 : MS) => ∃ n19, lM_land_84 post' post n19 0 g6) n) := fun x hx => by
      unfold jM_land_75
      refine ⟨7 + k, by omega, by rw [show (7 : Int32) = nI 7 from rfl, nI_add], ?_⟩
      rw [nI_1 k]
      refine kk _ e ⟨fun q hq => by rw [s2_rowN hq]; exact f1 q hq, fun i hi => by rw [s2_i (by omega)]; exact f2 i hi, fun i hi => ?_⟩
      by_cases ei : i = k
      · rw [ei, s2_s]; exact hx
      · rw [s2_i (by omega)]; exact f3 i (by omega)
    by_cases e3 : k = 3
    · rw [if_pos (show nI k = 3 by rw [e3]; rfl)]
      exact put 10 (by rw [e3]; rfl)
    · rw [if_neg (show ¬ nI k = 3 from fun q => e3 ((nI_eq (b := 3) (by omega) (by decide)).mp q))]
      refine put 0 ?_
      show 0 = if 4 = 4 ∧ k = 3 then _ else _
      rw [if_neg (fun q => e3 q.2)]
  · have ek : k = 7 := by omega
    subst ek
    rw [if_pos (by decide)]
    refine loop0 (F := fun n i s => lM_land_84 post' post n i s) 81 (fun k s' => (∀ q, q ≠ 5 → s' q = s q) ∧ (∀ i, i < 81 → s' 5 i = s 5 i) ∧ ∀ i, i < k → s' 5 (81 + i) = 0) s ⟨fun _ _ => rfl, fun _ _ => rfl, fun i hi => absurd hi (by omega)⟩ (fun n1 k1 s1 hk1 hs1 kk1 => ?_)
    try dsimp only at kk1 ⊢
    unfold lM_land_84
    obtain ⟨g1, g2, g3⟩ := hs1
    by_cases e : k1 < 81
    · rw [if_neg (show ¬ (81 : Int32) ≤ nI k1 from nI_ge (b := 81) e (by decide))]
      refine ⟨81 + k1, by omega, by rw [show (81 : Int32) = nI 81 from rfl, nI_add], ?_⟩
      rw [nI_1 k1]
      refine kk1 _ e ⟨fun q hq => by rw [s2_rowN hq]; exact g1 q hq, fun i hi => by rw [s2_i (by omega)]; exact g2 i hi, fun i hi => ?_⟩
      by_cases ei : i = k1
      · rw [ei, s2_s]
      · rw [s2_i (by omega)]; exact g3 i (by omega)
    · have ek : k1 = 81 := by omega
      subst ek
      rw [if_pos (by decide)]
      refine hp s1 ⟨fun i hi => ?_, fun i hi => ?_, fun j hj => absurd hj (Nat.not_lt_zero j), fun c t hc => absurd hc (Nat.not_lt_zero c), fun i hi => absurd hi (Nat.not_lt_zero i)⟩ ⟨fun k i hk hi => ?_, fun j _ _ _ => ?_⟩ (fun j => ?_) ?_
      · rw [g1 4 (by decide)]; exact f3 i hi
      · rw [g3 i hi]; rfl
      · by_cases e5 : k = 5
        · subst e5
          rcases hi with q | q
          · cases q
          · rw [g2 i q, f1 5 (by decide)]
        · rw [g1 k e5]
          by_cases e4 : k = 4
          · subst e4
            rcases hi with q | q
            · cases q
            · exact f2 i q
          · rw [f1 k e4]
      · rw [g1 0 (by decide), f1 0 (by decide)]
      · rw [g1 0 (by decide), f1 0 (by decide)]
      · rw [g1 14 (by decide), f1 14 (by decide)]
