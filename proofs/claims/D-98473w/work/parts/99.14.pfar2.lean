/-! PURE: measures and tellFar compute the table -/
set_option maxRecDepth 100000
theorem e_diag : ∀ k, k < 81 → ((nI k - nI k / 10 * 10 = 0) ↔ k % 10 = 0) := by decide
theorem clN_0 : clN 0 = 0 := by decide
theorem fw_0 {ro : Nat → Nat → Nat} {a b : Nat} : fw ro 0 a b = if a = b then 0 else if 0 < ro a b then ro a b else 100000 := rfl
theorem tbl_ext {ro : Nat → Nat → Nat} {N : Nat} {en : Nat → Int32} {k A Bc : Nat} {Tb Tc : Nat → Int32} (h : tbl ro N en k A Bc Tb) (e : ∀ i, Tc i = Tb i) : tbl ro N en k A Bc Tc := fun a b ha hb => by rw [e]; exact h a b ha hb
/-- only the land's measures change -/
def f6 (V V' : w_V) (l : Nat) : Prop := (∀ a, a ≠ l → V' a = V a) ∧ ∀ k, k ≠ 6 → V' l k = V l k
theorem f6.rf {V : w_V} {l : Nat} : f6 V V l := ⟨fun _ _ => rfl, fun _ _ => rfl⟩
theorem f6.up {V V' : w_V} {l i : Nat} {x : Int32} (h : f6 V V' l) : f6 V (up3 V' l 6 i x) l := ⟨fun a ha => by rw [up3_n ha]; exact h.1 a ha, fun k hk => by rw [up3_a]; show s2 (V' l) 6 i x k = _; rw [s2_rowN hk]; exact h.2 k hk⟩
theorem sX_measures {ad T L : Nat → Nat} {V : w_V} {P : w_P} {l N : Nat} {ro : Nat → Nat → Nat} {post : w_V → Prop} (hr : ∀ a b, ro a b ≤ 9) (hN : N ≤ 9) (h0 : V l 0 0 = nI N) (h5 : ∀ a b, a < 9 → b < 9 → V l 5 (9 * a + b) = nI (ro a b)) (hp : ∀ V', f6 V V' l → (∀ a b, a < N → b < N → V' l 6 (9 * a + b) = clN (fw ro N a b)) → post V') : wX2_measures ad T L V P l post := by
  have r5 : ∀ k, k < 81 → V l 5 k = nI (ro (k / 9) (k % 9)) := fun k hk => by
    have := h5 (k / 9) (k % 9) (by omega) (by omega)
    rw [← this]
    congr 1; omega
  unfold wX2_measures
  refine loop0 (F := fun n i s => lX2_measures_2 ad T L P l post _ n i s) 81 (fun k s => f6 V s l ∧ ∀ i, i < k → s l 6 i = clN (fw ro 0 (i / 9) (i % 9))) V ⟨f6.rf, fun i hi => absurd hi (by omega)⟩ (fun n k s hk hs kk => ?_)
  try dsimp only at kk ⊢
  unfold lX2_measures_2
  obtain ⟨hf, hs⟩ := hs
  by_cases hk9 : k < 81
  · have put : ∀ x, x = clN (fw ro 0 (k / 9) (k % 9)) → jX2_measures_45 ad T L s P l (nI k) x (nI k) post (lX2_measures_2 ad T L P l post _ n) := fun x hx => by
      unfold jX2_measures_45
      refine ⟨k, hk9, rfl, fun V7 e7 => ?_⟩
      rw [nI_1 k]
      refine kk V7 hk9 ⟨by rw [e7]; exact hf.up, fun i hi => ?_⟩
      rw [e7, up3_a]
      by_cases e : i = k
      · rw [e, s2_s]; exact hx
      · rw [s2_i e]; exact hs i (by omega)
    rw [if_neg (show ¬ (81 : Int32) ≤ nI k from nI_ge (b := 81) hk9 (by decide))]
    by_cases e : k % 10 = 0
    · rw [if_pos ((e_diag k hk9).mpr e)]
      refine put _ ?_
      rw [fw_0, if_pos (by omega)]; exact clN_0.symm
    · rw [if_neg (fun q => e ((e_diag k hk9).mp q))]
      refine ⟨k, hk9, rfl, ?_⟩
      have e5 : s l 5 k = nI (ro (k / 9) (k % 9)) := by rw [hf.2 5 (by decide)]; exact r5 k hk9
      have hr9 := hr (k / 9) (k % 9)
      rw [e5]
      by_cases e0 : 0 < ro (k / 9) (k % 9)
      · rw [if_neg (nI_nle e0 (by omega))]
        refine ⟨k, hk9, rfl, put _ ?_⟩
        rw [e5, fw_0, if_neg (by omega), if_pos e0, clN_s (by omega)]
      · have e9 : ro (k / 9) (k % 9) = 0 := by omega
        rw [if_pos (by rw [e9]; decide)]
        refine put _ ?_
        rw [fw_0, if_neg (by omega), if_neg e0, clN_i]; rfl
  · have e : k = 81 := by omega
    subst e
    rw [if_pos (by decide)]
    have start : tbl ro N clN 0 0 0 (s l 6) := fun a b ha hb => by
      rw [if_neg (by omega), hs (9 * a + b) (by omega)]
      congr 2 <;> omega
    refine loop0 (F := fun n i s => lX2_measures_54 ad T L P l post n i s) N (fun k s' => f6 V s' l ∧ tbl ro N clN k 0 0 (s' l 6)) s ⟨hf, start⟩ (fun n1 k1 s1 hk1 hs1 kk1 => ?_)
    try dsimp only at kk1 ⊢
    unfold lX2_measures_54
    rw [hs1.1.2 0 (by decide), h0]
    by_cases q1 : k1 < N
    · rw [if_neg (nI_ge q1 (by omega))]
      refine loop0 (F := fun n i s => lX2_measures_64 ad T L P l (nI k1) post _ n i s) N (fun k s' => f6 V s' l ∧ tbl ro N clN k1 k 0 (s' l 6)) s1 hs1 (fun n2 k2 s2' hk2 hs2 kk2 => ?_)
      try dsimp only at kk2 ⊢
      unfold lX2_measures_64
      rw [hs2.1.2 0 (by decide), h0]
      by_cases q2 : k2 < N
      · rw [if_neg (nI_ge q2 (by omega))]
        refine loop0 (F := fun n i s => lX2_measures_74 ad T L P l (nI k1) (nI k2) post _ n i s) N (fun k s' => f6 V s' l ∧ tbl ro N clN k1 k2 k (s' l 6)) s2' hs2 (fun n3 k3 s3 hk3 hs3 kk3 => ?_)
        try dsimp only at kk3 ⊢
        unfold lX2_measures_74
        rw [hs3.1.2 0 (by decide), h0]
        by_cases q3 : k3 < N
        · rw [if_neg (nI_ge q3 (by omega))]
          refine ⟨9 * k2 + k3, by omega, ix9 _ _, 9 * k2 + k1, by omega, ix9 _ _, 9 * k1 + k3, by omega, ix9 _ _, 9 * k2 + k3, by omega, ix9 _ _, fun V9 e9 => ?_⟩
          rw [nI_1 k3]
          refine kk3 V9 q3 ⟨by rw [e9]; exact hs3.1.up, ?_⟩
          refine tbl_ext (tbl_step hr hN enOk_C q1 q2 q3 hs3.2) (fun i => ?_)
          rw [e9, up3_a]
          by_cases e : i = 9 * k2 + k3
          · rw [e, s2_s, if_pos rfl]
          · rw [s2_i e, if_neg e]
        · have e3 : k3 = N := by omega
          subst e3
          rw [if_pos (nI_le (Nat.le_refl _) (by omega)), nI_1 k2]
          exact kk2 s3 q2 ⟨hs3.1, tbl_row hs3.2⟩
      · have e2 : k2 = N := by omega
        subst e2
        rw [if_pos (nI_le (Nat.le_refl _) (by omega)), nI_1 k1]
        exact kk1 s2' q1 ⟨hs2.1, tbl_stage hs2.2⟩
    · have e1 : k1 = N := by omega
      subst e1
      rw [if_pos (nI_le (Nat.le_refl _) (by omega))]
      exact hp s1 hs1.1 (fun a b ha hb => by rw [hs1.2 a b ha hb, if_neg (by omega)])
theorem sM_tellFar {sg : MS} {N : Nat} {ro : Nat → Nat → Nat} {post : MS → Prop} (hr : ∀ a b, ro a b ≤ 9) (hN : N ≤ 9) (h0 : sg 4 0 = nI N) (h5 : ∀ a b, a < 9 → b < 9 → sg 5 (9 * a + b) = nI (ro a b)) (hp : ∀ s9 : MS, (∀ k, k ≠ 25 → s9 k = sg k) → (∀ a b, a < N → b < N → s9 25 (9 * a + b) = nI (fw ro N a b)) → post s9) : wM_tellFar sg post := by
  have fu : ∀ (s : MS) (i : Nat) (x : Int32), (∀ k, k ≠ 25 → s k = sg k) → ∀ k, k ≠ 25 → s2 s 25 i x k = sg k := fun s i x h k hk => by rw [s2_rowN hk]; exact h k hk
  unfold wM_tellFar
  refine loop0 (F := fun n i s => lM_tellFar_2 post _ n i s) N (fun k s => (∀ k, k ≠ 25 → s k = sg k) ∧ ∀ a b, a < k → b < N → s 25 (9 * a + b) = nI (fw ro 0 a b)) sg ⟨fun _ _ => rfl, fun a b h => absurd h (by omega)⟩ (fun n k s hk hs kk => ?_)
  try dsimp only at kk ⊢
  unfold lM_tellFar_2
  rw [hs.1 4 (by decide), h0]
  by_cases hkN : k < N
  · rw [if_neg (nI_ge hkN (by omega))]
    refine loop0 (F := fun n i s => lM_tellFar_14 (nI k) post _ n i s) N (fun c s => (∀ k, k ≠ 25 → s k = sg k) ∧ ∀ a b, (a < k ∧ b < N) ∨ (a = k ∧ b < c) → s 25 (9 * a + b) = nI (fw ro 0 a b)) s ⟨hs.1, fun a b h => hs.2 a b (by omega) (by omega)⟩ (fun n2 c s1 hc hs1 kk1 => ?_)
    try dsimp only at kk1 ⊢
    unfold lM_tellFar_14
    rw [hs1.1 4 (by decide), h0]
    by_cases hcN : c < N
    · rw [if_neg (nI_ge hcN (by omega))]
      unfold wM_couple
      have put : ∀ x, x = nI (fw ro 0 k c) → jM_tellFar_70 s1 (nI k) (nI c) x (9 * nI k + nI c) post (lM_tellFar_14 (nI k) post _ n2) := fun x hx => by
        unfold jM_tellFar_70
        refine ⟨9 * k + c, by omega, ix9 _ _, ?_⟩
        rw [nI_1 c]
        refine kk1 _ hcN ⟨fu _ _ _ hs1.1, fun a b hab => ?_⟩
        by_cases e : 9 * a + b = 9 * k + c
        · have ea : a = k := by omega
          have eb : b = c := by omega
          subst ea eb
          rw [s2_s]; exact hx
        · rw [s2_i e]; exact hs1.2 a b (by omega)
      by_cases e : k = c
      · dsimp only
        rw [if_pos (show nI k = nI c by rw [e])]
        refine put _ ?_
        rw [fw_0, if_pos e]; rfl
      · dsimp only
        rw [if_neg (show ¬ nI k = nI c from fun q => e ((nI_eq (by omega) (by omega)).mp q))]
        refine ⟨9 * k + c, by omega, ix9 _ _, ?_⟩
        have e5 : s1 5 (9 * k + c) = nI (ro k c) := by rw [hs1.1 5 (by decide)]; exact h5 k c (by omega) (by omega)
        have hr9 := hr k c
        rw [e5]
        by_cases e0 : 0 < ro k c
        · rw [if_neg (nI_nle e0 (by omega))]
          refine ⟨9 * k + c, by omega, ix9 _ _, put _ ?_⟩
          rw [e5, fw_0, if_neg e, if_pos e0]
        · rw [if_pos (by rw [show ro k c = 0 by omega]; decide)]
          refine put _ ?_
          rw [fw_0, if_neg e, if_neg e0]; rfl
    · have e : c = N := by omega
      subst e
      rw [if_pos (nI_le (Nat.le_refl _) (by omega)), nI_1 k]
      exact kk s1 hkN ⟨hs1.1, fun a b ha hb => hs1.2 a b (by omega)⟩
  · have e : k = N := by omega
    subst e
    rw [if_pos (nI_le (Nat.le_refl _) (by omega))]
    have start : tbl ro k nI 0 0 0 (s 25) := fun a b ha hb => by
      rw [if_neg (by omega)]; exact hs.2 a b ha hb
    refine loop0 (F := fun n i s => lM_tellFar_85 post n i s) k (fun k1 s' => (∀ k, k ≠ 25 → s' k = sg k) ∧ tbl ro k nI k1 0 0 (s' 25)) s ⟨hs.1, start⟩ (fun n1 k1 s1 hk1 hs1 kk1 => ?_)
    try dsimp only at kk1 ⊢
    unfold lM_tellFar_85
    rw [hs1.1 4 (by decide), h0]
    by_cases q1 : k1 < k
    · rw [if_neg (nI_ge q1 (by omega))]
      refine loop0 (F := fun n i s => lM_tellFar_97 (nI k1) post _ n i s) k (fun k2 s' => (∀ k, k ≠ 25 → s' k = sg k) ∧ tbl ro k nI k1 k2 0 (s' 25)) s1 hs1 (fun n2 k2 s2' hk2 hs2 kk2 => ?_)
      try dsimp only at kk2 ⊢
      unfold lM_tellFar_97
      rw [hs2.1 4 (by decide), h0]
      by_cases q2 : k2 < k
      · rw [if_neg (nI_ge q2 (by omega))]
        refine loop0 (F := fun n i s => lM_tellFar_109 (nI k1) (nI k2) post _ n i s) k (fun k3 s' => (∀ k, k ≠ 25 → s' k = sg k) ∧ tbl ro k nI k1 k2 k3 (s' 25)) s2' hs2 (fun n3 k3 s3 hk3 hs3 kk3 => ?_)
        try dsimp only at kk3 ⊢
        unfold lM_tellFar_109
        rw [hs3.1 4 (by decide), h0]
        by_cases q3 : k3 < k
        · rw [if_neg (nI_ge q3 (by omega))]
          unfold wM_couple
          refine ⟨9 * k2 + k3, by omega, ix9 _ _, 9 * k2 + k1, by omega, ix9 _ _, 9 * k1 + k3, by omega, ix9 _ _, 9 * k2 + k3, by omega, ix9 _ _, ?_⟩
          rw [nI_1 k3]
          refine kk3 _ q3 ⟨fu _ _ _ hs3.1, ?_⟩
          refine tbl_ext (tbl_step hr hN enOk_M q1 q2 q3 hs3.2) (fun i => ?_)
          by_cases e : i = 9 * k2 + k3
          · rw [e, s2_s, if_pos rfl]
          · rw [s2_i e, if_neg e]
        · have e3 : k3 = k := by omega
          subst e3
          rw [if_pos (nI_le (Nat.le_refl _) (by omega)), nI_1 k2]
          exact kk2 s3 q2 ⟨hs3.1, tbl_row hs3.2⟩
      · have e2 : k2 = k := by omega
        subst e2
        rw [if_pos (nI_le (Nat.le_refl _) (by omega)), nI_1 k1]
        exact kk1 s2' q1 ⟨hs2.1, tbl_stage hs2.2⟩
    · have e1 : k1 = k := by omega
      subst e1
      rw [if_pos (nI_le (Nat.le_refl _) (by omega))]
      exact hp s1 hs1.1 (fun a b ha hb => by rw [hs1.2 a b ha hb, if_neg (by omega)])
