/-! PURE: rows packed and unpacked; keep -/
set_option maxRecDepth 100000
theorem rowX.c {V : w_V} {a n nt : Nat} {r r' : Nat → Int32} (h : rowX V a n r) (hn : n ≤ 5) (ho : rowOk nt n r) (e : ∀ i, i < 45 → r' i = r i) : rowX V a n r' := by
  obtain ⟨h1, h2, h3, h4, h5, h6, h7, h8, h9⟩ := h
  have o6 := ho.2.1.2
  have o7 := ho.2.2.1.2
  have o8 := ho.2.2.2.1.2
  unfold rowX
  rw [e 5 (by decide), e 6 (by decide), e 7 (by decide), e 8 (by decide)]
  exact ⟨fun j hj => by rw [e j (by omega)]; exact h1 j hj, h2, h3, h4, h5, fun k hk => by rw [e _ (by omega)]; exact h6 k hk, fun k hk => by rw [e _ (by omega)]; exact h7 k hk, fun k hk => by rw [e _ (by omega)]; exact h8 k hk, h9⟩
theorem rowOk.c {n nt : Nat} {r r' : Nat → Int32} (hn : n ≤ 5) (ho : rowOk nt n r) (e : ∀ i, i < 45 → r' i = r i) : rowOk nt n r' := by
  obtain ⟨h1, h2, h3, h4, h5, h6, h7⟩ := ho
  unfold rowOk
  rw [e 5 (by decide), e 6 (by decide), e 7 (by decide), e 8 (by decide)]
  exact ⟨fun j hj => by rw [e j (by omega)]; exact h1 j hj, h2, h3, h4, fun k hk => by rw [e _ (by omega), e _ (by omega)]; exact h5 k hk, fun k hk => by rw [e _ (by omega), e _ (by omega)]; exact h6 k hk, h7⟩
theorem ipl {p k : Nat} : nI p + nI k = nI (p + k) := nI_add p k
theorem sM_pack {sg : MS} {a1 n1 p : Nat} (hpn : p + 45 ≤ n1) (hn : n1 ≤ 10000) (ha : a1 = 28 ∨ a1 = 57) {post : MS → Prop} (h : ∀ s9 : MS, (∀ q, q ≠ a1 + 1 → s9 q = sg q) → (∀ i, i < 45 → s9 (a1 + 1) (p + i) = pk sg i) → (∀ i, i < p ∨ p + 45 ≤ i → s9 (a1 + 1) i = sg (a1 + 1) i) → post s9) : wM_pack sg a1 n1 (nI p) post := by
  unfold wM_pack
  refine loop0 (F := fun n i (s : MS) => lM_pack_5 a1 n1 (nI p) post _ n i s) 5 (fun k s => (∀ q, q ≠ a1 + 1 → s q = sg q) ∧ (∀ i, i < k → s (a1 + 1) (p + i) = pk sg i) ∧ ∀ i, i < p ∨ p + 45 ≤ i → s (a1 + 1) i = sg (a1 + 1) i) sg ⟨fun _ _ => rfl, fun i hi => absurd hi (by omega), fun _ _ => rfl⟩ (fun n k s hk hs kk => ?_)
  obtain ⟨h1, h2, h3⟩ := hs
  show lM_pack_5 a1 n1 (nI p) post _ (n + 1) (nI k) s
  unfold lM_pack_5
  by_cases hkN : k < 5
  · rw [if_neg (show ¬ (5 : Int32) ≤ nI k from nI_ge (b := 5) hkN (by decide))]
    refine ⟨k, by omega, rfl, p + k, by omega, ipl, ?_⟩
    rw [nI_1]
    refine kk _ hkN ⟨fun q hq => by rw [s2_rowN hq]; exact h1 q hq, fun i hi => ?_, fun i hi => by rw [s2_i (by omega)]; exact h3 i hi⟩
    by_cases e : i = k
    · subst e
      rw [s2_s, h1 7 (by omega), pk_d hkN]
    · rw [s2_i (by omega)]; exact h2 i (by omega)
  · have ek : k = 5 := by omega
    subst ek
    rw [if_pos (show (5 : Int32) ≤ nI 5 by decide)]
    have x5 : nI p + 5 = nI (p + 5) := nI_add p 5
    rw [x5, show nI (p + 5) + 1 = nI (p + 6) from nI_add _ 1, show nI (p + 5) + 2 = nI (p + 7) from nI_add _ 2, show nI (p + 5) + 3 = nI (p + 8) from nI_add _ 3, show nI (p + 5) + 4 = nI (p + 9) from nI_add _ 4]
    refine ⟨p + 5, by omega, rfl, p + 6, by omega, rfl, p + 7, by omega, rfl, p + 8, by omega, rfl, ?_⟩
    have n0 : (0 : Nat) ≠ a1 + 1 := by omega
    simp only [s2_rowN n0, h1 0 n0]
    obtain ⟨s1, es1⟩ : ∃ s1, s1 = s2 (s2 (s2 (s2 s (a1 + 1) (p + 5) (sg 0 29)) (a1 + 1) (p + 6) (sg 0 30)) (a1 + 1) (p + 7) (sg 0 31)) (a1 + 1) (p + 8) (sg 0 32) := ⟨_, rfl⟩
    rw [← es1]
    have g1 : ∀ q, q ≠ a1 + 1 → s1 q = sg q := fun q hq => by rw [es1, s2_rowN hq, s2_rowN hq, s2_rowN hq, s2_rowN hq]; exact h1 q hq
    have g2 : ∀ i, i < 9 → s1 (a1 + 1) (p + i) = pk sg i := fun i hi => by
      rw [es1]
      by_cases e8 : i = 8
      · subst e8; rw [s2_s, pk_8]
      rw [s2_i (by omega)]
      by_cases e7 : i = 7
      · subst e7; rw [s2_s, pk_7]
      rw [s2_i (by omega)]
      by_cases e6 : i = 6
      · subst e6; rw [s2_s, pk_6]
      rw [s2_i (by omega)]
      by_cases e5 : i = 5
      · subst e5; rw [s2_s, pk_5]
      rw [s2_i (by omega)]
      exact h2 i (by omega)
    have g3 : ∀ i, i < p ∨ p + 45 ≤ i → s1 (a1 + 1) i = sg (a1 + 1) i := fun i hi => by
      rw [es1, s2_i (by omega), s2_i (by omega), s2_i (by omega), s2_i (by omega)]; exact h3 i hi
    refine loop0 (F := fun n i (s : MS) => lM_pack_73 a1 n1 (nI (p + 9)) post n i s) 12 (fun k s => (∀ q, q ≠ a1 + 1 → s q = sg q) ∧ (∀ i, i < 9 + k ∨ (21 ≤ i ∧ i < 21 + k) ∨ (33 ≤ i ∧ i < 33 + k) → s (a1 + 1) (p + i) = pk sg i) ∧ ∀ i, i < p ∨ p + 45 ≤ i → s (a1 + 1) i = sg (a1 + 1) i) s1 ⟨g1, fun i hi => g2 i (by omega), g3⟩ (fun n k s hk hs kk => ?_)
    obtain ⟨h1, h2, h3⟩ := hs
    show lM_pack_73 a1 n1 (nI (p + 9)) post (n + 1) (nI k) s
    unfold lM_pack_73
    by_cases hkN : k < 12
    · rw [if_neg (show ¬ (12 : Int32) ≤ nI k from nI_ge (b := 12) hkN (by decide))]
      rw [show nI (p + 9) + 12 = nI (p + 21) from nI_add _ 12, show nI (p + 9) + 24 = nI (p + 33) from nI_add _ 24]
      refine ⟨k, by omega, rfl, p + 9 + k, by omega, ipl, k, by omega, rfl, p + 21 + k, by omega, ipl, k, by omega, rfl, p + 33 + k, by omega, ipl, ?_⟩
      rw [nI_1]
      have n27 : (27 : Nat) ≠ a1 + 1 := by omega
      have n28 : (28 : Nat) ≠ a1 + 1 := by omega
      rw [s2_rowN n27, s2_rowN n28, s2_rowN n28, h1 26 (by omega), h1 27 n27, h1 28 n28]
      refine kk _ hkN ⟨fun q hq => by rw [s2_rowN hq, s2_rowN hq, s2_rowN hq]; exact h1 q hq, fun i hi => ?_, fun i hi => by rw [s2_i (by omega), s2_i (by omega), s2_i (by omega)]; exact h3 i hi⟩
      by_cases e3 : i = 33 + k
      · subst e3
        rw [show p + (33 + k) = p + 33 + k by omega, s2_s, pk_l]
      rw [s2_i (by omega)]
      by_cases e2 : i = 21 + k
      · subst e2
        rw [show p + (21 + k) = p + 21 + k by omega, s2_s, pk_f hkN]
      rw [s2_i (by omega)]
      by_cases e1 : i = 9 + k
      · subst e1
        rw [show p + (9 + k) = p + 9 + k by omega, s2_s, pk_w hkN]
      rw [s2_i (by omega)]
      exact h2 i (by omega)
    · have ek : k = 12 := by omega
      subst ek
      rw [if_pos (show (12 : Int32) ≤ nI 12 by decide)]
      exact h s h1 (fun i hi => h2 i (by omega)) h3
/-- what unpacking leaves -/
theorem sM_unpack {sg : MS} {a1 n1 p : Nat} (hpn : p + 45 ≤ n1) (hn : n1 ≤ 10000) (ha : a1 = 28 ∨ a1 = 57) {post : MS → Prop} (h : ∀ s9 : MS, (∀ q, q ≠ 0 → q ≠ 7 → q ≠ 26 → q ≠ 27 → q ≠ 28 → s9 q = sg q) → (∀ j, j ≠ 29 → j ≠ 30 → j ≠ 31 → j ≠ 32 → s9 0 j = sg 0 j) → (∀ i, i < 45 → pk s9 i = sg (a1 + 1) (p + i)) → post s9) : wM_unpack sg a1 n1 (nI p) post := by
  have m0 : (a1 + 1 : Nat) ≠ 0 := by omega
  have m7 : (a1 + 1 : Nat) ≠ 7 := by omega
  have m26 : (a1 + 1 : Nat) ≠ 26 := by omega
  have m27 : (a1 + 1 : Nat) ≠ 27 := by omega
  have m28 : (a1 + 1 : Nat) ≠ 28 := by omega
  unfold wM_unpack
  refine loop0 (F := fun n i (s : MS) => lM_unpack_5 a1 n1 (nI p) post _ n i s) 5 (fun k s => (∀ q, q ≠ 7 → s q = sg q) ∧ ∀ i, i < k → s 7 i = sg (a1 + 1) (p + i)) sg ⟨fun _ _ => rfl, fun i hi => absurd hi (by omega)⟩ (fun n k s hk hs kk => ?_)
  obtain ⟨h1, h2⟩ := hs
  show lM_unpack_5 a1 n1 (nI p) post _ (n + 1) (nI k) s
  unfold lM_unpack_5
  by_cases hkN : k < 5
  · rw [if_neg (show ¬ (5 : Int32) ≤ nI k from nI_ge (b := 5) hkN (by decide))]
    refine ⟨p + k, by omega, ipl, k, by omega, rfl, ?_⟩
    rw [nI_1]
    refine kk _ hkN ⟨fun q hq => by rw [s2_rowN hq]; exact h1 q hq, fun i hi => ?_⟩
    by_cases e : i = k
    · subst e; rw [s2_s, h1 _ m7]
    · rw [s2_i e]; exact h2 i (by omega)
  · have ek : k = 5 := by omega
    subst ek
    rw [if_pos (show (5 : Int32) ≤ nI 5 by decide)]
    have x5 : nI p + 5 = nI (p + 5) := nI_add p 5
    rw [x5, show nI (p + 5) + 1 = nI (p + 6) from nI_add _ 1, show nI (p + 5) + 2 = nI (p + 7) from nI_add _ 2, show nI (p + 5) + 3 = nI (p + 8) from nI_add _ 3, show nI (p + 5) + 4 = nI (p + 9) from nI_add _ 4]
    refine ⟨p + 5, by omega, rfl, p + 6, by omega, rfl, p + 7, by omega, rfl, p + 8, by omega, rfl, ?_⟩
    simp only [s2_rowN m0, h1 _ m7]
    obtain ⟨s1, es1⟩ : ∃ s1, s1 = s2 (s2 (s2 (s2 s 0 29 (sg (a1 + 1) (p + 5))) 0 30 (sg (a1 + 1) (p + 6))) 0 31 (sg (a1 + 1) (p + 7))) 0 32 (sg (a1 + 1) (p + 8)) := ⟨_, rfl⟩
    rw [← es1]
    have g1 : ∀ q, q ≠ 0 → q ≠ 7 → s1 q = sg q := fun q h0 h7 => by rw [es1, s2_rowN h0, s2_rowN h0, s2_rowN h0, s2_rowN h0]; exact h1 q h7
    have g2 : ∀ j, j ≠ 29 → j ≠ 30 → j ≠ 31 → j ≠ 32 → s1 0 j = sg 0 j := fun j q1 q2 q3 q4 => by rw [es1, s2_i q4, s2_i q3, s2_i q2, s2_i q1, h1 0 (by decide)]
    have g3 : ∀ i, i < 5 → s1 7 i = sg (a1 + 1) (p + i) := fun i hi => by rw [es1, s2_rowN (by decide), s2_rowN (by decide), s2_rowN (by decide), s2_rowN (by decide)]; exact h2 i hi
    have g4 : s1 0 29 = sg (a1 + 1) (p + 5) ∧ s1 0 30 = sg (a1 + 1) (p + 6) ∧ s1 0 31 = sg (a1 + 1) (p + 7) ∧ s1 0 32 = sg (a1 + 1) (p + 8) := by rw [es1]; exact ⟨rfl, rfl, rfl, rfl⟩
    refine loop0 (F := fun n i (s : MS) => lM_unpack_73 a1 n1 (nI (p + 9)) post n i s) 12 (fun k s => (∀ q, q ≠ 26 → q ≠ 27 → q ≠ 28 → s q = s1 q) ∧ ∀ i, i < k → s 26 i = sg (a1 + 1) (p + (9 + i)) ∧ s 27 i = sg (a1 + 1) (p + (21 + i)) ∧ s 28 i = sg (a1 + 1) (p + (33 + i))) s1 ⟨fun _ _ _ _ => rfl, fun i hi => absurd hi (by omega)⟩ (fun n k s hk hs kk => ?_)
    obtain ⟨h1, h2⟩ := hs
    show lM_unpack_73 a1 n1 (nI (p + 9)) post (n + 1) (nI k) s
    unfold lM_unpack_73
    have ea : s (a1 + 1) = sg (a1 + 1) := by rw [h1 _ m26 m27 m28, g1 _ m0 m7]
    by_cases hkN : k < 12
    · rw [if_neg (show ¬ (12 : Int32) ≤ nI k from nI_ge (b := 12) hkN (by decide))]
      rw [show nI (p + 9) + 12 = nI (p + 21) from nI_add _ 12, show nI (p + 9) + 24 = nI (p + 33) from nI_add _ 24]
      refine ⟨p + 9 + k, by omega, ipl, k, by omega, rfl, p + 21 + k, by omega, ipl, k, by omega, rfl, p + 33 + k, by omega, ipl, k, by omega, rfl, ?_⟩
      rw [nI_1, s2_rowN m26, s2_rowN m27, s2_rowN m26, ea]
      refine kk _ hkN ⟨fun q q1 q2 q3 => by rw [s2_rowN q3, s2_rowN q2, s2_rowN q1]; exact h1 q q1 q2 q3, fun i hi => ?_⟩
      by_cases e : i = k
      · subst e
        refine ⟨?_, ?_, ?_⟩
        · rw [s2_k (by decide), s2_k (by decide), s2_s, show p + 9 + i = p + (9 + i) by omega]
        · rw [s2_k (by decide), s2_s, show p + 21 + i = p + (21 + i) by omega]
        · rw [s2_s, show p + 33 + i = p + (33 + i) by omega]
      · obtain ⟨u1, u2, u3⟩ := h2 i (by omega)
        refine ⟨?_, ?_, ?_⟩
        · rw [s2_i e, s2_i e, s2_i e]; exact u1
        · rw [s2_i e, s2_i e, s2_i e]; exact u2
        · rw [s2_i e, s2_i e, s2_i e]; exact u3
    · have ek : k = 12 := by omega
      subst ek
      rw [if_pos (show (12 : Int32) ≤ nI 12 by decide)]
      have e0 : s 0 = s1 0 := h1 0 (by decide) (by decide) (by decide)
      refine h s (fun q q0 q7 q26 q27 q28 => by rw [h1 q q26 q27 q28]; exact g1 q q0 q7) (fun j q1 q2 q3 q4 => by rw [e0]; exact g2 j q1 q2 q3 q4) (fun i hi => ?_)
      by_cases c5 : i < 5
      · rw [pk_d c5, h1 7 (by decide) (by decide) (by decide)]; exact g3 i c5
      by_cases d5 : i = 5
      · subst d5; rw [pk_5, e0]; exact g4.1
      by_cases d6 : i = 6
      · subst d6; rw [pk_6, e0]; exact g4.2.1
      by_cases d7 : i = 7
      · subst d7; rw [pk_7, e0]; exact g4.2.2.1
      by_cases d8 : i = 8
      · subst d8; rw [pk_8, e0]; exact g4.2.2.2
      by_cases c21 : i < 21
      · obtain ⟨k, rfl⟩ : ∃ k, i = 9 + k := ⟨i - 9, by omega⟩
        rw [pk_w (by omega)]; exact (h2 k (by omega)).1
      by_cases c33 : i < 33
      · obtain ⟨k, rfl⟩ : ∃ k, i = 21 + k := ⟨i - 21, by omega⟩
        rw [pk_f (by omega)]; exact (h2 k (by omega)).2.1
      · obtain ⟨k, rfl⟩ : ∃ k, i = 33 + k := ⟨i - 33, by omega⟩
        rw [pk_l]; exact (h2 k (by omega)).2.2
/-- what keeping leaves at the model -/
def kpM (sg s9 : MS) (a : Nat) : Prop := (∀ q, q ≠ 0 → q ≠ 29 → s9 q = sg q) ∧ (∀ j, j ≠ 33 → s9 0 j = sg 0 j) ∧ (a < 40 → s9 0 33 = nI (a + 1) ∧ (∀ k i, k < a → i < 45 → s9 29 (45 * k + i) = sg 29 (45 * k + i)) ∧ ∀ i, i < 45 → s9 29 (45 * a + i) = pk sg i) ∧
  (a = 40 → s9 0 33 = nI 40 ∧ (∀ k i, k < 39 → i < 45 → s9 29 (45 * k + i) = sg 29 (45 * (k + 1) + i)) ∧ ∀ i, i < 45 → s9 29 (45 * 39 + i) = pk sg i)
theorem ix45 (a : Nat) : (45 : Int32) * nI a = nI (45 * a) := by rw [show (45 : Int32) = nI 45 from rfl, nI_mul]
theorem sM_keep {sg : MS} {a : Nat} (ha : sg 0 33 = nI a) (ha2 : a ≤ 40) {post : MS → Prop} (h : ∀ s9 : MS, kpM sg s9 a → post s9) : wM_keep sg post := by
  unfold wM_keep jM_keep_52
  rw [ha]
  by_cases e : a = 40
  · subst e
    rw [if_pos (show nI 40 = 40 from rfl)]
    have lp : ∀ (F : Nat → Int32 → MS → Prop) (Q : MS → Prop), (∀ n i s, F (n + 1) i s = (if (nI 1800 ≤ i) then Q s else (∃ i3 : Nat, i3 < 1800 ∧ i = nI i3 ∧ (∃ i6 : Nat, i6 < 1800 ∧ (i - 45) = nI i6 ∧ F n (i + 1) (s2 s 29 i6 (s 29 i3)))))) → (∀ s, (∀ q, q ≠ 29 → s q = sg q) → (∀ i, i < 1755 → s 29 i = sg 29 (i + 45)) → Q s) → ∃ n, F n 45 sg := by
      intro F Q hF hQ
      refine loopK (F := F) 1800 (fun k s => (∀ q, q ≠ 29 → s q = sg q) ∧ (∀ i, i + 45 < k → s 29 i = sg 29 (i + 45)) ∧ ∀ i, k ≤ i + 45 → s 29 i = sg 29 i) 45 (by decide) sg ⟨fun _ _ => rfl, fun i hi => absurd hi (by omega), fun _ _ => rfl⟩ (fun n k s hk0 hk hs kk => ?_)
      obtain ⟨h1, h2, h3⟩ := hs
      rw [hF]
      by_cases hkN : k < 1800
      · rw [if_neg (nI_ge hkN (by omega))]
        refine ⟨k, hkN, rfl, k - 45, by omega, by rw [show (45 : Int32) = nI 45 from rfl, nI_sub hk0], ?_⟩
        rw [nI_1]
        refine kk _ hkN ⟨fun q hq => by rw [s2_rowN hq]; exact h1 q hq, fun i hi => ?_, fun i hi => by rw [s2_i (by omega)]; exact h3 i (by omega)⟩
        by_cases e : i = k - 45
        · subst e
          rw [s2_s, h3 k (by omega), show k - 45 + 45 = k by omega]
        · rw [s2_i e]; exact h2 i (by omega)
      · have ek : k = 1800 := by omega
        rw [if_pos (nI_le (by omega) (by omega))]
        exact hQ s h1 (fun i hi => h2 i (by omega))
    refine lp (fun n i s => lM_keep_12 post (fun (g9 : MS) => wM_pack (s2 g9 0 33 ((g9 0 33) - 1)) 28 1800 (45 * ((s2 g9 0 33 ((g9 0 33) - 1)) 0 33)) (fun (g2 : MS) => (post (s2 g2 0 33 ((g2 0 33) + 1))))) n i s) _ (fun n i s => rfl) (fun s h1 h2 => ?_)
    rw [s2_s, h1 0 (by decide), ha, show nI 40 - 1 = nI 39 from rfl, ix45]
    refine sM_pack (by decide) (by decide) (Or.inl rfl) (fun s9 p1 p2 p3 => h _ ⟨fun q q0 q29 => ?_, fun j hj => ?_, fun q => absurd q (by decide), fun _ => ⟨?_, fun k i hk hi => ?_, fun i hi => ?_⟩⟩)
    · rw [s2_rowN q0, p1 q q29, s2_rowN q0]; exact h1 q q29
    · rw [s2_i hj, p1 0 (by decide), s2_i hj, h1 0 (by decide)]
    · rw [s2_s, p1 0 (by decide), s2_s]; rfl
    · rw [s2_rowN (by decide), p3 _ (Or.inl (by omega)), s2_rowN (by decide), h2 _ (by omega)]
      exact congrArg (sg 29) (by omega)
    · rw [s2_rowN (by decide), p2 i hi]
      unfold pk
      rw [s2_rowN (show (7 : Nat) ≠ 0 by decide), s2_rowN (show (26 : Nat) ≠ 0 by decide), s2_rowN (show (27 : Nat) ≠ 0 by decide), s2_rowN (show (28 : Nat) ≠ 0 by decide), s2_i (show (29 : Nat) ≠ 33 by decide), s2_i (show (30 : Nat) ≠ 33 by decide), s2_i (show (31 : Nat) ≠ 33 by decide), s2_i (show (32 : Nat) ≠ 33 by decide), h1 7 (by decide), h1 0 (by decide), h1 26 (by decide), h1 27 (by decide), h1 28 (by decide)]
  · rw [if_neg (show ¬ nI a = 40 from fun z => e ((nI_eq (by omega) (by decide)).mp (show nI a = nI 40 from z))), ix45]
    refine sM_pack (by omega) (by decide) (Or.inl rfl) (fun s9 p1 p2 p3 => h _ ⟨fun q q0 q29 => ?_, fun j hj => ?_, fun _ => ⟨?_, fun k i hk hi => ?_, fun i hi => ?_⟩, fun q => absurd q e⟩)
    · rw [s2_rowN q0]; exact p1 q q29
    · rw [s2_i hj, p1 0 (by decide)]
    · rw [s2_s, p1 0 (by decide), ha, nI_1]
    · rw [s2_rowN (by decide)]; exact p3 _ (Or.inl (by omega))
    · rw [s2_rowN (by decide)]; exact p2 i hi
