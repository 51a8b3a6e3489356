/-! PURE: a book like another; image, restore -/
set_option maxRecDepth 100000
/-- a book's pointers: its list, the list's row; u 0 what is now, u (k + 1) what is ahead -/
def bkP (T L : Nat → Nat) (P : w_P) (b l r : Nat) (u : Nat → Nat) : Prop := T b = 5 ∧ P b 0 = some (u 0) ∧ P b 1 = some l ∧ T l = 16 ∧ P l 1 = some r ∧ T r = 2004 ∧ L r = 40 ∧ (∀ k, k < 40 → P r k = some (u (k + 1))) ∧ ∀ i, i ≤ 40 → T (u i) = 6
theorem fitB {x : Int32} (h : x = 0 ∨ x = 1) : fits .boolean (.int x) = true := by rcases h with e | e <;> subst e <;> rfl
/-- what a book is like after it -/
def lkB (V9 : w_V) (b : Nat) (σ : MS) : Prop := (∀ i, i < 8 → V9 b 3 i = σ 3 i ∧ V9 b 4 i = σ 4 i ∧ V9 b 6 i = σ 6 i) ∧ (∀ i, i < 3 → V9 b 5 i = σ 5 i) ∧ V9 b 0 6 = σ 0 6 ∧ V9 b 0 7 = σ 0 7
theorem sX5_like {ad : Nat → Nat} {T L : Nat → Nat} {V : w_V} {P : w_P} {b c l m r q : Nat} {u v : Nat → Nat} (hb : bkP T L P b l r u) (hc : bkP T L P c m q v) (hne : c ≠ b) (huv : ∀ i j, i ≤ 40 → j ≤ 40 → v j ≠ u i) (hu : ∀ i j, i ≤ 40 → j ≤ 40 → u i = u j → i = j) (s1 : V l 0 2 = 40) (s2' : V m 0 2 = 40) {a : Nat} (ha : V c 0 6 = nI a) (ha2 : a ≤ 40) (hB : ∀ k, k < 8 → V c 6 k = 0 ∨ V c 6 k = 1) {post : w_V → Prop}
    (hp : ∀ V9 : w_V, (∀ x, x ≠ b → (∀ i, i ≤ 40 → x ≠ u i) → V9 x = V x) → lkX V9 (u 0) (V (v 0)) → (∀ k, k < a → lkX V9 (u (k + 1)) (V (v (k + 1)))) → lkB V9 b (V c) → post V9) : wX5_like ad T L V P b c post := by
  obtain ⟨a1, a2, a3, a4, a5, a6, a7, a8, a9⟩ := hb
  obtain ⟨c1, c2, c3, c4, c5, c6, c7, c8, c9⟩ := hc
  unfold wX5_like
  refine ⟨u 0, a2, a9 0 (by omega), v 0, c2, c9 0 (by omega), sX6_like (huv 0 0 (by omega) (by omega)) (fun V1 g1 g2 => ?_)⟩
  refine loop0 (F := fun n i (W : w_V) => lX5_like_13 ad T L P b c post _ n i W) a (fun k W => (∀ x, (∀ i, i ≤ 40 → x ≠ u i) → W x = V x) ∧ lkX W (u 0) (V (v 0)) ∧ ∀ j, j < k → lkX W (u (j + 1)) (V (v (j + 1)))) V1 ⟨fun x hx => g1 x (hx 0 (by omega)), g2, fun j hj => absurd hj (by omega)⟩ (fun n k W hk hs kk => ?_)
  obtain ⟨f1, f2, f3⟩ := hs
  have off : ∀ x, T x ≠ 6 → W x = V x := fun x hx => f1 x (fun i hi e => hx (by rw [e]; exact a9 i hi))
  have ov : ∀ j, j ≤ 40 → W (v j) = V (v j) := fun j hj => f1 _ (fun i hi => huv i j hi hj)
  have wc : W c = V c := off c (by rw [c1]; decide)
  have wb : W b = V b := off b (by rw [a1]; decide)
  show lX5_like_13 ad T L P b c post _ (n + 1) (nI k) W
  unfold lX5_like_13
  rw [wc, ha]
  by_cases hkN : k < a
  · rw [if_neg (nI_ge hkN (by omega)), nI_1]
    have hl1 : lstR T L W P l r 40 := ⟨a4, by rw [off l (by rw [a4]; decide)]; exact s1, a5, a6, by omega, by omega⟩
    have hl2 : lstR T L W P m q 40 := ⟨c4, by rw [off m (by rw [c4]; decide)]; exact s2', c5, c6, by omega, by omega⟩
    refine ⟨l, a3, a4, sJ2_get hl1 (show k < 40 by omega) (by decide) (a8 k (by omega)) ⟨a9 _ (by omega), m, c3, c4, sJ2_get hl2 (show k < 40 by omega) (by decide) (c8 k (by omega)) ⟨c9 _ (by omega), sX6_like (huv _ _ (by omega) (by omega)) (fun W2 d1 d2 => ?_)⟩⟩⟩
    have ne : ∀ j, j ≤ 40 → j ≠ k + 1 → W2 (u j) = W (u j) := fun j hj hjk => d1 _ (fun e => hjk (hu _ _ hj (by omega) e))
    refine kk W2 hkN ⟨fun x hx => by rw [d1 x (hx _ (by omega))]; exact f1 x hx, ?_, fun j hj => ?_⟩
    · unfold lkX
      rw [ne 0 (by omega) (by omega)]
      exact f2
    · by_cases e : j = k
      · subst e
        rw [← ov (j + 1) (by omega)]
        exact d2
      · unfold lkX
        rw [ne (j + 1) (by omega) (by omega)]
        exact f3 j (by omega)
  · have ek : k = a := by omega
    subst ek
    rw [if_pos (nI_le (by omega) (by omega))]
    refine ⟨0, 0, 8, rfl, rfl, rfl, by omega, by omega, fun _ _ => fitI _, fun U1 u1 => ⟨0, 0, 8, rfl, rfl, rfl, by omega, by omega, fun _ _ => fitI _, fun U2 u2 => ?_⟩⟩
    have k1 : ∀ x, x ≠ b → U1 x = W x := fun x hx => by rw [u1, up1_n hx]
    have k2 : ∀ x, x ≠ b → U2 x = W x := fun x hx => by rw [u2, up1_n hx]; exact k1 x hx
    refine ⟨0, 0, 8, rfl, rfl, rfl, by omega, by omega, fun i hi => ?_, fun U3 u3 => ⟨0, 0, 3, rfl, rfl, rfl, by omega, by omega, fun _ _ => fitI _, fun U4 u4 U5 u5 U6 u6 => ?_⟩⟩
    · rw [k2 c hne, wc, Nat.zero_add]
      exact fitB (hB i hi)
    have k3 : ∀ x, x ≠ b → U3 x = W x := fun x hx => by rw [u3, up1_n hx]; exact k2 x hx
    have k4 : ∀ x, x ≠ b → U4 x = W x := fun x hx => by rw [u4, up1_n hx]; exact k3 x hx
    have k5 : ∀ x, x ≠ b → U5 x = W x := fun x hx => by rw [u5, up3_n hx]; exact k4 x hx
    have k6 : ∀ x, x ≠ b → U6 x = W x := fun x hx => by rw [u6, up3_n hx]; exact k5 x hx
    have e4 : U4 b = up1 (up1 (up1 (up1 (W b) 3 (va_cpy (V c 3) (W b 3) 0 0 8)) 4 (va_cpy (V c 4) (W b 4) 0 0 8)) 6 (va_cpy (V c 6) (W b 6) 0 0 8)) 5 (va_cpy (V c 5) (W b 5) 0 0 3) := by
      rw [u4, up1_s, u3, up1_s, up1_n hne, u2, up1_s, up1_n hne, u1, up1_s, up1_n hne, wc]
      rw [up1_n (show (4 : Nat) ≠ 3 by decide), up1_n (show (6 : Nat) ≠ 4 by decide), up1_n (show (6 : Nat) ≠ 3 by decide), up1_n (show (5 : Nat) ≠ 6 by decide), up1_n (show (5 : Nat) ≠ 4 by decide), up1_n (show (5 : Nat) ≠ 3 by decide)]
    have e6 : U6 b = s2 (s2 (U4 b) 0 6 (V c 0 6)) 0 7 (V c 0 7) := by
      rw [u6, up3_a, u5, up3_a, up3_n hne, k4 c hne, wc]
    have kn : ∀ i, i ≤ 40 → U6 (u i) = W (u i) := fun i hi => k6 _ (fun e => by have := a9 i hi; rw [e, a1] at this; exact absurd this (by decide))
    refine hp U6 (fun x h1 h2 => by rw [k6 x h1]; exact f1 x h2) ?_ (fun j hj => ?_) ⟨fun i hi => ?_, fun i hi => ?_, ?_, ?_⟩
    · unfold lkX; rw [kn 0 (by omega)]; exact f2
    · unfold lkX; rw [kn (j + 1) (by omega)]; exact f3 j hj
    · rw [e6, s2_rowN (show (3 : Nat) ≠ 0 by decide), s2_rowN (show (3 : Nat) ≠ 0 by decide), s2_rowN (show (4 : Nat) ≠ 0 by decide), s2_rowN (show (4 : Nat) ≠ 0 by decide), s2_rowN (show (6 : Nat) ≠ 0 by decide), s2_rowN (show (6 : Nat) ≠ 0 by decide), e4]
      refine ⟨?_, ?_, ?_⟩
      · rw [up1_n (by decide), up1_n (by decide), up1_n (by decide), up1_s, sb_cpy0 hi]
      · rw [up1_n (by decide), up1_n (by decide), up1_s, sb_cpy0 hi]
      · rw [up1_n (by decide), up1_s, sb_cpy0 hi]
    · rw [e6, s2_rowN (show (5 : Nat) ≠ 0 by decide), s2_rowN (show (5 : Nat) ≠ 0 by decide), e4, up1_s, sb_cpy0 hi]
    · rw [e6, s2_i (by decide), s2_s]
    · rw [e6, s2_s]
/-- a row copied whole -/
theorem sM_be {sg : MS} {a0 n0 a1 n1 : Nat} (h01 : n0 ≤ n1) (hn : n0 ≤ 5000) (hd : a1 ≠ a0) {post : MS → Prop} (hp : ∀ s9 : MS, (∀ q, q ≠ a0 + 1 → s9 q = sg q) → (∀ i, i < n0 → s9 (a0 + 1) i = sg (a1 + 1) i) → post s9) : wM_be sg a0 n0 a1 n1 post := by
  unfold wM_be
  refine loop0 (F := fun n i (s : MS) => lM_be_2 a0 n0 a1 n1 post n i s) n0 (fun k s => (∀ q, q ≠ a0 + 1 → s q = sg q) ∧ ∀ i, i < k → s (a0 + 1) i = sg (a1 + 1) i) sg ⟨fun _ _ => rfl, fun i hi => absurd hi (by omega)⟩ (fun n k s hk hs kk => ?_)
  obtain ⟨h1, h2⟩ := hs
  show lM_be_2 a0 n0 a1 n1 post (n + 1) (nI k) s
  unfold lM_be_2
  by_cases hkN : k < n0
  · rw [if_neg (nI_ge hkN (by omega))]
    refine ⟨k, by omega, rfl, k, hkN, rfl, ?_⟩
    rw [nI_1]
    refine kk _ hkN ⟨fun q hq => by rw [s2_rowN hq]; exact h1 q hq, fun i hi => ?_⟩
    by_cases e : i = k
    · subst e; rw [s2_s, h1 _ (by omega)]
    · rw [s2_i e]; exact h2 i (by omega)
  · have ek : k = n0 := by omega
    rw [if_pos (nI_le (by omega) (by omega))]
    rw [ek] at h2
    exact hp s h1 h2
