/-! PURE: all of a trial, by the class -/
set_option maxRecDepth 100000
theorem pDay_late {D : MS} (hL : lndOk D) (hO : stOk D) (lw : (Nat → Int32) → Int32) (S : MS) {k : Nat} (hk : 115 ≤ k) (hk2 : k < 1000) : pDay D lw S k = S := by
  unfold pDay
  refine foldN_inv (P := fun S' => S' = S) (nJ D) rfl (fun j S' hj hS => ?_)
  subst hS
  rw [pHear_eq, if_pos]
  refine firstI_none _ _ (fun i _ hi => decide_eq_false (fun e => ?_))
  obtain ⟨d, h1, h2⟩ := pD_114 hL hO hj (show i < stp D j by omega)
  rw [h1, nI_eq (by omega) (by omega)] at e
  omega
theorem pTell_140 {D : MS} (hL : lndOk D) (hO : stOk D) (lw : (Nat → Int32) → Int32) : ∀ m, m ≤ 25 → foldN (pDay D lw) pNone (115 + m) = pTell D lw
  | 0, _ => rfl
  | m + 1, h => by
    show pDay D lw (foldN (pDay D lw) pNone (115 + m)) (115 + m) = _
    rw [pDay_late hL hO lw _ (by omega) (by omega)]
    exact pTell_140 hL hO lw m (by omega)
theorem pG_nat {D S : MS} (hS : sOk D S) (c : Nat) : ∃ m, (pG D S c).1 = nI m ∧ (m ≤ 114 ∨ m = 100000) ∧ (m = 100000 → (pG D S c).2 = 0) := by
  rcases pG_char hS c with ⟨h, -⟩ | ⟨x, y, z, -, h, h4, -⟩
  · exact ⟨100000, by rw [h]; rfl, Or.inr rfl, fun _ => by rw [h]⟩
  · exact ⟨_, by rw [h], Or.inl h4, fun e => absurd e (by omega)⟩
section TR5
variable {ad : Nat → Nat} {T L : Nat → Nat} {V : w_V} {P : w_P} {tr l st jl ja cl ca vw : Nat} {D : MS} {lw : (Nat → Int32) → Int32}
/-- all that a trial leaves -/
def allX (V : w_V) (tr : Nat) (D : MS) (lw : (Nat → Int32) → Int32) : Prop := stopX V tr D ∧ cS V tr (pTell D lw) ∧ metX V tr D ∧ ∀ c, c < nC D → voidX V tr D (pTell D lw) c ∧ guiltX V tr D (pTell D lw) c
theorem sX_all (hL : lndOk D) (hFo : farOk D) (hO : stOk D) (h : trW ad T L V P tr l st jl ja cl ca vw D lw) {post : Int32 → w_V → Prop} (hp : ∀ V9 : w_V, (∀ a, a ≠ tr → a ≠ vw → V9 a = V a) → allX V9 tr D lw → post (pN D (pTell D lw)) V9) : wX7_all ad T L V P tr post := by
  have hJ5 := hL.2.1.2
  have hC6 := hL.2.2.1.2
  have hSo := pTell_ok hL lw
  unfold wX7_all
  refine sX_goes hL h (fun V2 a1 a2 a3 => ?_)
  -- nothing said yet
  refine loop0 (F := fun n i W => lX7_all_6 ad T L P tr post _ n i W) 30 (fun k W => (∀ a, a ≠ tr → W a = V a) ∧ (∀ q, q ≠ 5 → q ≠ 6 → q ≠ 7 → q ≠ 11 → W tr q = V2 tr q) ∧ ∀ i, i < k → W tr 5 i = -1 ∧ W tr 6 i = -1 ∧ W tr 7 i = -1 ∧ W tr 11 i = 0) V2 ⟨a1, fun _ _ _ _ _ => rfl, fun i h => absurd h (by omega)⟩ (fun n k W hk hs kk => ?_)
  obtain ⟨b1, b2', b3⟩ := hs
  show lX7_all_6 ad T L P tr post _ (n + 1) (nI k) W
  unfold lX7_all_6
  by_cases hkN : k < 30
  · rw [if_neg (show ¬ (30 : Int32) ≤ nI k from nI_ge (b := 30) hkN (by decide))]
    refine ⟨k, hkN, rfl, fun W1 e1 => ⟨k, hkN, rfl, fun W2 e2 => ⟨k, hkN, rfl, fun W3 e3 => ⟨k, hkN, rfl, fun W4 e4 => ?_⟩⟩⟩⟩
    rw [nI_1]
    have eW : W4 tr = s2 (s2 (s2 (s2 (W tr) 5 k (-1)) 6 k (-1)) 7 k (-1)) 11 k 0 := by rw [e4, up3_a, e3, up3_a, e2, up3_a, e1, up3_a]; rfl
    refine kk _ hkN ⟨fun a ha => by rw [e4, up3_n ha, e3, up3_n ha, e2, up3_n ha, e1, up3_n ha]; exact b1 a ha, fun q h1 h2 h3 h4 => by rw [eW, s2_rowN h4, s2_rowN h3, s2_rowN h2, s2_rowN h1]; exact b2' q h1 h2 h3 h4, fun i hi => ?_⟩
    rw [eW]
    by_cases e : i = k
    · subst e
      refine ⟨?_, ?_, ?_, s2_s⟩
      · rw [s2_k (by decide), s2_k (by decide), s2_k (by decide), s2_s]
      · rw [s2_k (by decide), s2_k (by decide), s2_s]
      · rw [s2_k (by decide), s2_s]
    · rw [s2_i e, s2_i e, s2_i e, s2_i e, s2_i e, s2_i e, s2_i e, s2_i e, s2_i e, s2_i e, s2_i e, s2_i e, s2_i e, s2_i e, s2_i e, s2_i e]
      exact b3 i (by omega)
  have ek : k = 30 := by omega
  subst ek
  rw [if_pos (show (30 : Int32) ≤ nI 30 by decide)]
  have hV20 : stopX W tr D := fun j i h1 h2 => by rw [b2' 3 (by decide) (by decide) (by decide) (by decide), b2' 4 (by decide) (by decide) (by decide) (by decide)]; exact a3 j i h1 h2
  -- the days
  refine loop0 (F := fun n i W => lX7_all_48 ad T L P tr post _ n i W) 140 (fun k W' => (∀ a, a ≠ tr → a ≠ vw → W' a = V a) ∧ (∀ q, q ≠ 5 → q ≠ 6 → q ≠ 7 → W' tr q = W tr q) ∧ cS W' tr (foldN (pDay D lw) pNone k)) W ⟨fun a h1 _ => b1 a h1, fun _ _ _ _ => rfl, fun k hk => ⟨(b3 k hk).1, (b3 k hk).2.1, (b3 k hk).2.2.1⟩⟩ (fun n1 k W1 hk hs kk1 => ?_)
  obtain ⟨c1, c2, c3⟩ := hs
  show lX7_all_48 ad T L P tr post _ (n1 + 1) (nI k) W1
  unfold lX7_all_48
  by_cases hkN : k < 140
  · rw [if_neg (show ¬ (140 : Int32) ≤ nI k from nI_ge (b := 140) hkN (by decide))]
    refine loop0 (F := fun n i W => lX7_all_57 ad T L P tr (nI k) post _ n i W) (nJ D) (fun j W' => (∀ a, a ≠ tr → a ≠ vw → W' a = V a) ∧ (∀ q, q ≠ 5 → q ≠ 6 → q ≠ 7 → W' tr q = W tr q) ∧ cS W' tr (foldN (pHear D lw (nI k)) (foldN (pDay D lw) pNone k) j)) W1 ⟨c1, c2, c3⟩ (fun n2 j W2 hj hs kk2 => ?_)
    obtain ⟨d1, d2, d3⟩ := hs
    have hW2 : trW ad T L W2 P tr l st jl ja cl ca vw D lw := h.V d1
    have hP2 : stopX W2 tr D := fun j i h1 h2 => by rw [d2 3 (by decide) (by decide) (by decide), d2 4 (by decide) (by decide) (by decide)]; exact hV20 j i h1 h2
    show lX7_all_57 ad T L P tr (nI k) post _ (n2 + 1) (nI j) W2
    unfold lX7_all_57
    refine sX_judges hW2 ?_
    by_cases hjN : j < nJ D
    · rw [if_neg (nI_ge hjN (by omega))]
      refine sX_hears hL hO hW2 hP2 d3 hjN (fun W3 e1 e2 e3 => ?_)
      rw [nI_1 j]
      exact kk2 W3 hjN ⟨fun a h1 h2 => (e1 a h1 h2).trans (d1 a h1 h2), fun q h1 h2 h3 => (e2 q h1 h2 h3).trans (d2 q h1 h2 h3), e3⟩
    · have ej : j = nJ D := by omega
      rw [if_pos (nI_le (by omega) (by omega)), nI_1 k]
      rw [ej] at d3
      exact kk1 W2 hkN ⟨d1, d2, d3⟩
  have ek : k = 140 := by omega
  subst ek
  rw [if_pos (show (140 : Int32) ≤ nI 140 by decide)]
  have e140 : foldN (pDay D lw) pNone 140 = pTell D lw := pTell_140 hL hO lw 25 (by decide)
  rw [e140] at c3
  have hP1 : stopX W1 tr D := fun j i h1 h2 => by rw [c2 3 (by decide) (by decide) (by decide), c2 4 (by decide) (by decide) (by decide)]; exact hV20 j i h1 h2
  have h11 : ∀ i, i < 30 → W1 tr 11 i = 0 := fun i hi => by rw [c2 11 (by decide) (by decide) (by decide)]; exact (b3 i hi).2.2.2
  -- who met
  refine loop0 (F := fun n i W => lX7_all_85 ad T L P tr post _ n i W) (nJ D) (fun a W' => (∀ b, b ≠ tr → b ≠ vw → W' b = V b) ∧ (∀ q, q ≠ 8 → W' tr q = W1 tr q) ∧ ∀ x y, x < a → y < nJ D → W' tr 8 (5 * x + y) = if x = y then 9999 else clF (pMeet D x y)) W1 ⟨c1, fun _ _ => rfl, fun x y h => absurd h (by omega)⟩ (fun n1 a W2 ha hs kk1 => ?_)
  obtain ⟨d1, d2, d3⟩ := hs
  have hW2 : trW ad T L W2 P tr l st jl ja cl ca vw D lw := h.V d1
  show lX7_all_85 ad T L P tr post _ (n1 + 1) (nI a) W2
  unfold lX7_all_85
  refine sX_judges hW2 ?_
  by_cases haN : a < nJ D
  · rw [if_neg (nI_ge haN (by omega))]
    refine loop0 (F := fun n i W => lX7_all_95 ad T L P tr (nI a) post _ n i W) (nJ D) (fun b W' => (∀ b, b ≠ tr → b ≠ vw → W' b = V b) ∧ (∀ q, q ≠ 8 → W' tr q = W1 tr q) ∧ (∀ x y, x < a → y < nJ D → W' tr 8 (5 * x + y) = if x = y then 9999 else clF (pMeet D x y)) ∧ ∀ y, y < b → W' tr 8 (5 * a + y) = if a = y then 9999 else clF (pMeet D a y)) W2 ⟨d1, d2, d3, fun y h => absurd h (by omega)⟩ (fun n2 b W3 hb hs kk2 => ?_)
    obtain ⟨e1, e2, e3, e4⟩ := hs
    have hW3 : trW ad T L W3 P tr l st jl ja cl ca vw D lw := h.V e1
    have hP3 : stopX W3 tr D := fun j i h1 h2 => by rw [e2 3 (by decide), e2 4 (by decide)]; exact hP1 j i h1 h2
    show lX7_all_95 ad T L P tr (nI a) post _ (n2 + 1) (nI b) W3
    unfold lX7_all_95
    refine sX_judges hW3 ?_
    by_cases hbN : b < nJ D
    · rw [if_neg (nI_ge hbN (by omega))]
      obtain ⟨kb, hkb⟩ : ∃ kb, kb = lX7_all_95 ad T L P tr (nI a) post (fun (V43 : w_V) => (lX7_all_85 ad T L P tr post (fun (V45 : w_V) => (∃ n89, lX7_all_146 ad T L P tr post n89 0 0 V45)) n1) (nI a + 1) V43) n2 := ⟨_, rfl⟩
      rw [← hkb] at kk2 ⊢
      have fin : ∀ x : Int32, (x = if a = b then 9999 else clF (pMeet D a b)) → jX7_all_129 ad T L W3 P tr (nI a) (nI b) x ((5 : Int32) * nI a + nI b) post kb := by
        intro x hx
        unfold jX7_all_129
        refine ⟨5 * a + b, by omega, ix5 a b, fun W4 e => ?_⟩
        subst e
        rw [nI_1 b]
        refine kk2 _ hbN ⟨fun q h1 h2 => by rw [up3_n h1]; exact e1 q h1 h2, fun q hq => by rw [up3_a, s2_rowN hq]; exact e2 q hq, fun u v h1 h2 => by rw [up3_a, s2_i (by omega)]; exact e3 u v h1 h2, fun v hv => ?_⟩
        rw [up3_a]
        by_cases q : v = b
        · subst q; rw [s2_s]; exact hx
        · rw [s2_i (by omega)]; exact e4 v (by omega)
      by_cases hab : nI a = nI b
      · rw [if_pos hab]
        rw [nI_eq (by omega) (by omega)] at hab
        exact fin 9999 (by rw [if_pos hab])
      · rw [if_neg hab]
        rw [nI_eq (by omega) (by omega)] at hab
        exact sX_meets hL hFo hO hW3 hP3 haN hbN (fin _ (by rw [if_neg hab]))
    · have eb : b = nJ D := by omega
      rw [if_pos (nI_le (by omega) (by omega)), nI_1 a]
      refine kk1 W3 haN ⟨e1, e2, fun x y h1 h2 => ?_⟩
      by_cases q : x = a
      · subst q; exact e4 y (by omega)
      · exact e3 x y (by omega) h2
  have ea : a = nJ D := by omega
  rw [if_pos (nI_le (by omega) (by omega))]
  rw [ea] at d3
  have hS2 : cS W2 tr (pTell D lw) := fun q hq => by rw [d2 5 (by decide), d2 6 (by decide), d2 7 (by decide)]; exact c3 q hq
  have hP2 : stopX W2 tr D := fun j i h1 h2 => by rw [d2 3 (by decide), d2 4 (by decide)]; exact hP1 j i h1 h2
  have h112 : ∀ i, i < 30 → W2 tr 11 i = 0 := fun i hi => by rw [d2 11 (by decide)]; exact h11 i hi
  -- the cases
  generalize hS : pTell D lw = S at *
  refine loop0 (F := fun n i (q : Int32 × w_V) => lX7_all_146 ad T L P tr post n q.1 i q.2) (nC D) (fun c q => q.1 = cntI (fun c => decide (¬ 100000 ≤ (pG D S c).1)) c ∧ (∀ b, b ≠ tr → b ≠ vw → q.2 b = V b) ∧ (∀ z, z ≠ 9 → z ≠ 10 → z ≠ 11 → q.2 tr z = W2 tr z) ∧ (∀ i, 5 * c ≤ i → i < 30 → q.2 tr 11 i = 0) ∧ ∀ c', c' < c → voidX q.2 tr D S c' ∧ guiltX q.2 tr D S c') (0, W2) ⟨rfl, d1, fun _ _ _ _ => rfl, fun i _ hi => h112 i hi, fun c' h => absurd h (by omega)⟩ (fun n1 c q hc hq kk1 => ?_)
  obtain ⟨x, W3⟩ := q
  obtain ⟨hx, e1, e2, e3, e4⟩ := hq
  dsimp only at hx e1 e2 e3 e4
  have hW3 : trW ad T L W3 P tr l st jl ja cl ca vw D lw := h.V e1
  show lX7_all_146 ad T L P tr post (n1 + 1) x (nI c) W3
  unfold lX7_all_146
  refine sX_cases hW3 ?_
  by_cases hcN : c < nC D
  · rw [if_neg (nI_ge hcN (by omega))]
    refine loop0 (F := fun n i W => lX7_all_156 ad T L P tr x (nI c) post _ n i W) (nJ D) (fun j W' => (∀ b, b ≠ tr → b ≠ vw → W' b = V b) ∧ (∀ z, z ≠ 11 → W' tr z = W3 tr z) ∧ (∀ i, i < j → W' tr 11 (5 * c + i) = b2 (pVoid D S c i)) ∧ (∀ i, 5 * c + j ≤ i → i < 30 → W' tr 11 i = 0) ∧ ∀ i, i < 5 * c → W' tr 11 i = W3 tr 11 i) W3 ⟨e1, fun _ _ => rfl, fun i h => absurd h (by omega), fun i h1 h2 => e3 i (by omega) h2, fun _ _ => rfl⟩ (fun n2 j W4 hj hs kk2 => ?_)
    obtain ⟨f1, f2, f3, f4, f5⟩ := hs
    have hW4 : trW ad T L W4 P tr l st jl ja cl ca vw D lw := h.V f1
    have hR4 : ∀ z, z ≠ 9 → z ≠ 10 → z ≠ 11 → W4 tr z = W2 tr z := fun z h1 h2 h3 => (f2 z h3).trans (e2 z h1 h2 h3)
    have hP4 : stopX W4 tr D := fun j i h1 h2 => by rw [hR4 3 (by decide) (by decide) (by decide), hR4 4 (by decide) (by decide) (by decide)]; exact hP2 j i h1 h2
    have hS4 : cS W4 tr S := fun q hq => by rw [hR4 5 (by decide) (by decide) (by decide), hR4 6 (by decide) (by decide) (by decide), hR4 7 (by decide) (by decide) (by decide)]; exact hS2 q hq
    have hM4 : metX W4 tr D := fun u v h1 h2 => by rw [hR4 8 (by decide) (by decide) (by decide)]; exact d3 u v h1 h2
    show lX7_all_156 ad T L P tr x (nI c) post _ (n2 + 1) (nI j) W4
    unfold lX7_all_156 jX7_all_194
    refine sX_judges hW4 ?_
    by_cases hjN : j < nJ D
    · rw [if_neg (nI_ge hjN (by omega))]
      refine ⟨5 * c + j, by omega, ix5 c j, ?_⟩
      rw [(hS4 (5 * c + j) (by omega)).1]
      by_cases q1 : S 0 (5 * c + j) = -1
      · rw [if_pos q1, nI_1 j]
        refine kk2 W4 hjN ⟨f1, f2, fun i hi => ?_, fun i h1 h2 => f4 i (by omega) h2, f5⟩
        by_cases q : i = j
        · subst q
          rw [f4 (5 * c + i) (Nat.le_refl _) (by omega)]
          unfold pVoid
          rw [decide_eq_false (fun q => q q1), Bool.false_and]
          rfl
        · exact f3 i (by omega)
      · rw [if_neg q1]
        refine sX_isVoided hL hFo hO hW4 hP4 hS4 hSo hcN hjN q1 ⟨5 * c + j, by omega, ix5 c j, fun W5 e => ?_⟩
        subst e
        rw [nI_1 j, nar_b2]
        refine kk2 _ hjN ⟨fun q h1 h2 => by rw [up3_n h1]; exact f1 q h1 h2, fun z hz => by rw [up3_a, s2_rowN hz]; exact f2 z hz, fun i hi => ?_, fun i h1 h2 => by rw [up3_a, s2_i (by omega)]; exact f4 i (by omega) h2, fun i hi => by rw [up3_a, s2_i (by omega)]; exact f5 i hi⟩
        rw [up3_a]
        by_cases q : i = j
        · subst q; rw [s2_s]
        · rw [s2_i (by omega)]; exact f3 i (by omega)
    have ej : j = nJ D := by omega
    rw [if_pos (nI_le (by omega) (by omega))]
    rw [ej] at f3
    refine ⟨c, by omega, rfl, fun W5 e5 => ⟨c, by omega, rfl, fun W6 e6 => ?_⟩⟩
    have eW6 : W6 tr = s2 (s2 (W4 tr) 9 c (-1)) 10 c 0 := by rw [e6, up3_a, e5, up3_a]
    have fr6 : ∀ b, b ≠ tr → W6 b = W4 b := fun b hb => by rw [e6, up3_n hb, e5, up3_n hb]
    obtain ⟨m, hm, hm2, hm3⟩ := pG_nat hSo c
    -- the first day
    refine loop0 (F := fun n i (q : Int32 × w_V) => lX7_all_216 ad T L P tr (nI c) post _ n q.1 i q.2) 140 (fun dd q => (∀ b, b ≠ tr → q.2 b = W4 b) ∧ (∀ z, z ≠ 9 → z ≠ 10 → q.2 tr z = W4 tr z) ∧ (∀ c', c' ≠ c → q.2 tr 9 c' = W4 tr 9 c' ∧ q.2 tr 10 c' = W4 tr 10 c') ∧ ((q.1 = x ∧ q.2 tr 9 c = -1 ∧ q.2 tr 10 c = 0 ∧ dd ≤ m) ∨ (q.1 = x + 1 ∧ m ≤ 114 ∧ q.2 tr 9 c = nI m ∧ q.2 tr 10 c = (pG D S c).2))) (x, W6) ⟨fr6, fun z h1 h2 => by show W6 tr z = _; rw [eW6, s2_rowN h2, s2_rowN h1], fun c' h => by show W6 tr 9 c' = _ ∧ W6 tr 10 c' = _; rw [eW6, s2_k (show (9 : Nat) ≠ 10 by decide), s2_i h, s2_i h, s2_k (show (10 : Nat) ≠ 9 by decide)]; exact ⟨rfl, rfl⟩, Or.inl ⟨rfl, by show W6 tr 9 c = -1; rw [eW6, s2_k (show (9 : Nat) ≠ 10 by decide), s2_s], by show W6 tr 10 c = 0; rw [eW6, s2_s], Nat.zero_le _⟩⟩ (fun n3 dd q hd hq kk3 => ?_)
    obtain ⟨y, W7⟩ := q
    obtain ⟨g1, g2, g3, g4⟩ := hq
    dsimp only at g1 g2 g3 g4
    have hfr7 : ∀ b, b ≠ tr → b ≠ vw → W7 b = V b := fun b h1 h2 => (g1 b h1).trans (f1 b h1 h2)
    have hW7 : trW ad T L W7 P tr l st jl ja cl ca vw D lw := h.V hfr7
    -- the end of a case
    have done : ((y = x ∧ W7 tr 9 c = -1 ∧ W7 tr 10 c = 0 ∧ m = 100000) ∨ (y = x + 1 ∧ m ≤ 114 ∧ W7 tr 9 c = nI m ∧ W7 tr 10 c = (pG D S c).2)) → jX7_all_273 ad T L W7 P tr y (nI c) post (lX7_all_146 ad T L P tr post n1) := by
      intro hd
      unfold jX7_all_273
      rw [nI_1 c]
      have hv7 : ∀ j, j < nJ D → W7 tr 11 (5 * c + j) = b2 (pVoid D S c j) := fun j hj => by rw [g2 11 (by decide) (by decide)]; exact f3 j hj
      refine kk1 (y, W7) hcN ⟨?_, hfr7, fun z h1 h2 h3 => by show W7 tr z = _; rw [g2 z h1 h2]; exact hR4 z h1 h2 h3, fun i h1 h2 => by show W7 tr 11 i = 0; rw [g2 11 (by decide) (by decide)]; exact f4 i (by omega) h2, fun c' hc' => ?_⟩
      · show y = cntI _ (c + 1)
        unfold cntI
        rw [← hx, hm]
        rcases hd with ⟨q1, -, -, q2⟩ | ⟨q1, q2, -, -⟩
        · rw [q1, q2, show decide (¬ (100000 : Int32) ≤ nI 100000) = false by decide, b2_f, Int32.add_zero]
        · rw [q1, show decide (¬ (100000 : Int32) ≤ nI m) = true from decide_eq_true (nI_ge (b := 100000) (by omega) (by decide))]
          rfl
      · by_cases q : c' = c
        · subst q
          refine ⟨hv7, ?_⟩
          unfold guiltX orN
          rw [hm]
          rcases hd with ⟨-, q1, q2, q3⟩ | ⟨-, q3, q1, q2⟩
          · subst q3
            rw [if_neg (by decide), hm3 rfl]
            exact ⟨q1, q2⟩
          · rw [if_pos (show nI m < 100000 from nI_lt (b := 100000) (by omega) (by decide))]
            exact ⟨q1, q2⟩
        · obtain ⟨w1, w2⟩ := e4 c' (by omega)
          refine ⟨fun j hj => ?_, ?_⟩
          · show W7 tr 11 _ = _
            rw [g2 11 (by decide) (by decide), f5 _ (by omega)]
            exact w1 j hj
          · obtain ⟨u1, u2⟩ := g3 c' q
            unfold guiltX at w2 ⊢
            show W7 tr 9 c' = _ ∧ W7 tr 10 c' = _
            rw [u1, u2, f2 9 (by decide), f2 10 (by decide)]
            exact w2
    show lX7_all_216 ad T L P tr (nI c) post _ (n3 + 1) y (nI dd) W7
    unfold lX7_all_216 jX7_all_267
    by_cases hdN : dd < 140
    · rw [if_neg (show ¬ (140 : Int32) ≤ nI dd from nI_ge (b := 140) hdN (by decide))]
      refine ⟨c, by omega, rfl, ?_⟩
      rcases g4 with ⟨k1, k2, k3, k4⟩ | ⟨k1, k2, k3, k4⟩
      · rw [if_pos k2]
        have hS7 : cS W7 tr S := fun q hq => by rw [g2 5 (by decide) (by decide), g2 6 (by decide) (by decide), g2 7 (by decide) (by decide)]; exact hS4 q hq
        have hM7 : metX W7 tr D := fun u v h1 h2 => by rw [g2 8 (by decide) (by decide)]; exact hM4 u v h1 h2
        have hv7 : voidX W7 tr D S c := fun j hj => by rw [g2 11 (by decide) (by decide)]; exact f3 j hj
        refine sX_three hL hW7 hS7 hM7 hcN hv7 (fun r hr => ?_)
        by_cases hdm : dd = m
        · subst hdm
          obtain ⟨t1, t2⟩ := thr_eq hL hO hSo hdN hr hm.symm
          rw [if_neg t2]
          refine ⟨c, by omega, rfl, fun W8 e8 => ⟨c, by omega, rfl, fun W9 e9 => ?_⟩⟩
          rw [nI_1 dd]
          have eW9 : W9 tr = s2 (s2 (W7 tr) 9 c (nI dd)) 10 c r := by rw [e9, up3_a, e8, up3_a]
          refine kk3 (y + 1, W9) hdN ⟨fun b hb => by show W9 b = _; rw [e9, up3_n hb, e8, up3_n hb]; exact g1 b hb, fun z h1 h2 => by show W9 tr z = _; rw [eW9, s2_rowN h2, s2_rowN h1]; exact g2 z h1 h2, fun c' h => by show W9 tr 9 c' = _ ∧ W9 tr 10 c' = _; rw [eW9, s2_k (show (9 : Nat) ≠ 10 by decide), s2_i h, s2_i h, s2_k (show (10 : Nat) ≠ 9 by decide)]; exact g3 c' h, Or.inr ⟨by rw [k1], by omega, by show W9 tr 9 c = _; rw [eW9, s2_k (show (9 : Nat) ≠ 10 by decide), s2_s], by show W9 tr 10 c = _; rw [eW9, s2_s]; exact t1⟩⟩
        · have t1 := thr_lt hL hO hSo hdN hr (by rw [hm]; exact nI_lt (by omega) (by omega))
          rw [if_pos t1, nI_1 dd]
          exact kk3 (y, W7) hdN ⟨g1, g2, g3, Or.inl ⟨k1, k2, k3, by omega⟩⟩
      · rw [if_neg (by rw [k3]; exact nI_ne1 (by omega))]
        exact done (Or.inr ⟨k1, k2, k3, k4⟩)
    · have ed : dd = 140 := by omega
      rw [if_pos (show (140 : Int32) ≤ nI dd by rw [ed]; decide)]
      refine done ?_
      rcases g4 with ⟨k1, k2, k3, k4⟩ | hh
      · exact Or.inl ⟨k1, k2, k3, by omega⟩
      · exact Or.inr hh
  · have ec : c = nC D := by omega
    rw [if_pos (nI_le (by omega) (by omega))]
    rw [ec] at hx e4
    rw [hx]
    refine hp W3 e1 ⟨fun j i h1 h2 => ?_, fun q hq => ?_, fun u v h1 h2 => ?_, fun c' hc' => ?_⟩
    · rw [e2 3 (by decide) (by decide) (by decide), e2 4 (by decide) (by decide) (by decide)]; exact hP2 j i h1 h2
    · rw [hS, e2 5 (by decide) (by decide) (by decide), e2 6 (by decide) (by decide) (by decide), e2 7 (by decide) (by decide) (by decide)]; exact hS2 q hq
    · rw [e2 8 (by decide) (by decide) (by decide)]; exact d3 u v h1 h2
    · rw [hS]; exact e4 c' hc'
end TR5
