/-! PURE: the class's reader goes on to the next token -/
set_option maxRecDepth 100000
section G
variable {ad : Nat → Nat} {b : Nat → Nat} {n z : Nat} {T L : Nat → Nat} {V : w_V} {P : w_P} {r tx ax kx p : Nat} {T' L' : Nat → Nat} {V' : w_V} {P' : w_P}
theorem rdB.ne (h : rdB b n T L V P r tx ax kx) : ax ≠ r := fun e => by
  have h1 := h.1
  have h2 := h.2.2.2.2.1
  rw [e, h1] at h2
  cases h2
theorem rdB.v (h : rdB b n T L V P r tx ax kx) (h3 : V' ax = V ax) (h2 : V' r 0 1 = V r 0 1) (h0 : P' r 0 = P r 0) : rdB b n T L V' P' r tx ax kx := by
  obtain ⟨a1, a2, a3, a4, a5, a6⟩ := h
  exact ⟨a1, h2.trans a2, h0.trans a3, a4, a5, fun i hi => by rw [h3]; exact a6 i hi⟩
/-- of the reader's own numbers those at the places of S alone change -/
def chR (r : Nat) (S : Nat → Bool) (V V' : w_V) : Prop := ∀ k i, ¬ (k = 0 ∧ S i = true) → V' r k i = V r k i
theorem up3_chR {i : Nat} {x : Int32} {S : Nat → Bool} (hS : S i = true) : chR r S V (up3 V r 0 i x) := by
  intro k j h
  rw [up3_a]
  by_cases e : k = 0
  · refine s2_i (fun q => h ⟨e, by rw [q]; exact hS⟩)
  · exact s2_k e
theorem chR.tr {S : Nat → Bool} {V2 : w_V} (h : chR r S V V') (h2 : chR r S V' V2) : chR r S V V2 := fun k i q => (h2 k i q).trans (h k i q)
theorem sX_go0 (ht : tOk b n) {U : Nat} {post : Nat → (Nat → Nat) → (Nat → Nat) → w_V → w_P → Prop} {ke : Nat → Nat → (Nat → Nat) → (Nat → Nat) → w_V → w_P → Prop} : ∀ (m q : Nat) (V : w_V), q + m = n → rdB b n T L V P r tx ax kx → V r 0 2 = nI q →
    (∀ V' : w_V, (∀ a, a ≠ r → V' a = V a) → chR r (fun i => i == 2) V V' → V' r 0 2 = nI (tSkp b n q) → ke U z T L V' P) → lFX9_go_0 ad r post ke (m + 1) U z T L V P := by
  have hn6 := ht.1
  have hend : ∀ (m q : Nat) (V : w_V), rdB b n T L V P r tx ax kx → V r 0 2 = nI q → tqW b n q = false → (∀ V' : w_V, (∀ a, a ≠ r → V' a = V a) → chR r (fun i => i == 2) V V' → V' r 0 2 = nI (tSkp b n q) → ke U z T L V' P) → ke U z T L V P := fun m q V hB h2 hq k => k V (fun _ _ => rfl) (fun _ _ _ => rfl) (by unfold tSkp; rw [tRun_f hq]; exact h2)
  intro m
  induction m with
  | zero =>
    intro q V hq hB h2 k
    unfold lFX9_go_0
    rw [hB.2.1, h2, if_pos (nI_le (by omega) (by omega))]
    exact hend 0 q V hB h2 (decide_eq_false (by omega)) k
  | succ m ih =>
    intro q V hq hB h2 k
    have hqn : q < n := by omega
    have hc := ht.2 q
    have eB : tB b n q = b q := if_pos hqn
    have step : tqW b n q = true → jFX9_go_37 ad U z T L V P r post (lFX9_go_0 ad r post ke (m + 1)) := fun hw => by
      unfold jFX9_go_37
      intro V4 e4
      refine ih (q + 1) V4 (by omega) (hB.v (by rw [e4, up3_n hB.ne]) (by rw [e4, up3_a, s2_i (by decide)]) rfl) (by rw [e4, up3_a, s2_s, h2, nI_1]) (fun V' a1 a2 a3 => k V' (fun a ha => (a1 a ha).trans (by rw [e4, up3_n ha])) (chR.tr (by rw [e4]; exact up3_chR rfl) a2) ?_)
      rw [a3]
      unfold tSkp
      rw [tRun_t hqn hw]
    unfold lFX9_go_0
    rw [hB.2.1, h2, if_neg (nI_ge hqn (by omega))]
    refine sX_byteAt hB ht (by omega) ?_
    rw [eB]
    by_cases e1 : b q = 32
    · rw [if_pos (by rw [e1]; rfl)]
      exact step (decide_eq_true ⟨hqn, Or.inl e1⟩)
    · rw [if_neg (show ¬ nI (b q) = 32 from fun e => e1 ((nI_eq (b := 32) (by omega) (by omega)).mp e))]
      refine sX_byteAt hB ht (by omega) ?_
      rw [eB]
      by_cases e2 : b q = 10
      · rw [if_pos (by rw [e2]; rfl)]
        exact step (decide_eq_true ⟨hqn, Or.inr e2⟩)
      · rw [if_neg (show ¬ nI (b q) = 10 from fun e => e2 ((nI_eq (b := 10) (by omega) (by omega)).mp e))]
        exact hend 0 q V hB h2 (decide_eq_false (fun h => by rcases h.2 with h | h; exact e1 h; exact e2 h)) k
/-- the builder of a word -/
def sbX (b : Nat → Nat) (p : Nat) (T L : Nat → Nat) (V : w_V) (P : w_P) (sb ar j : Nat) : Prop := T sb = 19 ∧ V sb 0 1 = 0 ∧ V sb 0 3 = nI j ∧ P sb 0 = some ar ∧ T ar = 1001 ∧ L ar = 7 ∧ ∀ k, k < j → V ar 0 k = nI (b (p + k))
theorem arr7 {ar l : Nat} (h : T ar = 1001) (h2 : L ar = l) : hArr T L ar ar 0 l 1 := ⟨by decide, Or.inr ⟨h, rfl, h2.symm, rfl⟩⟩
theorem ch128 : ∀ c, c < 128 → vp_nar .byte (((nI c).toUInt32 % 65536).toInt32.toInt8.toInt32) = nI c ∧ ¬ 255 < ((nI c).toUInt32 % 65536).toInt32 := by decide +kernel
theorem cap7 : ∀ j, j < 7 → (nI j + 1 - ((nI 7 : Int32) >>> ((0 : Int32) &&& 31)) ≤ 0) := by decide +kernel
theorem sX_append {sb ar j c : Nat} (h : sbX b p T L V P sb ar j) (hj : j < 7) (hc : c < 128) {post : Nat → w_V → w_P → Prop} (k : post sb (up3 (up3 V sb 0 3 (nI (j + 1))) ar 0 j (nI c)) P) : wJ8_append_3 ad T L V P sb ((nI c).toUInt32 % 65536).toInt32 post := by
  obtain ⟨h1, h2, h3, h4, h5, h6, h7⟩ := h
  obtain ⟨c1, c2⟩ := ch128 c hc
  unfold wJ8_append_3 wJ7_append_3 wJ7_ensureCapacityInternal
  refine ⟨ar, ar, 0, 7, h4, arr7 h5 h6, by decide, ?_⟩
  rw [h3, h2, if_pos (cap7 j hj)]
  unfold wJ7_isLatin1
  dsimp only
  rw [if_pos h2, if_neg (by decide)]
  unfold wJ15_canEncode
  rw [if_neg c2]
  dsimp only
  rw [if_neg (by decide)]
  refine ⟨ar, ar, 0, 7, h4, arr7 h5 h6, by decide, fun V31 e31 => ⟨j, hj, h3, fun V35 e35 => ?_⟩⟩
  unfold jJ7_append_3_75
  rw [e35, e31, c1, h3, nI_1]
  exact k
theorem lt_128 {c : Nat} (h : tLt c = true) : c < 128 := by
  have := of_decide_eq_true h
  omega
theorem sX_goL (ht : tOk b n) {U sb ar : Nat} {post : Nat → (Nat → Nat) → (Nat → Nat) → w_V → w_P → Prop} {ke : Nat → Nat → (Nat → Nat) → (Nat → Nat) → w_V → w_P → Prop} : ∀ (m q : Nat) (V : w_V), q + m = n → p ≤ q → rdB b n T L V P r tx ax kx → V r 0 2 = nI q → sbX b p T L V P sb ar (min 7 (q - p)) →
    (∀ V' : w_V, (∀ a, a ≠ r → a ≠ sb → a ≠ ar → V' a = V a) → chR r (fun i => i == 2) V V' → V' r 0 2 = nI (tRun (tqL b n) (n - q) q) → sbX b p T L V' P sb ar (min 7 (tRun (tqL b n) (n - q) q - p)) → ke U z T L V' P) → lFX9_go_116 ad r sb post ke (m + 1) U z T L V P := by
  have hn6 := ht.1
  intro m
  induction m with
  | zero =>
    intro q V hq hpq hB h2 hs k
    unfold lFX9_go_116
    rw [h2]
    refine sX_byteAt hB ht (by omega) (sX_isLetter (tB_lt ht) ?_)
    have e0 : tB b n q = 0 := if_neg (by omega)
    rw [e0, show b2 (tLt 0) = 0 by decide, if_pos rfl]
    have er : tRun (tqL b n) (n - q) q = q := tRun_f (by unfold tqL; rw [decide_eq_false (by omega)]; rfl)
    exact k V (fun _ _ _ _ => rfl) (fun _ _ _ => rfl) (by rw [er]; exact h2) (by rw [er]; exact hs)
  | succ m ih =>
    intro q V hq hpq hB h2 hs k
    have hqn : q < n := by omega
    have eB : tB b n q = b q := if_pos hqn
    unfold lFX9_go_116
    rw [h2]
    refine sX_byteAt hB ht (by omega) (sX_isLetter (tB_lt ht) ?_)
    rw [eB]
    cases hl : tLt (b q) with
    | false =>
      rw [show b2 false = 0 from rfl, if_pos rfl]
      have er : tRun (tqL b n) (n - q) q = q := tRun_f (by unfold tqL; rw [hl, Bool.and_false])
      exact k V (fun _ _ _ _ => rfl) (fun _ _ _ => rfl) (by rw [er]; exact h2) (by rw [er]; exact hs)
    | true =>
      rw [show b2 true = 1 from rfl, if_neg (by decide)]
      have er : tRun (tqL b n) (n - q) q = tRun (tqL b n) (n - (q + 1)) (q + 1) := tRun_t hqn (by unfold tqL; rw [hl, decide_eq_true hqn]; rfl)
      rw [er] at k
      have nsr : sb ≠ r := fun e => by have := hs.1; rw [e, hB.1] at this; cases this
      have nar : ar ≠ r := fun e => by have := hs.2.2.2.2.1; rw [e, hB.1] at this; cases this
      have nas : ar ≠ sb := fun e => by have := hs.2.2.2.2.1; rw [e, hs.1] at this; cases this
      have nxs : ax ≠ sb := fun e => by have := hB.2.2.2.2.1; rw [e, hs.1] at this; cases this
      have nxa : ax ≠ ar := fun e => by have := hB.2.2.2.2.1; rw [e, hs.2.2.2.2.1] at this; cases this
      have step : ∀ V1 : w_V, (∀ a, a ≠ sb → a ≠ ar → V1 a = V a) → sbX b p T L V1 P sb ar (min 7 (q + 1 - p)) → jFX9_go_153 ad U z T L V1 P r sb post (lFX9_go_116 ad r sb post ke (m + 1)) := fun V1 g1 g2 => by
        unfold jFX9_go_153
        intro V4 e4
        have gr : V1 r = V r := g1 r nsr.symm nar.symm
        refine ih (q + 1) V4 (by omega) (by omega) (hB.v (by rw [e4, up3_n hB.ne]; exact g1 ax nxs nxa) (by rw [e4, up3_a, s2_i (by decide), gr]) rfl) (by rw [e4, up3_a, s2_s, gr, h2, nI_1]) ?_ (fun V' a1 a2 a3 a4 => k V' (fun a x1 x2 x3 => (a1 a x1 x2 x3).trans (by rw [e4, up3_n x1]; exact g1 a x2 x3)) (chR.tr (fun k i hki => by rw [e4, up3_chR (S := fun i => i == 2) rfl k i hki, gr]) a2) a3 a4)
        · obtain ⟨b1, b2', b3, b4, b5, b6, b7⟩ := g2
          exact ⟨b1, by rw [e4, up3_n nsr]; exact b2', by rw [e4, up3_n nsr]; exact b3, b4, b5, b6, fun k hk => by rw [e4, up3_n nar]; exact b7 k hk⟩
      unfold wJ8_length wJ7_length
      rw [hs.2.2.1]
      dsimp only
      by_cases h7 : 7 ≤ q - p
      · rw [show min 7 (q - p) = 7 by omega, if_pos (by decide)]
        refine step V (fun _ _ _ => rfl) ?_
        rw [show min 7 (q + 1 - p) = min 7 (q - p) by omega]
        exact hs
      · rw [show min 7 (q - p) = q - p by omega] at hs ⊢
        rw [if_neg (show ¬ (7 : Int32) ≤ nI (q - p) from nI_ge (b := 7) (by omega) (by omega))]
        refine sX_byteAt hB ht (by omega) ?_
        rw [eB]
        refine sX_append hs (by omega) (lt_128 hl) ⟨hs.1, step _ (fun a x1 x2 => by rw [up3_n x2, up3_n x1]) ?_⟩
        rw [show min 7 (q + 1 - p) = q - p + 1 by omega]
        obtain ⟨b1, b2', b3, b4, b5, b6, b7⟩ := hs
        refine ⟨b1, by rw [up3_n nas.symm, up3_a, s2_i (by decide)]; exact b2', by rw [up3_n nas.symm, up3_a, s2_s], b4, b5, b6, fun k hk => ?_⟩
        rw [up3_a]
        by_cases ek : k = q - p
        · rw [ek, s2_s, show p + (q - p) = q by omega]
        · rw [s2_i ek, up3_n nas]
          exact b7 k (by omega)
theorem vl4 {v c : Nat} (h : v < 100000) (h1 : 48 ≤ c) (h2 : c < 256) : (10 : Int32) * nI v + nI c - 48 = nI (10 * v + (c - 48)) := by
  rw [show (10 : Int32) = nI 10 from rfl, show (48 : Int32) = nI 48 from rfl, nI_mul, nI_add, nI_sub (by omega), show 10 * v + c - 48 = 10 * v + (c - 48) by omega]
theorem tVlN_s (k : Nat) : tVlN b p (k + 1) = 10 * tVlN b p k + (b (p + k) - 48) := rfl
theorem sX_goD (ht : tOk b n) {U : Nat} {post : Nat → (Nat → Nat) → (Nat → Nat) → w_V → w_P → Prop} {ke : Nat → Nat → (Nat → Nat) → (Nat → Nat) → w_V → w_P → Prop} : ∀ (m q : Nat) (V : w_V), q + m = n → p ≤ q → rdB b n T L V P r tx ax kx → V r 0 2 = nI q → V r 0 3 = nI p → V r 0 4 = nI (tVlN b p (min 4 (q - p))) → (∀ i, p ≤ i → i < q → tDg (b i) = true) →
    (∀ V' : w_V, (∀ a, a ≠ r → V' a = V a) → chR r (fun i => i == 2 || i == 4) V V' → V' r 0 2 = nI (tRun (tqD b n) (n - q) q) → V' r 0 4 = nI (tVlN b p (min 4 (tRun (tqD b n) (n - q) q - p))) → ke U z T L V' P) → lFX9_go_196 ad r post ke (m + 1) U z T L V P := by
  have hn6 := ht.1
  intro m
  induction m with
  | zero =>
    intro q V hq hpq hB h2 h3 h4 hd k
    unfold lFX9_go_196
    rw [h2]
    refine sX_byteAt hB ht (by omega) (sX_isDigit (tB_lt ht) ?_)
    have e0 : tB b n q = 0 := if_neg (by omega)
    rw [e0, show b2 (tDg 0) = 0 by decide, if_pos rfl]
    have er : tRun (tqD b n) (n - q) q = q := tRun_f (by unfold tqD; rw [decide_eq_false (by omega)]; rfl)
    exact k V (fun _ _ => rfl) (fun _ _ _ => rfl) (by rw [er]; exact h2) (by rw [er]; exact h4)
  | succ m ih =>
    intro q V hq hpq hB h2 h3 h4 hd k
    have hqn : q < n := by omega
    have eB : tB b n q = b q := if_pos hqn
    unfold lFX9_go_196
    rw [h2]
    refine sX_byteAt hB ht (by omega) (sX_isDigit (tB_lt ht) ?_)
    rw [eB]
    cases hl : tDg (b q) with
    | false =>
      rw [show b2 false = 0 from rfl, if_pos rfl]
      have er : tRun (tqD b n) (n - q) q = q := tRun_f (by unfold tqD; rw [hl, Bool.and_false])
      exact k V (fun _ _ => rfl) (fun _ _ _ => rfl) (by rw [er]; exact h2) (by rw [er]; exact h4)
    | true =>
      rw [show b2 true = 1 from rfl, if_neg (by decide)]
      have er : tRun (tqD b n) (n - q) q = tRun (tqD b n) (n - (q + 1)) (q + 1) := tRun_t hqn (by unfold tqD; rw [hl, decide_eq_true hqn]; rfl)
      rw [er] at k
      have hd1 : ∀ i, p ≤ i → i < q + 1 → tDg (b i) = true := fun i h1 h2 => by
        by_cases e : i = q
        · rw [e]; exact hl
        · exact hd i h1 (by omega)
      have step : ∀ V1 : w_V, (∀ a, a ≠ r → V1 a = V a) → chR r (fun i => i == 2 || i == 4) V V1 → V1 r 0 2 = nI q → V1 r 0 4 = nI (tVlN b p (min 4 (q + 1 - p))) → jFX9_go_246 ad U z T L V1 P r post (lFX9_go_196 ad r post ke (m + 1)) := fun V1 g1 g2 g3 g4 => by
        unfold jFX9_go_246
        intro V4 e4
        refine ih (q + 1) V4 (by omega) (by omega) (hB.v (by rw [e4, up3_n hB.ne]; exact g1 ax hB.ne) (by rw [e4, up3_a, s2_i (by decide)]; exact g2 0 1 (by decide)) rfl) (by rw [e4, up3_a, s2_s, g3, nI_1]) (by rw [e4, up3_a, s2_i (by decide), g2 0 3 (by decide)]; exact h3) (by rw [e4, up3_a, s2_i (by decide)]; exact g4) hd1 (fun V' a1 a2 a3 a4 => k V' (fun a x1 => (a1 a x1).trans (by rw [e4, up3_n x1]; exact g1 a x1)) ((g2.tr (by rw [e4]; exact up3_chR rfl)).tr a2) a3 a4)
      rw [h3, nI_sub hpq]
      by_cases h7 : 4 ≤ q - p
      · rw [if_pos (show (4 : Int32) ≤ nI (q - p) from nI_le (a := 4) h7 (by omega))]
        exact step V (fun _ _ => rfl) (fun _ _ _ => rfl) h2 (by rw [h4, show min 4 (q + 1 - p) = min 4 (q - p) by omega])
      · rw [if_neg (show ¬ (4 : Int32) ≤ nI (q - p) from nI_ge (b := 4) (by omega) (by omega))]
        refine sX_byteAt hB ht (by omega) ?_
        rw [eB]
        have hv := t9vlN_lt (b := b) (p := p) (q - p) (fun i hi => hd (p + i) (by omega) (by omega))
        have hv4 : (10 : Nat) ^ (q - p) ≤ 10 ^ 4 := Nat.pow_le_pow_right (by decide) (by omega)
        have hdg := of_decide_eq_true hl
        rw [show min 4 (q - p) = q - p by omega] at h4
        intro V56 e56
        rw [h4, vl4 (by omega) hdg.1 (ht.2 q)] at e56
        refine step V56 (fun a x => by rw [e56, up3_n x]) (by rw [e56]; exact up3_chR rfl) (by rw [e56, up3_a, s2_i (by decide)]; exact h2) ?_
        rw [e56, up3_a, s2_s, show min 4 (q + 1 - p) = q - p + 1 by omega, tVlN_s, show p + (q - p) = q by omega]
/-- the heap is more, but at r -/
def ext (z : Nat) (T L : Nat → Nat) (V : w_V) (P : w_P) (z' : Nat) (T' L' : Nat → Nat) (V' : w_V) (P' : w_P) : Prop := frs z' T' ∧ z ≤ z' ∧ xt T L V P T' L' V' P'
theorem ext.tr {z1 : Nat} {T1 L1 : Nat → Nat} {V1 : w_V} {P1 : w_P} {z2 : Nat} {T2 L2 : Nat → Nat} {V2 : w_V} {P2 : w_P} (h : ext z T L V P z1 T1 L1 V1 P1) (h2 : ext z1 T1 L1 V1 P1 z2 T2 L2 V2 P2) : ext z T L V P z2 T2 L2 V2 P2 := ⟨h2.1, Nat.le_trans h.2.1 h2.2.1, h.2.2.tr h2.2.2⟩
theorem ext.nw (hf : frs z T) {t l o z1 : Nat} {T1 L1 : Nat → Nat} {V1 : w_V} {P1 : w_P} (h : nwH o z T L V P t l z1 T1 L1 V1 P1) : ext z T L V P z1 T1 L1 V1 P1 ∧ T o = 0 ∧ T1 o = t ∧ L1 o = l ∧ (V1 o = fun _ _ => 0) ∧ (P1 o = fun _ => none) := by
  obtain ⟨rfl, rfl, rfl, rfl, rfl, rfl⟩ := h
  have h0 : T o = 0 := by
    cases e : T o with
    | zero => rfl
    | succ m => have := hf o (by rw [e]; omega); omega
  have hn : ∀ a, T a ≠ 0 → a ≠ o := fun a ha e => ha (by rw [e]; exact h0)
  refine ⟨⟨fun a ha => ?_, Nat.le_succ _, fun a ha => ⟨up1_n (hn a ha), up1_n (hn a ha), up1_n (hn a ha), up1_n (hn a ha)⟩⟩, h0, up1_s, up1_s, up1_s, up1_s⟩
  by_cases e : a = o
  · omega
  · rw [up1_n e] at ha
    have := hf a ha
    omega
/-- at a place of no kind at first something is written -/
theorem ext.put {z1 : Nat} {T1 L1 : Nat → Nat} {V1 V2 : w_V} {P1 P2 : w_P} {o : Nat} (h : ext z T L V P z1 T1 L1 V1 P1) (ho : T o = 0) (hV : ∀ a, a ≠ o → V2 a = V1 a ∧ P2 a = P1 a) : ext z T L V P z1 T1 L1 V2 P2 := by
  obtain ⟨a1, a2, a3⟩ := h
  have hn : ∀ a, T a ≠ 0 → a ≠ o := fun a ha e => ha (by rw [e]; exact ho)
  exact ⟨a1, a2, fun a ha => ⟨(a3 a ha).1, (a3 a ha).2.1, (hV a (hn a ha)).1.trans (a3 a ha).2.2.1, (hV a (hn a ha)).2.trans (a3 a ha).2.2.2⟩⟩
theorem fitB7 : ∀ c, c < 128 → fits .byte (.int (nI c)) = true := by decide +kernel
theorem len7 : ∀ j, j < 8 → (nI j - 0 : Int32) = nI j ∧ (if nI j < (nI 7 - 0 : Int32) then nI j else (nI 7 - 0 : Int32)) = nI j ∧ ((0 : Int32) ≤ nI j) ∧ (nI j = nI 7 → j = 7) := by decide +kernel
theorem sX_cpR {U ar j : Nat} (hf : frs z T) (hT : T ar = 1001) (hL : L ar = 7) (hj : j ≤ 7) (hc : ∀ i, i < j → ∃ c, c < 128 ∧ V ar 0 i = nI c) (hU : 3 ≤ U) {post : Nat → Nat → (Nat → Nat) → (Nat → Nat) → w_V → w_P → Prop}
    (k : ∀ (va z' : Nat) (T' L' : Nat → Nat) (V' : w_V) (P' : w_P), ext z T L V P z' T' L' V' P' → T va = 0 → T' va = 1001 → L' va = j → (∀ i, i < j → V' va 0 i = V ar 0 i) → post va z' T' L' V' P') : wFJ13_copyOfRange ad U z T L V P ar ar 0 7 0 (nI j) post := by
  obtain ⟨l1, l2, l3, l4⟩ := len7 j (by omega)
  have ar0 : T ar ≠ 0 := ne0 hT
  have fit : ∀ i, i < j → fits .byte (.int (V ar 0 i)) = true := fun i hi => by
    obtain ⟨c, c1, c2⟩ := hc i hi
    rw [c2]
    exact fitB7 c c1
  unfold wFJ13_copyOfRange
  rw [if_pos rfl]
  by_cases e7 : nI j = nI 7
  · have ej := l4 e7
    subst ej
    rw [if_pos rfl]
    refine ⟨fit, 1, U - 1, Nat.le_refl _, by decide, by omega, ?_⟩
    intro o z1 T1 L1 V1 P1 e1 e2 e3 e4 e5 e6
    subst e1
    have h0 : T o = 0 := by
      cases e : T o with
      | zero => rfl
      | succ m => have := hf o (by rw [e]; omega); omega
    have hn : ∀ a, T a ≠ 0 → a ≠ o := fun a ha e => ha (by rw [e]; exact h0)
    refine k o z1 T1 L1 V1 P1 ⟨fun a ha => ?_, by omega, fun a ha => ?_⟩ h0 (by rw [e3]; exact up1_s) (by rw [e4]; exact up1_s) (fun i hi => by rw [e5, up1_s])
    · rw [e3] at ha
      by_cases e : a = o
      · omega
      · rw [up1_n e] at ha
        have := hf a ha
        omega
    · rw [e3, e4, e5, e6, up1_n (hn a ha), up1_n (hn a ha), up1_n (hn a ha), up1_n (hn a ha)]
      exact ⟨rfl, rfl, rfl, rfl⟩
  · rw [if_neg e7]
    unfold jFJ13_copyOfRange_10 wFJ13_copyOfRangeByte wFJ13_checkLength
    refine ⟨U, 0, rfl, 0, U, (Nat.zero_add U).symm, ?_⟩
    rw [if_pos l3]
    refine ⟨arr7 hT hL, j, 1, U - 1, l1, by omega, Nat.le_refl _, by omega, by omega, ?_⟩
    intro o z1 T1 L1 V1 P1 hw
    obtain ⟨x1, x2, x3, x4, x5, x6⟩ := ext.nw hf hw
    obtain ⟨y1, y2, y3, y4⟩ := x1.2.2 ar ar0
    have nao : ar ≠ o := fun e => by rw [e] at hT; rw [hT] at x2; cases x2
    refine ⟨arr7 (y1.trans hT) (y2.trans hL), 0, 0, j, rfl, rfl, ?_, by omega, by omega, fun i hi => ?_, fun V27 e27 => ⟨o, 0, j, ?_, by omega, ?_⟩⟩
    · rw [l1]; exact l2
    · rw [y3, Nat.zero_add]; exact fit i hi
    · exact ⟨by decide, Or.inr ⟨x3, rfl, x4.symm, rfl⟩⟩
    · refine k o z1 T1 L1 V27 P1 (x1.put x2 (fun a ha => ⟨by rw [e27, up1_n ha], rfl⟩)) x2 x3 x4 (fun i hi => ?_)
      rw [e27, up1_s, up1_s, y3, sb_cpy0 hi]
end G
