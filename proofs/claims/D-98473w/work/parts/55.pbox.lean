/-! PURE: the class's box: a book, states, rows; against the model's rows -/
set_option maxRecDepth 100000
def stI (i : Nat) : Prop := i = 2 ∨ i = 3 ∨ i = 13 ∨ (100 ≤ i ∧ i < 140) ∨ (200 ≤ i ∧ i < 240)
/-- addresses: 0 book, 1 image, 2 now, 3 tried, 4 trial, 5 land, 6 judges, 7 their row, 8 cases, 9 their row, 10 view, 11 the book's list, 12 its row, 13 the image's now, 14 its list, 15 its row, 100 .. ahead, 200 .. the image's -/
def bxP (T L : Nat → Nat) (P : w_P) (t : Nat) (A : Nat → Nat) : Prop :=
  (T t = 2 ∧ P t 0 = some (A 5) ∧ P t 1 = some (A 0) ∧ P t 2 = some (A 1) ∧ P t 3 = some (A 2) ∧ P t 4 = some (A 3) ∧ P t 5 = some (A 4)) ∧
  (T (A 0) = 5 ∧ P (A 0) 0 = some (A 2) ∧ P (A 0) 1 = some (A 11)) ∧ (T (A 1) = 5 ∧ P (A 1) 0 = some (A 13) ∧ P (A 1) 1 = some (A 14)) ∧ A 0 ≠ A 1 ∧
  (T (A 4) = 7 ∧ P (A 4) 0 = some (A 5) ∧ P (A 4) 1 = some (A 3)) ∧
  (T (A 11) = 16 ∧ P (A 11) 1 = some (A 12) ∧ T (A 12) = 2004 ∧ L (A 12) = 40) ∧ (T (A 14) = 16 ∧ P (A 14) 1 = some (A 15) ∧ T (A 15) = 2004 ∧ L (A 15) = 40) ∧
  (A 11 ≠ A 14 ∧ A 12 ≠ A 15 ∧ A 11 ≠ A 6 ∧ A 11 ≠ A 8 ∧ A 12 ≠ A 7 ∧ A 12 ≠ A 9) ∧
  (∀ k, k < 40 → P (A 12) k = some (A (100 + k)) ∧ P (A 15) k = some (A (200 + k))) ∧
  (∀ i, stI i → T (A i) = 6) ∧ (∀ i j, stI i → stI j → A i = A j → i = j)
/-- the state at a is the row r -/
def rowX (V : w_V) (a n : Nat) (r : Nat → Int32) : Prop := (∀ j, j < n → V a 1 j = r j) ∧ V a 0 4 = r 5 ∧ V a 0 5 = r 6 ∧ V a 0 6 = r 7 ∧ V a 0 7 = r 8 ∧ (∀ k, k < 3 * tn (r 6) → V a 2 k = r (9 + k)) ∧ (∀ k, k < 3 * tn (r 7) → V a 3 k = r (21 + k)) ∧ (∀ k, k < 3 * tn (r 8) → V a 4 k = r (33 + k)) ∧ V a 0 8 = 0 ∧ V a 0 9 = 0 ∧ V a 0 10 = 0 ∧ V a 0 11 = -1
def rowOk (nt nj : Nat) (r : Nat → Int32) : Prop := (∀ j, j < nj → ∃ d, r j = nI d ∧ d ≤ 60) ∧ (r 6 = nI (tn (r 6)) ∧ tn (r 6) ≤ 4) ∧ (r 7 = nI (tn (r 7)) ∧ tn (r 7) ≤ 4) ∧ (r 8 = nI (tn (r 8)) ∧ tn (r 8) ≤ 4) ∧
  (∀ k, k < tn (r 6) → ∃ t d, r (9 + (3 * k + 1)) = nI t ∧ t < nt ∧ r (9 + (3 * k + 2)) = nI d ∧ d ≤ 99) ∧ (∀ k, k < tn (r 8) → ∃ t w, r (33 + 3 * k) = nI t ∧ t < nt ∧ r (33 + (3 * k + 2)) = nI w ∧ w ≤ 20) ∧ ∃ m, r 5 = nI m ∧ m < 512
/-- the model's state as a row -/
def pk (sg : MS) : Nat → Int32 := fun i => if i < 5 then sg 7 i else if i = 5 then sg 0 29 else if i = 6 then sg 0 30 else if i = 7 then sg 0 31 else if i = 8 then sg 0 32 else if i < 21 then sg 26 (i - 9) else if i < 33 then sg 27 (i - 21) else sg 28 (i - 33)
theorem pk_d {sg : MS} {j : Nat} (h : j < 5) : pk sg j = sg 7 j := if_pos h
theorem pk_5 {sg : MS} : pk sg 5 = sg 0 29 := rfl
theorem pk_6 {sg : MS} : pk sg 6 = sg 0 30 := rfl
theorem pk_7 {sg : MS} : pk sg 7 = sg 0 31 := rfl
theorem pk_8 {sg : MS} : pk sg 8 = sg 0 32 := rfl
theorem pk_w {sg : MS} {k : Nat} (h : k < 12) : pk sg (9 + k) = sg 26 k := by
  unfold pk
  rw [if_neg (by omega), if_neg (by omega), if_neg (by omega), if_neg (by omega), if_neg (by omega), if_pos (by omega), Nat.add_sub_cancel_left]
theorem pk_f {sg : MS} {k : Nat} (h : k < 12) : pk sg (21 + k) = sg 27 k := by
  unfold pk
  rw [if_neg (by omega), if_neg (by omega), if_neg (by omega), if_neg (by omega), if_neg (by omega), if_neg (by omega), if_pos (by omega), Nat.add_sub_cancel_left]
theorem pk_l {sg : MS} {k : Nat} : pk sg (33 + k) = sg 28 k := by
  unfold pk
  rw [if_neg (by omega), if_neg (by omega), if_neg (by omega), if_neg (by omega), if_neg (by omega), if_neg (by omega), if_neg (by omega), Nat.add_sub_cancel_left]
theorem rowOk.st {sg : MS} (h : rowOk (nT sg) (nJ sg) (pk sg)) (hJ : nJ sg ≤ 5) : stOk (gh sg) := by
  obtain ⟨h1, h2, h3, h4, h5, h6, -⟩ := h
  rw [pk_6] at h2 h5
  rw [pk_7] at h3
  rw [pk_8] at h4 h6
  have eT : nT (gh sg) = nT sg := (gh_ag sg).nT
  have eJ : nJ (gh sg) = nJ sg := (gh_ag sg).nJ
  unfold stOk
  rw [eT, eJ, gh_k (k := 7) (by decide), gh_k (k := 26) (by decide), gh_k (k := 28) (by decide), gh_0 (j := 30) (by decide) (by decide) (by decide) (by decide), gh_0 (j := 31) (by decide) (by decide) (by decide) (by decide), gh_0 (j := 32) (by decide) (by decide) (by decide) (by decide)]
  refine ⟨fun j hj => ?_, ⟨h2.1, by omega⟩, h3, ⟨h4.1, by omega⟩, fun k hk => ?_, fun k hk => ?_⟩
  · obtain ⟨d, q1, q2⟩ := h1 j hj
    exact ⟨d, by rw [← pk_d (sg := sg) (by omega)]; exact q1, q2⟩
  · obtain ⟨t, d, q1, q2, q3, q4⟩ := h5 k hk
    rw [pk_w (by omega)] at q1 q3
    exact ⟨t, d, q1, q2, q3, q4⟩
  · obtain ⟨t, w, q1, q2, q3, q4⟩ := h6 k hk
    rw [pk_l] at q1 q3
    exact ⟨t, w, q1, q2, q3, q4⟩
theorem rowX.st {T : Nat → Nat} {V : w_V} {a : Nat} {sg : MS} (h : rowX V a (nJ sg) (pk sg)) (ho : rowOk (nT sg) (nJ sg) (pk sg)) (hJ : nJ sg ≤ 5) (hT : T a = 6) : stR T V a (gh sg) := by
  obtain ⟨h1, h2, h3, h4, h5, h6, h7, h8, -⟩ := h
  obtain ⟨-, g2, g3, g4, -, -⟩ := ho
  rw [pk_5] at h2
  rw [pk_6] at h3 h6 g2
  rw [pk_7] at h4 h7 g3
  rw [pk_8] at h5 h8 g4
  have eJ : nJ (gh sg) = nJ sg := (gh_ag sg).nJ
  unfold stR
  rw [eJ, gh_k (k := 7) (by decide), gh_k (k := 26) (by decide), gh_k (k := 27) (by decide), gh_k (k := 28) (by decide), gh_0 (j := 29) (by decide) (by decide) (by decide) (by decide), gh_0 (j := 30) (by decide) (by decide) (by decide) (by decide), gh_0 (j := 31) (by decide) (by decide) (by decide) (by decide), gh_0 (j := 32) (by decide) (by decide) (by decide) (by decide)]
  refine ⟨hT, fun j hj => ?_, h2, h3, h4, h5, fun k hk => ?_, fun k hk => ?_, fun k hk => ?_⟩
  · rw [h1 j hj, pk_d (by omega)]
  · rw [h6 k hk, pk_w (by omega)]
  · rw [h7 k hk, pk_f (by omega)]
  · rw [h8 k hk, pk_l]
theorem m1_ne {j : Nat} (hj : j < 2147483648) : decide ((-1 : Int32) = nI j) = false := decide_eq_false (fun e => nI_ne1 hj e.symm)
theorem df_gh {sg : MS} (hJ : nJ sg ≤ 5) {j : Nat} (hj : j < nJ sg) : bitI (dfS sg (nJ sg)) (nI j) = decide (sg 6 j = 1) := by
  obtain ⟨m, h1, h2, h3⟩ := dfS_bit (D := sg) (nJ sg) hJ
  rw [h2, h3 j (by omega)]
  exact decide_eq_decide.mpr ⟨fun q => q.2, fun q => ⟨hj, q⟩⟩
theorem rowX.ex {V : w_V} {a n : Nat} {r : Nat → Int32} {sg : MS} (h : rowX V a n r) (hJ : nJ sg ≤ 5) : exR V a (gh sg) := by
  obtain ⟨-, -, -, -, -, -, -, -, h8, h9, h10, h11⟩ := h
  have eJ : nJ (gh sg) = nJ sg := (gh_ag sg).nJ
  unfold exR
  rw [eJ, h8, h9, h10, h11, gh_40, gh_41, gh_42, gh_43, gh_k (k := 6) (by decide)]
  refine ⟨fun j hj => ?_, fun j hj => ?_, rfl, rfl⟩
  · rw [bit_0 j (by omega), m1_ne (by omega)]
  · rw [bit_0 j (by omega), df_gh hJ hj]
    cases decide (sg 6 j = 1) <;> rfl
/-- the state at t is as the one at s -/
def lkX (V9 : w_V) (t : Nat) (σ : MS) : Prop := (∀ i, i < 5 → V9 t 1 i = σ 1 i) ∧ (∀ i, i < 15 → V9 t 2 i = σ 2 i) ∧ (∀ i, i < 12 → V9 t 3 i = σ 3 i) ∧ (∀ i, i < 18 → V9 t 4 i = σ 4 i) ∧ ∀ j, 4 ≤ j → j < 12 → V9 t 0 j = σ 0 j
theorem fitI (x : Int32) : fits .int (.int x) = true := rfl
theorem sX6_like {ad : Nat → Nat} {T L : Nat → Nat} {V : w_V} {P : w_P} {t s : Nat} (hts : s ≠ t) {post : w_V → Prop} (h : ∀ V9 : w_V, (∀ a, a ≠ t → V9 a = V a) → lkX V9 t (V s) → post V9) : wX6_like ad T L V P t s post := by
  unfold wX6_like
  refine ⟨0, 0, 5, rfl, rfl, rfl, by omega, by omega, fun _ _ => fitI _, fun V1 e1 => ⟨0, 0, 15, rfl, rfl, rfl, by omega, by omega, fun _ _ => fitI _, fun V2 e2 => ⟨0, 0, 12, rfl, rfl, rfl, by omega, by omega, fun _ _ => fitI _, fun V3 e3 => ⟨0, 0, 18, rfl, rfl, rfl, by omega, by omega, fun _ _ => fitI _, fun V4 e4 => ?_⟩⟩⟩⟩
  have f1 : ∀ a, a ≠ t → V1 a = V a := fun a ha => by rw [e1, up1_n ha]
  have f2 : ∀ a, a ≠ t → V2 a = V a := fun a ha => by rw [e2, up1_n ha]; exact f1 a ha
  have f3 : ∀ a, a ≠ t → V3 a = V a := fun a ha => by rw [e3, up1_n ha]; exact f2 a ha
  have f4 : ∀ a, a ≠ t → V4 a = V a := fun a ha => by rw [e4, up1_n ha]; exact f3 a ha
  have c1 : ∀ i, i < 5 → V4 t 1 i = V s 1 i := fun i hi => by
    rw [e4, up1_s, up1_n (by decide), e3, up1_s, up1_n (by decide), e2, up1_s, up1_n (by decide), e1, up1_s, up1_s, sb_cpy0 hi]
  have c2 : ∀ i, i < 15 → V4 t 2 i = V s 2 i := fun i hi => by
    rw [e4, up1_s, up1_n (by decide), e3, up1_s, up1_n (by decide), e2, up1_s, up1_s, sb_cpy0 hi, f1 s hts]
  have c3 : ∀ i, i < 12 → V4 t 3 i = V s 3 i := fun i hi => by
    rw [e4, up1_s, up1_n (by decide), e3, up1_s, up1_s, sb_cpy0 hi, f2 s hts]
  have c4 : ∀ i, i < 18 → V4 t 4 i = V s 4 i := fun i hi => by
    rw [e4, up1_s, up1_s, sb_cpy0 hi, f3 s hts]
  intro W1 w1 W2 w2 W3 w3 W4 w4 W5 w5 W6 w6 W7 w7 W8 w8
  have g1 : W1 s = V s := by rw [w1, up3_n hts]; exact f4 s hts
  have g2 : W2 s = V s := by rw [w2, up3_n hts]; exact g1
  have g3 : W3 s = V s := by rw [w3, up3_n hts]; exact g2
  have g4 : W4 s = V s := by rw [w4, up3_n hts]; exact g3
  have g5 : W5 s = V s := by rw [w5, up3_n hts]; exact g4
  have g6 : W6 s = V s := by rw [w6, up3_n hts]; exact g5
  have g7 : W7 s = V s := by rw [w7, up3_n hts]; exact g6
  have e8 : W8 t = s2 (s2 (s2 (s2 (s2 (s2 (s2 (s2 (V4 t) 0 4 (V s 0 4)) 0 5 (V s 0 5)) 0 6 (V s 0 6)) 0 7 (V s 0 7)) 0 8 (V s 0 8)) 0 9 (V s 0 9)) 0 10 (V s 0 10)) 0 11 (V s 0 11) := by
    rw [w8, up3_a, g7, w7, up3_a, g6, w6, up3_a, g5, w5, up3_a, g4, w4, up3_a, g3, w3, up3_a, g2, w2, up3_a, g1, w1, up3_a, f4 s hts]
  refine h W8 (fun a ha => by rw [w8, up3_n ha, w7, up3_n ha, w6, up3_n ha, w5, up3_n ha, w4, up3_n ha, w3, up3_n ha, w2, up3_n ha, w1, up3_n ha]; exact f4 a ha) ⟨fun i hi => ?_, fun i hi => ?_, fun i hi => ?_, fun i hi => ?_, fun j h1 h2 => ?_⟩
  · rw [e8, s2_rowN (by decide), s2_rowN (by decide), s2_rowN (by decide), s2_rowN (by decide), s2_rowN (by decide), s2_rowN (by decide), s2_rowN (by decide), s2_rowN (by decide)]; exact c1 i hi
  · rw [e8, s2_rowN (by decide), s2_rowN (by decide), s2_rowN (by decide), s2_rowN (by decide), s2_rowN (by decide), s2_rowN (by decide), s2_rowN (by decide), s2_rowN (by decide)]; exact c2 i hi
  · rw [e8, s2_rowN (by decide), s2_rowN (by decide), s2_rowN (by decide), s2_rowN (by decide), s2_rowN (by decide), s2_rowN (by decide), s2_rowN (by decide), s2_rowN (by decide)]; exact c3 i hi
  · rw [e8, s2_rowN (by decide), s2_rowN (by decide), s2_rowN (by decide), s2_rowN (by decide), s2_rowN (by decide), s2_rowN (by decide), s2_rowN (by decide), s2_rowN (by decide)]; exact c4 i hi
  · rw [e8]
    have hj : j = 4 ∨ j = 5 ∨ j = 6 ∨ j = 7 ∨ j = 8 ∨ j = 9 ∨ j = 10 ∨ j = 11 := by omega
    rcases hj with e | e | e | e | e | e | e | e <;> subst e <;> rfl
theorem rowX.copy {V V9 : w_V} {s t n : Nat} {r : Nat → Int32} (h : rowX V s n r) (hn : n ≤ 5) {nt : Nat} (ho : rowOk nt n r) (hl : lkX V9 t (V s)) : rowX V9 t n r := by
  obtain ⟨h1, h2, h3, h4, h5, h6, h7, h8, h9, h10, h11, h12⟩ := h
  obtain ⟨l1, l2, l3, l4, l5⟩ := hl
  have o6 := ho.2.1.2
  have o7 := ho.2.2.1.2
  have o8 := ho.2.2.2.1.2
  refine ⟨fun j hj => by rw [l1 j (by omega)]; exact h1 j hj, ?_, ?_, ?_, ?_, fun k hk => by rw [l2 k (by omega)]; exact h6 k hk, fun k hk => by rw [l3 k (by omega)]; exact h7 k hk, fun k hk => by rw [l4 k (by omega)]; exact h8 k hk, ?_, ?_, ?_, ?_⟩ <;> rw [l5 _ (by decide) (by decide)] <;> assumption
theorem rowX.e {V V9 : w_V} {s n : Nat} {r : Nat → Int32} (h : rowX V s n r) (e : V9 s = V s) : rowX V9 s n r := by
  unfold rowX at h ⊢
  rw [e]
  exact h
/-- a book at b with its list, against the model's rows -/
def bkR (V : w_V) (b lst : Nat) (sa : Nat → Nat) (acts seen : Int32) (past sc sj sv rf : Nat → Int32) (nt nj nc : Nat) : Prop :=
  V lst 0 2 = 40 ∧ (∃ a, acts = nI a ∧ a ≤ 40 ∧ V b 0 6 = nI a ∧ ∀ k, k < a → rowX V (sa k) nj (fun i => past (45 * k + i)) ∧ rowOk nt nj (fun i => past (45 * k + i))) ∧
  (∃ s, seen = nI s ∧ s ≤ 8 ∧ V b 0 7 = nI s ∧ ∀ k, k < s → V b 3 k = sc k ∧ V b 4 k = sj k ∧ V b 6 k = sv k ∧ (∃ c, c < nc ∧ sc k = nI c) ∧ (∃ j, j < nj ∧ sj k = nI j)) ∧ (∀ k, k < 8 → V b 6 k = 0 ∨ V b 6 k = 1) ∧ ∀ k, k < 3 → V b 5 k = rf k
theorem bkR.e {V V9 : w_V} {b lst : Nat} {sa : Nat → Nat} {acts seen : Int32} {past sc sj sv rf : Nat → Int32} {nt nj nc : Nat} (h : bkR V b lst sa acts seen past sc sj sv rf nt nj nc) (eb : V9 b = V b) (el : V9 lst = V lst) (es : ∀ k, k < 40 → V9 (sa k) = V (sa k)) : bkR V9 b lst sa acts seen past sc sj sv rf nt nj nc := by
  obtain ⟨h1, ⟨a, a1, a2, a3, a4⟩, h3⟩ := h
  refine ⟨by rw [el]; exact h1, ⟨a, a1, a2, by rw [eb]; exact a3, fun k hk => ⟨(a4 k hk).1.e (es k (by omega)), (a4 k hk).2⟩⟩, ?_⟩
  rw [eb]
  exact h3
/-- the class's box against the model -/
def cR (ad : Nat → Nat) (T L : Nat → Nat) (V : w_V) (P : w_P) (t : Nat) (A : Nat → Nat) (sg : MS) (lw : (Nat → Int32) → Int32) : Prop :=
  (lndOk sg ∧ farOk sg ∧ lndR ad T L V P (A 5) (A 6) (A 7) (A 8) (A 9) (A 10) sg lw ∧ farR V (A 5) sg) ∧
  (rowX V (A 2) (nJ sg) (pk sg) ∧ rowOk (nT sg) (nJ sg) (pk sg)) ∧ bkR V (A 0) (A 11) (fun k => A (100 + k)) (sg 0 33) (sg 0 34) (sg 29) (sg 51) (sg 52) (sg 53) (sg 13) (nT sg) (nJ sg) (nC sg) ∧
  (V t 0 6 = sg 0 54 ∧ V (A 14) 0 2 = 40 ∧ (sg 0 54 = 0 ∨ sg 0 54 = 1 ∧ (rowX V (A 13) (nJ sg) (sg 58) ∧ rowOk (nT sg) (nJ sg) (sg 58)) ∧ bkR V (A 1) (A 14) (fun k => A (200 + k)) (sg 0 55) (sg 0 56) (sg 59) (sg 60) (sg 61) (sg 62) (sg 63) (nT sg) (nJ sg) (nC sg))) ∧
  (∃ n, sg 0 14 = nI n ∧ n ≤ 600 ∧ V t 0 8 = nI n ∧ ∀ i, i < n → V t 8 i &&& 255 = sg 14 i) ∧ V t 0 9 = sg 0 23
/-- what a question of the class leaves -/
def cfr (V V9 : w_V) (t : Nat) (A : Nat → Nat) : Prop := (∀ a, a ≠ A 3 → a ≠ A 4 → a ≠ A 10 → a ≠ t → V9 a = V a) ∧ ∀ k i, ¬ (k = 0 ∧ i = 10) → V9 t k i = V t k i
theorem cfr.rf (V : w_V) (t : Nat) (A : Nat → Nat) : cfr V V t A := ⟨fun _ _ _ _ _ => rfl, fun _ _ _ => rfl⟩
theorem cfr.tr {V V1 V2 : w_V} {t : Nat} {A : Nat → Nat} (h : cfr V V1 t A) (h2 : cfr V1 V2 t A) : cfr V V2 t A := ⟨fun a b c d e => (h2.1 a b c d e).trans (h.1 a b c d e), fun k i q => (h2.2 k i q).trans (h.2 k i q)⟩
theorem cfr.of {V V9 : w_V} {t : Nat} {A : Nat → Nat} (h : ∀ a, a ≠ A 3 → a ≠ A 4 → a ≠ A 10 → V9 a = V a) (h3 : t ≠ A 3) (h4 : t ≠ A 4) (h10 : t ≠ A 10) : cfr V V9 t A := ⟨fun a b c d _ => h a b c d, fun k i _ => by rw [h t h3 h4 h10]⟩
