/-! PURE: what is tried otherwise: a state and the ghost changed alike -/
set_option maxRecDepth 100000
theorem bit_inn : ∀ m, m < 512 → ∀ k, k < 9 → ((nI m >>> (nI k &&& 31)) &&& 1 = 0) ∨ nI m &&& (((1 : Int32) <<< (nI k &&& 31)) ^^^ (-1)) = nI m ^^^ ((1 : Int32) <<< (nI k &&& 31)) := by decide +kernel
theorem xor_xor (x y : Int32) : (x ^^^ y) ^^^ y = x := by rw [Int32.xor_assoc, Int32.xor_self, Int32.xor_zero]
theorem s2_back {σ : MS} {k i : Nat} {x : Int32} : s2 (s2 σ k i x) k i (σ k i) = σ := by
  funext a b
  unfold s2
  by_cases h : a = k ∧ b = i
  · rw [if_pos h]; obtain ⟨rfl, rfl⟩ := h; rfl
  · rw [if_neg h, if_neg h]
section MD
variable {T : Nat → Nat} {V : w_V} {s : Nat} {D : MS}
theorem ag_0 {j : Nat} {x : Int32} : agL D (s2 D 0 j x) := agL.of (fun k hk => s2_rowN (by omega))
theorem ag_7 {j : Nat} {x : Int32} : agL D (s2 D 7 j x) := agL.of (fun k hk => s2_rowN (by omega))
theorem nJ_0 {j : Nat} {x : Int32} : nJ (s2 D 0 j x) = nJ D := ag_0.nJ
theorem nT_0 {j : Nat} {x : Int32} : nT (s2 D 0 j x) = nT D := ag_0.nT
theorem nJ_7 {j : Nat} {x : Int32} : nJ (s2 D 7 j x) = nJ D := ag_7.nJ
theorem nT_7 {j : Nat} {x : Int32} : nT (s2 D 7 j x) = nT D := ag_7.nT
/-- an inn -/
theorem stR.inn {x : Int32} (h : stR T V s D) : stR T (up3 V s 0 4 x) s (s2 D 0 29 x) := by
  obtain ⟨h1, h2, h3, h4, h5, h6, h7, h8, h9⟩ := h
  unfold stR
  rw [up3_a, nJ_0, s2_s, s2_s, s2_i (show (5 : Nat) ≠ 4 by decide), s2_i (show (6 : Nat) ≠ 4 by decide), s2_i (show (7 : Nat) ≠ 4 by decide), s2_i (show (30 : Nat) ≠ 29 by decide), s2_i (show (31 : Nat) ≠ 29 by decide), s2_i (show (32 : Nat) ≠ 29 by decide), s2_rowN (show (1 : Nat) ≠ 0 by decide), s2_rowN (show (2 : Nat) ≠ 0 by decide), s2_rowN (show (3 : Nat) ≠ 0 by decide), s2_rowN (show (4 : Nat) ≠ 0 by decide), s2_rowN (show (7 : Nat) ≠ 0 by decide), s2_rowN (show (26 : Nat) ≠ 0 by decide), s2_rowN (show (27 : Nat) ≠ 0 by decide), s2_rowN (show (28 : Nat) ≠ 0 by decide)]
  exact ⟨h1, h2, rfl, h4, h5, h6, h7, h8, h9⟩
theorem stOk.f {j : Nat} {x : Int32} (h : stOk D) (h1 : j ≠ 30) (h2 : j ≠ 31) (h3 : j ≠ 32) : stOk (s2 D 0 j x) := by
  unfold stOk at h ⊢
  rw [nJ_0, nT_0, s2_i h1.symm, s2_i h2.symm, s2_i h3.symm, s2_rowN (show (7 : Nat) ≠ 0 by decide), s2_rowN (show (26 : Nat) ≠ 0 by decide), s2_rowN (show (28 : Nat) ≠ 0 by decide)]
  exact h
/-- a field of D that a state has not -/
theorem stR.f {j : Nat} {x : Int32} (h : stR T V s D) (h0 : j ≠ 29) (h1 : j ≠ 30) (h2 : j ≠ 31) (h3 : j ≠ 32) : stR T V s (s2 D 0 j x) := by
  unfold stR at h ⊢
  rw [nJ_0, s2_i h0.symm, s2_i h1.symm, s2_i h2.symm, s2_i h3.symm, s2_rowN (show (7 : Nat) ≠ 0 by decide), s2_rowN (show (26 : Nat) ≠ 0 by decide), s2_rowN (show (27 : Nat) ≠ 0 by decide), s2_rowN (show (28 : Nat) ≠ 0 by decide)]
  exact h
/-- a field of a state that is no state's -/
theorem stR.v {j : Nat} {x : Int32} (h : stR T V s D) (hj : j = 8 ∨ j = 9 ∨ j = 10 ∨ j = 11) : stR T (up3 V s 0 j x) s D := by
  unfold stR at h ⊢
  rw [up3_a, s2_i (show 4 ≠ j by omega), s2_i (show 5 ≠ j by omega), s2_i (show 6 ≠ j by omega), s2_i (show 7 ≠ j by omega), s2_rowN (show (1 : Nat) ≠ 0 by decide), s2_rowN (show (2 : Nat) ≠ 0 by decide), s2_rowN (show (3 : Nat) ≠ 0 by decide), s2_rowN (show (4 : Nat) ≠ 0 by decide)]
  exact h
theorem exR.v {k j : Nat} {x : Int32} (h : exR V s D) (hj : k ≠ 0 ∨ j < 8) : exR (up3 V s k j x) s D := by
  have e : ∀ i, i = 8 ∨ i = 9 ∨ i = 10 ∨ i = 11 → s2 (V s) k j x 0 i = V s 0 i := fun i hi => by
    rcases hj with q | q
    · exact s2_k (fun z => q z.symm)
    · exact s2_i (by omega)
  unfold exR at h ⊢
  rw [up3_a, e 8 (by decide), e 9 (by decide), e 10 (by decide), e 11 (by decide)]
  exact h
theorem exR.f {k j : Nat} {x : Int32} (h : exR V s D) (hk : (k = 0 ∧ j ≠ 40 ∧ j ≠ 41 ∧ j ≠ 42 ∧ j ≠ 43) ∨ (k ≠ 0 ∧ k ≠ 4 ∧ k ≠ 6)) : exR V s (s2 D k j x) := by
  have e : ∀ i, i = 40 ∨ i = 41 ∨ i = 42 ∨ i = 43 → s2 D k j x 0 i = D 0 i := fun i hi => by
    rcases hk with ⟨q, q2⟩ | q
    · exact s2_i (by omega)
    · exact s2_k (fun z => q.1 z.symm)
  have e4 : s2 D k j x 4 = D 4 := s2_rowN (by omega)
  have e6 : s2 D k j x 6 = D 6 := s2_rowN (by omega)
  have eJ : nJ (s2 D k j x) = nJ D := by
    show tn (s2 D k j x 4 4) = tn (D 4 4)
    rw [e4]
  unfold exR at h ⊢
  rw [eJ, e6, e 40 (by decide), e 41 (by decide), e 42 (by decide), e 43 (by decide)]
  exact h
/-- a day -/
theorem stR.day {j : Nat} {x : Int32} (h : stR T V s D) : stR T (up3 V s 1 j x) s (s2 D 7 j x) := by
  obtain ⟨h1, h2, h3, h4, h5, h6, h7, h8, h9⟩ := h
  unfold stR
  rw [up3_a, nJ_7, s2_rowN (show (0 : Nat) ≠ 1 by decide), s2_rowN (show (2 : Nat) ≠ 1 by decide), s2_rowN (show (3 : Nat) ≠ 1 by decide), s2_rowN (show (4 : Nat) ≠ 1 by decide), s2_rowN (show (0 : Nat) ≠ 7 by decide), s2_rowN (show (26 : Nat) ≠ 7 by decide), s2_rowN (show (27 : Nat) ≠ 7 by decide), s2_rowN (show (28 : Nat) ≠ 7 by decide)]
  refine ⟨h1, fun i hi => ?_, h3, h4, h5, h6, h7, h8, h9⟩
  by_cases e : i = j
  · subst e; rw [s2_s, s2_s]
  · rw [s2_i e, s2_i e]; exact h2 i hi
theorem stOk.day {j d : Nat} (h : stOk D) (hd : d ≤ 60) : stOk (s2 D 7 j (nI d)) := by
  unfold stOk at h ⊢
  rw [nJ_7, nT_7, s2_rowN (show (0 : Nat) ≠ 7 by decide), s2_rowN (show (26 : Nat) ≠ 7 by decide), s2_rowN (show (28 : Nat) ≠ 7 by decide)]
  refine ⟨fun i hi => ?_, h.2⟩
  by_cases e : i = j
  · subst e; exact ⟨d, s2_s, hd⟩
  · rw [s2_i e]; exact h.1 i hi
/-- round the other way -/
theorem exR.back {j : Nat} (h : exR V s D) (hJ : nJ D ≤ 5) (hj : j < 5) : exR (up3 V s 0 8 ((1 : Int32) <<< (nI j &&& 31))) s (s2 D 0 40 (nI j)) := by
  unfold exR at h ⊢
  rw [up3_a, nJ_0, s2_s, s2_s, s2_i (show (9 : Nat) ≠ 8 by decide), s2_i (show (10 : Nat) ≠ 8 by decide), s2_i (show (11 : Nat) ≠ 8 by decide), s2_i (show (41 : Nat) ≠ 40 by decide), s2_i (show (42 : Nat) ≠ 40 by decide), s2_i (show (43 : Nat) ≠ 40 by decide), s2_rowN (show (6 : Nat) ≠ 0 by decide)]
  exact ⟨fun i hi => bit_one j hj i (by omega), h.2⟩
/-- one more deaf, or one less -/
theorem exR.turn {x y : Int32} (h : exR V s D) (hb : ∀ i, i < nJ D → bitI y (nI i) = (bitI x (nI i) != decide (D 6 i = 1))) : exR (up3 V s 0 9 y) s (s2 D 0 41 x) := by
  unfold exR at h ⊢
  rw [up3_a, nJ_0, s2_s, s2_s, s2_i (show (8 : Nat) ≠ 9 by decide), s2_i (show (10 : Nat) ≠ 9 by decide), s2_i (show (11 : Nat) ≠ 9 by decide), s2_i (show (40 : Nat) ≠ 41 by decide), s2_i (show (42 : Nat) ≠ 41 by decide), s2_i (show (43 : Nat) ≠ 41 by decide), s2_rowN (show (6 : Nat) ≠ 0 by decide)]
  exact ⟨h.1, hb, h.2.2⟩
theorem exR.mule {x y : Int32} (h : exR V s D) : exR (up3 (up3 V s 0 11 x) s 0 10 y) s (s2 (s2 D 0 43 x) 0 42 y) := by
  unfold exR at h ⊢
  rw [up3_a, up3_a, nJ_0, nJ_0, s2_s, s2_s, s2_i (show (8 : Nat) ≠ 10 by decide), s2_i (show (9 : Nat) ≠ 10 by decide), s2_i (show (11 : Nat) ≠ 10 by decide), s2_s, s2_i (show (8 : Nat) ≠ 11 by decide), s2_i (show (9 : Nat) ≠ 11 by decide), s2_i (show (40 : Nat) ≠ 42 by decide), s2_i (show (41 : Nat) ≠ 42 by decide), s2_i (show (43 : Nat) ≠ 42 by decide), s2_i (show (40 : Nat) ≠ 43 by decide), s2_i (show (41 : Nat) ≠ 43 by decide), s2_s, s2_rowN (show (6 : Nat) ≠ 0 by decide), s2_rowN (show (6 : Nat) ≠ 0 by decide)]
  exact ⟨h.1, h.2.1, rfl, rfl⟩
/-- a row of three -/
def put3 (σ : MS) (k n : Nat) (a b c : Int32) : MS := s2 (s2 (s2 σ k (3 * n) a) k (3 * n + 1) b) k (3 * n + 2) c
theorem put3_n {σ : MS} {k n q : Nat} {a b c : Int32} (h : q ≠ k) : put3 σ k n a b c q = σ q := by
  unfold put3
  rw [s2_rowN h, s2_rowN h, s2_rowN h]
theorem put3_0 {σ : MS} {k n : Nat} {a b c : Int32} : put3 σ k n a b c k (3 * n) = a := by
  unfold put3
  rw [s2_i (by omega), s2_i (by omega), s2_s]
theorem put3_1 {σ : MS} {k n : Nat} {a b c : Int32} : put3 σ k n a b c k (3 * n + 1) = b := by
  unfold put3
  rw [s2_i (by omega), s2_s]
theorem put3_2 {σ : MS} {k n : Nat} {a b c : Int32} : put3 σ k n a b c k (3 * n + 2) = c := s2_s
theorem put3_i {σ : MS} {k n i : Nat} {a b c : Int32} (h : i < 3 * n) : put3 σ k n a b c k i = σ k i := by
  unfold put3
  rw [s2_i (by omega), s2_i (by omega), s2_i (by omega)]
theorem put3_e {σ τ : MS} {j k n i : Nat} {a b c : Int32} (h : ∀ i, i < 3 * n → σ j i = τ k i) (hi : i < 3 * (n + 1)) : put3 σ j n a b c j i = put3 τ k n a b c k i := by
  by_cases h0 : i < 3 * n
  · rw [put3_i h0, put3_i h0]; exact h i h0
  · have : i = 3 * n ∨ i = 3 * n + 1 ∨ i = 3 * n + 2 := by omega
    rcases this with e | e | e <;> subst e
    · rw [put3_0, put3_0]
    · rw [put3_1, put3_1]
    · rw [put3_2, put3_2]
theorem up3_put {a k n : Nat} {x y z : Int32} : up3 (up3 (up3 V a k (3 * n) x) a k (3 * n + 1) y) a k (3 * n + 2) z a = put3 (V a) k n x y z := by
  rw [up3_a, up3_a, up3_a]
  rfl
/-- one more word -/
def wrd (D : MS) (x y z : Int32) : MS := s2 (put3 D 26 (tn (D 0 30)) x y z) 0 30 (D 0 30 + 1)
theorem wrd_k {x y z : Int32} {k : Nat} (h0 : k ≠ 0) (h1 : k ≠ 26) : wrd D x y z k = D k := by
  unfold wrd
  rw [s2_rowN h0, put3_n h1]
theorem wrd_0 {x y z : Int32} {j : Nat} (h : j ≠ 30) : wrd D x y z 0 j = D 0 j := by
  unfold wrd
  rw [s2_i h, put3_n (by decide)]
theorem wrd_30 {x y z : Int32} : wrd D x y z 0 30 = D 0 30 + 1 := s2_s
theorem wrd_26 {x y z : Int32} : wrd D x y z 26 = put3 D 26 (tn (D 0 30)) x y z 26 := s2_rowN (by decide)
theorem wrd_same (D : MS) (x y z : Int32) : sameT D (wrd D x y z) := ⟨fun k h1 h2 => wrd_k h1 h2, fun j h1 _ _ _ => wrd_0 h1⟩
theorem wrd_ag (D : MS) (x y z : Int32) : agL D (wrd D x y z) := agL.of (fun k hk => wrd_k (by omega) (by omega))
theorem stR.wrd {V1 V2 : w_V} {x y z : Int32} (h : stR T V s D) (hO : stOk D) (e1 : V1 s = put3 (V s) 2 (tn (D 0 30)) x y z) (e2 : V2 s = s2 (V1 s) 0 5 (V1 s 0 5 + 1)) : stR T V2 s (wrd D x y z) := by
  obtain ⟨h1, h2, h3, h4, h5, h6, h7, h8, h9⟩ := h
  obtain ⟨w1, w2⟩ := hO.2.1
  have ew : tn (D 0 30 + 1) = tn (D 0 30) + 1 := by
    rw [w1, nI_1, tn_nI (by omega), tn_nI (by omega)]
  unfold stR
  rw [(wrd_ag D x y z).nJ, wrd_0 (j := 29) (by decide), wrd_0 (j := 31) (by decide), wrd_0 (j := 32) (by decide), wrd_30, wrd_k (k := 7) (by decide) (by decide), wrd_k (k := 27) (by decide) (by decide), wrd_k (k := 28) (by decide) (by decide), wrd_26, ew]
  rw [e2, s2_i (show (4 : Nat) ≠ 5 by decide), s2_s, s2_i (show (6 : Nat) ≠ 5 by decide), s2_i (show (7 : Nat) ≠ 5 by decide), s2_rowN (show (1 : Nat) ≠ 0 by decide), s2_rowN (show (2 : Nat) ≠ 0 by decide), s2_rowN (show (3 : Nat) ≠ 0 by decide), s2_rowN (show (4 : Nat) ≠ 0 by decide)]
  rw [e1, put3_n (show (0 : Nat) ≠ 2 by decide), put3_n (show (1 : Nat) ≠ 2 by decide), put3_n (show (3 : Nat) ≠ 2 by decide), put3_n (show (4 : Nat) ≠ 2 by decide)]
  exact ⟨h1, h2, h3, by rw [h4], h5, h6, fun k hk => put3_e h7 hk, h8, h9⟩
theorem stOk.wrd {x : Int32} {a b : Nat} (h : stOk D) (hw : tn (D 0 30) ≤ 4) (ha : a < nT D) (hb : b ≤ 99) : stOk (wrd D x (nI a) (nI b)) := by
  obtain ⟨h1, ⟨w1, w2⟩, h3, h4, h5, h6⟩ := h
  have ew : tn (D 0 30 + 1) = tn (D 0 30) + 1 := by
    rw [w1, nI_1, tn_nI (by omega), tn_nI (by omega)]
  unfold stOk
  rw [(wrd_ag D x (nI a) (nI b)).nJ, (wrd_ag D x (nI a) (nI b)).nT, wrd_0 (j := 31) (by decide), wrd_0 (j := 32) (by decide), wrd_30, wrd_k (k := 7) (by decide) (by decide), wrd_k (k := 28) (by decide) (by decide), wrd_26, ew]
  refine ⟨h1, ⟨?_, by omega⟩, h3, h4, fun k hk => ?_, h6⟩
  · rw [← nI_1, ← w1]
  · by_cases e : k = tn (D 0 30)
    · subst e
      exact ⟨a, b, put3_1, ha, put3_2, hb⟩
    · rw [put3_i (by omega), put3_i (by omega)]
      exact h5 k (by omega)
/-- one more flood -/
def fld (D : MS) (x y z : Int32) : MS := s2 (put3 D 28 (tn (D 0 32)) x y z) 0 32 (D 0 32 + 1)
theorem fld_k {x y z : Int32} {k : Nat} (h0 : k ≠ 0) (h1 : k ≠ 28) : fld D x y z k = D k := by
  unfold fld
  rw [s2_rowN h0, put3_n h1]
theorem fld_0 {x y z : Int32} {j : Nat} (h : j ≠ 32) : fld D x y z 0 j = D 0 j := by
  unfold fld
  rw [s2_i h, put3_n (by decide)]
theorem fld_32 {x y z : Int32} : fld D x y z 0 32 = D 0 32 + 1 := s2_s
theorem fld_28 {x y z : Int32} : fld D x y z 28 = put3 D 28 (tn (D 0 32)) x y z 28 := s2_rowN (by decide)
theorem fld_ag (D : MS) (x y z : Int32) : agL D (fld D x y z) := agL.of (fun k hk => fld_k (by omega) (by omega))
theorem stR.fld {V1 V2 : w_V} {x y z : Int32} (h : stR T V s D) (hO : stOk D) (e1 : V1 s = put3 (V s) 4 (tn (D 0 32)) x y z) (e2 : V2 s = s2 (V1 s) 0 7 (V1 s 0 7 + 1)) : stR T V2 s (fld D x y z) := by
  obtain ⟨h1, h2, h3, h4, h5, h6, h7, h8, h9⟩ := h
  obtain ⟨w1, w2⟩ := hO.2.2.2.1
  have ew : tn (D 0 32 + 1) = tn (D 0 32) + 1 := by
    rw [w1, nI_1, tn_nI (by omega), tn_nI (by omega)]
  unfold stR
  rw [(fld_ag D x y z).nJ, fld_0 (j := 29) (by decide), fld_0 (j := 30) (by decide), fld_0 (j := 31) (by decide), fld_32, fld_k (k := 7) (by decide) (by decide), fld_k (k := 26) (by decide) (by decide), fld_k (k := 27) (by decide) (by decide), fld_28, ew]
  rw [e2, s2_i (show (4 : Nat) ≠ 7 by decide), s2_s, s2_i (show (5 : Nat) ≠ 7 by decide), s2_i (show (6 : Nat) ≠ 7 by decide), s2_rowN (show (1 : Nat) ≠ 0 by decide), s2_rowN (show (2 : Nat) ≠ 0 by decide), s2_rowN (show (3 : Nat) ≠ 0 by decide), s2_rowN (show (4 : Nat) ≠ 0 by decide)]
  rw [e1, put3_n (show (0 : Nat) ≠ 4 by decide), put3_n (show (1 : Nat) ≠ 4 by decide), put3_n (show (2 : Nat) ≠ 4 by decide), put3_n (show (3 : Nat) ≠ 4 by decide)]
  exact ⟨h1, h2, h3, h4, h5, by rw [h6], h7, h8, fun k hk => put3_e h9 hk⟩
theorem stOk.fld {y : Int32} {a w : Nat} (h : stOk D) (hw : tn (D 0 32) ≤ 5) (ha : a < nT D) (hb : w ≤ 20) : stOk (fld D (nI a) y (nI w)) := by
  obtain ⟨h1, h2, h3, ⟨w1, w2⟩, h5, h6⟩ := h
  have ew : tn (D 0 32 + 1) = tn (D 0 32) + 1 := by
    rw [w1, nI_1, tn_nI (by omega), tn_nI (by omega)]
  unfold stOk
  rw [(fld_ag D (nI a) y (nI w)).nJ, (fld_ag D (nI a) y (nI w)).nT, fld_0 (j := 30) (by decide), fld_0 (j := 31) (by decide), fld_32, fld_k (k := 7) (by decide) (by decide), fld_k (k := 26) (by decide) (by decide), fld_28, ew]
  refine ⟨h1, h2, h3, ⟨?_, by omega⟩, h5, fun k hk => ?_⟩
  · rw [← nI_1, ← w1]
  · by_cases e : k = tn (D 0 32)
    · subst e
      exact ⟨a, w, put3_0, ha, put3_2, hb⟩
    · rw [put3_i (by omega), put3_i (by omega)]
      exact h6 k (by omega)
end MD
