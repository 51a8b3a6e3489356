/-! PURE: undo, see, forget, fault -/
set_option maxRecDepth 100000
section AE
variable {ad : Nat → Nat} {T L : Nat → Nat} {V : w_V} {P : w_P} {t : Nat} {A : Nat → Nat} {sg : MS} {lw : (Nat → Int32) → Int32}
def unM (sg : MS) (a : Nat) (s9 : MS) : Prop := (∀ q, q ≠ 0 → q ≠ 7 → q ≠ 26 → q ≠ 27 → q ≠ 28 → s9 q = sg q) ∧ (∀ j, j ≠ 2 → j ≠ 29 → j ≠ 30 → j ≠ 31 → j ≠ 32 → j ≠ 33 → s9 0 j = sg 0 j) ∧ s9 0 33 = nI a ∧ ∀ i, i < 45 → pk s9 i = sg 29 (45 * a + i)
theorem qX_undo (h : cR ad T L V P t A sg lw) (hb : bxP T L P t A) {post : Int32 → w_V → Prop} (h0 : sg 0 33 = 0 → post (-1) V) (hp : ∀ a, sg 0 33 = nI (a + 1) → a < 40 → ∀ V9 : w_V, (∀ b, b ≠ A 0 → b ≠ A 2 → V9 b = V b) → (∀ s9, unM sg a s9 → cR ad T L V9 P t A s9 lw) → post (nI a) V9) : wX1_undo ad T L V P t post := by
  have hJ := h.1.1.2.1.2
  obtain ⟨c1, ⟨a, c2, c3, c4, c5⟩, c6, c7, c8⟩ := id h.2.2.1
  have t02 : A 0 ≠ A 2 := T_ne hb.2.1.1 (bx_st hb stI2) (by decide)
  unfold wX1_undo
  refine ⟨A 0, hb.1.2.2.1, hb.2.1.1, ?_⟩
  rw [c4]
  cases a with
  | zero => rw [if_pos (show nI 0 = 0 from rfl)]; exact h0 c2
  | succ a =>
    rw [if_neg (nI_ne0 (by omega) (by omega))]
    refine ⟨A 0, hb.1.2.2.1, hb.2.1.1, fun V1 e1 => ⟨A 2, hb.1.2.2.2.2.1, bx_st hb stI2, A 0, hb.1.2.2.1, hb.2.1.1, A 11, hb.2.1.2.2, hb.2.2.2.2.2.1.1, A 0, hb.1.2.2.1, hb.2.1.1, ?_⟩⟩
    have e1' : V1 (A 0) = s2 (V (A 0)) 0 6 (nI a) := by rw [e1, up3_a, c4, nI_pred]
    have f1 : ∀ b, b ≠ A 0 → V1 b = V b := fun b q => by rw [e1, up3_n q]
    rw [e1', s2_s]
    have hl : lstR T L V1 P (A 11) (A 12) 40 := ⟨hb.2.2.2.2.2.1.1, by rw [f1 _ (T_ne hb.2.2.2.2.2.1.1 hb.2.1.1 (by decide))]; exact c1, hb.2.2.2.2.2.1.2.1, hb.2.2.2.2.2.1.2.2.1, by rw [hb.2.2.2.2.2.1.2.2.2]; exact Nat.le_refl _, by rw [hb.2.2.2.2.2.1.2.2.2]; decide⟩
    refine sJ2_get hl (show a < 40 by omega) (by decide) (hb.2.2.2.2.2.2.2.2.1 a (by omega)).1 ⟨bx_st hb (stIa (by omega)), sX6_like (bx_ne hb (stIa (by omega)) stI2 (by omega)) (fun V9 g1 g2 => ⟨A 0, hb.1.2.2.1, hb.2.1.1, ?_⟩)⟩
    have e9 : V9 (A 0) = s2 (V (A 0)) 0 6 (nI a) := by rw [g1 _ t02]; exact e1'
    rw [e9, s2_s]
    refine hp a c2 (by omega) V9 (fun b q1 q2 => by rw [g1 b q2]; exact f1 b q1) (fun s9 hs => ?_)
    obtain ⟨m1, m2, m3, m4⟩ := hs
    obtain ⟨y1, y2⟩ := c5 a (by omega)
    have yc := y1.copy hJ y2 (show lkX V9 (A 2) (V (A (100 + a))) by rw [← f1 _ (T_ne (bx_st hb (stIa (k := a) (by omega))) hb.2.1.1 (by decide))]; exact g2)
    refine h.upd hb (fun b q1 q2 => by rw [g1 b q2]; exact f1 b q1) (fun q a b c d e _ _ _ _ _ => m1 q a b c d e) (fun j a b c d e f _ => m2 j a b c d e f) (yc.c hJ y2 (fun i hi => m4 i hi)) (y2.c hJ (fun i hi => m4 i hi)) ?_
    rw [m3, m2 34 (by decide) (by decide) (by decide) (by decide) (by decide) (by decide), m1 29 (by decide) (by decide) (by decide) (by decide) (by decide), m1 51 (by decide) (by decide) (by decide) (by decide) (by decide), m1 52 (by decide) (by decide) (by decide) (by decide) (by decide), m1 53 (by decide) (by decide) (by decide) (by decide) (by decide), m1 13 (by decide) (by decide) (by decide) (by decide) (by decide)]
    unfold bkR
    have o11 : V9 (A 11) = V (A 11) := by rw [g1 _ (T_ne hb.2.2.2.2.2.1.1 (bx_st hb stI2) (by decide))]; exact f1 _ (T_ne hb.2.2.2.2.2.1.1 hb.2.1.1 (by decide))
    rw [o11, e9, s2_s, s2_i (show (7 : Nat) ≠ 6 by decide), s2_rowN (show (3 : Nat) ≠ 0 by decide), s2_rowN (show (4 : Nat) ≠ 0 by decide), s2_rowN (show (5 : Nat) ≠ 0 by decide), s2_rowN (show (6 : Nat) ≠ 0 by decide)]
    refine ⟨c1, ⟨a, rfl, by omega, rfl, fun k hk => ?_⟩, c6, c7, c8⟩
    obtain ⟨z1, z2⟩ := c5 k (by omega)
    exact ⟨z1.e (by rw [g1 _ (bx_ne hb (stIa (by omega)) stI2 (by omega))]; exact f1 _ (T_ne (bx_st hb (stIa (by omega))) hb.2.1.1 (by decide))), z2⟩
theorem qM_undo (h : cR ad T L V P t A sg lw) {a : Nat} (ha : sg 0 33 = nI (a + 1)) (ha2 : a < 40) {post : Int32 → MS → Prop} (hp : ∀ s9, unM sg a s9 → post (nI a) s9) : wM_undo sg post := by
  unfold wM_undo
  rw [s2c0 (by decide), ha, if_neg (nI_ne0 (by omega) (by omega)), s2_s, nI_pred, ix45]
  refine sM_unpack (by omega) (by decide) (Or.inl rfl) (fun s9 u1 u2 u3 => ?_)
  have e33 : s9 0 33 = nI a := by rw [u2 33 (by decide) (by decide) (by decide) (by decide), s2_s]
  rw [e33]
  refine hp s9 ⟨fun q q0 a b c d => ?_, fun j j2 a b c d j33 => ?_, e33, fun i hi => ?_⟩
  · rw [u1 q q0 a b c d, s2_rowN q0, s2_rowN q0]
  · rw [u2 j a b c d, s2_i j33, s2_i j2]
  · rw [u3 i hi, s2_rowN (by decide), s2_rowN (by decide)]
theorem qM_undo0 (ha : sg 0 33 = 0) {post : Int32 → MS → Prop} (hp : post (-1) (s2 sg 0 2 0)) : wM_undo sg post := by
  unfold wM_undo
  rw [s2c0 (by decide), if_pos ha]
  exact hp
/-- forgetting -/
theorem qX_forget (h : cR ad T L V P t A sg lw) (hb : bxP T L P t A) {post : Int32 → w_V → Prop} (h0 : sg 0 34 = 0 → post (-1) V) (hp : ∀ s, sg 0 34 = nI (s + 1) → ∀ V9 : w_V, (∀ b, b ≠ A 0 → V9 b = V b) → cR ad T L V9 P t A (s2 sg 0 34 (nI s)) lw → post (nI s) V9) : wX1_forget ad T L V P t post := by
  obtain ⟨c1, ⟨a, a1, a2, a3, a4⟩, ⟨s, c2, c3, c4, c5⟩, c7, c8⟩ := id h.2.2.1
  unfold wX1_forget
  refine ⟨A 0, hb.1.2.2.1, hb.2.1.1, ?_⟩
  rw [c4]
  cases s with
  | zero => rw [if_pos (show nI 0 = 0 from rfl)]; exact h0 c2
  | succ s =>
    rw [if_neg (nI_ne0 (by omega) (by omega))]
    refine ⟨A 0, hb.1.2.2.1, hb.2.1.1, fun V9 e9 => ⟨A 0, hb.1.2.2.1, hb.2.1.1, ?_⟩⟩
    have e9' : V9 (A 0) = s2 (V (A 0)) 0 7 (nI s) := by rw [e9, up3_a, c4, nI_pred]
    have f9 : ∀ b, b ≠ A 0 → V9 b = V b := fun b q => by rw [e9, up3_n q]
    rw [e9', s2_s]
    refine hp s c2 V9 f9 (h.book hb f9 (fun q q0 _ _ _ _ => s2_rowN q0) (fun j _ _ j34 => s2_i j34) ?_)
    rw [s2_s, s2_i (show (33 : Nat) ≠ 34 by decide), s2_rowN (show (29 : Nat) ≠ 0 by decide), s2_rowN (show (51 : Nat) ≠ 0 by decide), s2_rowN (show (52 : Nat) ≠ 0 by decide), s2_rowN (show (53 : Nat) ≠ 0 by decide), s2_rowN (show (13 : Nat) ≠ 0 by decide)]
    unfold bkR
    rw [f9 _ (T_ne hb.2.2.2.2.2.1.1 hb.2.1.1 (by decide)), e9', s2_s, s2_i (show (6 : Nat) ≠ 7 by decide), s2_rowN (show (3 : Nat) ≠ 0 by decide), s2_rowN (show (4 : Nat) ≠ 0 by decide), s2_rowN (show (5 : Nat) ≠ 0 by decide), s2_rowN (show (6 : Nat) ≠ 0 by decide)]
    exact ⟨c1, ⟨a, a1, a2, a3, fun k hk => ⟨(a4 k hk).1.e (f9 _ (T_ne (bx_st hb (stIa (by omega))) hb.2.1.1 (by decide))), (a4 k hk).2⟩⟩, ⟨s, rfl, by omega, rfl, fun k hk => c5 k (by omega)⟩, c7, c8⟩
theorem qM_forget {s : Nat} (ha : sg 0 34 = nI (s + 1)) (hs : s < 100) {post : Int32 → MS → Prop} (hp : post (nI s) (s2 (s2 sg 0 2 0) 0 34 (nI s))) : wM_forget sg post := by
  unfold wM_forget
  rw [s2c0 (by decide), ha, if_neg (nI_ne0 (by omega) (by omega)), s2_s, nI_pred]
  exact hp
theorem qM_forget0 (ha : sg 0 34 = 0) {post : Int32 → MS → Prop} (hp : post (-1) (s2 sg 0 2 0)) : wM_forget sg post := by
  unfold wM_forget
  rw [s2c0 (by decide), if_pos ha]
  exact hp
def seeM (sg : MS) (n : Nat) (x y w : Int32) : MS := s2 (s2 (s2 (s2 sg 51 n x) 52 n y) 53 n w) 0 34 (nI (n + 1))
theorem qX_see (h : cR ad T L V P t A sg lw) (hb : bxP T L P t A) {x y w : Int32} (hw : w = 0 ∨ w = 1) {post : Int32 → w_V → Prop} {xp : String → w_V → w_P → Prop} (hp : ∀ c j n, c < nC sg → x = nI c → j < nJ sg → y = nI j → sg 0 34 = nI n → n < 8 → ∀ V9 : w_V, (∀ b, b ≠ A 0 → V9 b = V b) → cR ad T L V9 P t A (seeM sg n x y w) lw → post (nI (n + 1)) V9) (hr : ∀ c j, c < nC sg → x = nI c → j < nJ sg → y = nI j → sg 0 34 = 8 → post (-1) (up3 V (A 0) 5 2 (V (A 0) 5 2 + 1))) (h0 : notN x (nC sg) ∨ notN y (nJ sg) → xp cNSE V P) : wX1_see ad T L V P t x y w post xp := by
  obtain ⟨c1, ⟨a, a1, a2, a3, a4⟩, ⟨s, c2, c3, c4, c5⟩, c7, c8⟩ := id h.2.2.1
  unfold wX1_see
  refine sX_caseAt h hb (fun c hc e1 => sX_judgeAt h hb (fun j ja hj e2 _ => ?_) (fun q => h0 (Or.inr q))) (fun q => h0 (Or.inl q))
  refine ⟨A 0, hb.1.2.2.1, hb.2.1.1, ?_⟩
  rw [c4]
  by_cases s8 : s = 8
  · subst s8
    rw [if_pos (show nI 8 = 8 from rfl)]
    exact sX_refuses hb (i := 2) (by decide) (hr c j hc e1 hj e2 c2)
  rw [if_neg (show ¬ nI s = 8 from fun z => s8 ((nI_eq (by omega) (by decide)).mp (show nI s = nI 8 from z)))]
  have nw : vp_nar .boolean w = w := by rcases hw with e | e <;> subst e <;> rfl
  refine ⟨A 0, hb.1.2.2.1, hb.2.1.1, s, by omega, rfl, fun V1 u1 => ⟨A 0, hb.1.2.2.1, hb.2.1.1, s, by omega, rfl, fun V2 u2 => ⟨A 0, hb.1.2.2.1, hb.2.1.1, s, by omega, rfl, fun V3 u3 => ⟨A 0, hb.1.2.2.1, hb.2.1.1, fun V9 u9 => ⟨A 0, hb.1.2.2.1, hb.2.1.1, ?_⟩⟩⟩⟩⟩
  have f9 : ∀ b, b ≠ A 0 → V9 b = V b := fun b q => by rw [u9, up3_n q, u3, up3_n q, u2, up3_n q, u1, up3_n q]
  have e3 : V3 (A 0) = s2 (s2 (s2 (V (A 0)) 3 s x) 4 s y) 6 s w := by rw [u3, up3_a, u2, up3_a, u1, up3_a, nw]
  have e9 : V9 (A 0) = s2 (V3 (A 0)) 0 7 (nI (s + 1)) := by
    rw [u9, up3_a, e3, s2_rowN (show (0 : Nat) ≠ 6 by decide), s2_rowN (show (0 : Nat) ≠ 4 by decide), s2_rowN (show (0 : Nat) ≠ 3 by decide), c4, nI_1]
  rw [e9, s2_s]
  refine hp c j s hc e1 hj e2 c2 (by omega) V9 f9 (h.book hb f9 (fun q q0 _ q51 q52 q53 => by unfold seeM; rw [s2_rowN q0, s2_rowN q53, s2_rowN q52, s2_rowN q51]) (fun i _ _ i34 => by unfold seeM; rw [s2_i i34, s2_k (by decide), s2_k (by decide), s2_k (by decide)]) ?_)
  unfold seeM
  rw [s2_s, s2_i (show (33 : Nat) ≠ 34 by decide), s2_rowN (show (29 : Nat) ≠ 0 by decide), s2_rowN (show (51 : Nat) ≠ 0 by decide), s2_rowN (show (52 : Nat) ≠ 0 by decide), s2_rowN (show (53 : Nat) ≠ 0 by decide), s2_rowN (show (13 : Nat) ≠ 0 by decide)]
  rw [s2_k (show (0 : Nat) ≠ 53 by decide), s2_k (show (0 : Nat) ≠ 52 by decide), s2_k (show (0 : Nat) ≠ 51 by decide)]
  unfold bkR
  rw [f9 _ (T_ne hb.2.2.2.2.2.1.1 hb.2.1.1 (by decide)), e9, s2_s, s2_i (show (6 : Nat) ≠ 7 by decide), s2_rowN (show (3 : Nat) ≠ 0 by decide), s2_rowN (show (4 : Nat) ≠ 0 by decide), s2_rowN (show (5 : Nat) ≠ 0 by decide), s2_rowN (show (6 : Nat) ≠ 0 by decide), e3]
  refine ⟨c1, ⟨a, a1, a2, by rw [s2_k (by decide), s2_k (by decide), s2_k (by decide)]; exact a3, fun k hk => ?_⟩, ⟨s + 1, rfl, by omega, rfl, fun k hk => ?_⟩, fun k hk => ?_, fun k hk => ?_⟩
  · rw [s2_rowN (show (29 : Nat) ≠ 53 by decide), s2_rowN (show (29 : Nat) ≠ 52 by decide), s2_rowN (show (29 : Nat) ≠ 51 by decide)]
    exact ⟨(a4 k hk).1.e (f9 _ (T_ne (bx_st hb (stIa (by omega))) hb.2.1.1 (by decide))), (a4 k hk).2⟩
  · rw [s2_k (show (3 : Nat) ≠ 6 by decide), s2_k (show (3 : Nat) ≠ 4 by decide), s2_k (show (4 : Nat) ≠ 6 by decide), s2_k (show (51 : Nat) ≠ 53 by decide), s2_k (show (51 : Nat) ≠ 52 by decide), s2_k (show (52 : Nat) ≠ 53 by decide)]
    by_cases e : k = s
    · subst e
      rw [s2_s, s2_s, s2_s, s2_s, s2_s, s2_s]
      exact ⟨rfl, rfl, rfl, ⟨c, hc, e1⟩, j, hj, e2⟩
    · simp only [s2_i e]
      exact c5 k (by omega)
  · by_cases e : k = s
    · subst e; rw [s2_s]; exact hw
    · rw [s2_i e, s2_k (show (6 : Nat) ≠ 4 by decide), s2_k (show (6 : Nat) ≠ 3 by decide)]; exact c7 k hk
  · rw [s2_k (show (5 : Nat) ≠ 6 by decide), s2_k (show (5 : Nat) ≠ 4 by decide), s2_k (show (5 : Nat) ≠ 3 by decide), s2_k (show (13 : Nat) ≠ 53 by decide), s2_k (show (13 : Nat) ≠ 52 by decide), s2_k (show (13 : Nat) ≠ 51 by decide)]
    exact c8 k hk
theorem qM_see (h : cR ad T L V P t A sg lw) {c j n : Nat} (hc : c < nC sg) (hj : j < nJ sg) {w : Int32} (hw : w = 0 ∨ w = 1) (hn : sg 0 34 = nI n) (hn8 : n < 8) {post : Int32 → MS → Prop} (hp : post (nI (n + 1)) (seeM (s2 sg 0 2 0) n (nI c) (nI j) w)) : wM_see sg (nI c) (nI j) w post := by
  have hJ := h.1.1.2.1
  have hC := h.1.1.2.2.1
  unfold wM_see
  refine sM_isCase (s2c4 hC.1) (by omega) (fun _ _ _ => ?_) (fun q => absurd rfl (q c hc))
  rw [if_neg (by decide)]
  refine sM_isJudge (s2c4 hJ.1) (by omega) (fun _ _ _ => ?_) (fun q => absurd rfl (q j hj))
  rw [if_neg (by decide), s2c0 (by decide), hn, if_neg (show ¬ nI n = 8 from fun z => absurd ((nI_eq (by omega) (by decide)).mp (show nI n = nI 8 from z)) (by omega))]
  have e34 : s2 (s2 sg 0 2 0) 51 n (nI c) 0 34 = nI n := by rw [s2_k (by decide), s2c0 (by decide)]; exact hn
  have e34' : s2 (s2 (s2 sg 0 2 0) 51 n (nI c)) 52 n (nI j) 0 34 = nI n := by rw [s2_k (by decide)]; exact e34
  refine ⟨n, hn8, rfl, n, hn8, e34, ?_⟩
  have fin : ∀ v : Int32, v = w → jM_see_79 (s2 (s2 (s2 sg 0 2 0) 51 n (nI c)) 52 n (nI j)) v (s2 (s2 (s2 sg 0 2 0) 51 n (nI c)) 52 n (nI j) 0 34) post := by
    intro v hv
    subst hv
    unfold jM_see_79
    refine ⟨n, hn8, e34', ?_⟩
    rw [s2_s, s2_k (show (0 : Nat) ≠ 53 by decide), e34', nI_1]
    exact hp
  rcases hw with e | e
  · rw [if_pos e]; exact fin 0 e.symm
  · rw [if_neg (by rw [e]; decide)]; exact fin 1 e.symm
theorem qM_seeR (h : cR ad T L V P t A sg lw) {c j : Nat} (hc : c < nC sg) (hj : j < nJ sg) {w : Int32} (hn : sg 0 34 = 8) {post : Int32 → MS → Prop} (hp : post (-1) (s2 (s2 sg 0 2 0) 13 2 (s2 sg 0 2 0 13 2 + 1))) : wM_see sg (nI c) (nI j) w post := by
  have hJ := h.1.1.2.1
  have hC := h.1.1.2.2.1
  unfold wM_see
  refine sM_isCase (s2c4 hC.1) (by omega) (fun _ _ _ => ?_) (fun q => absurd rfl (q c hc))
  rw [if_neg (by decide)]
  refine sM_isJudge (s2c4 hJ.1) (by omega) (fun _ _ _ => ?_) (fun q => absurd rfl (q j hj))
  rw [if_neg (by decide), s2c0 (by decide), if_pos hn]
  exact sM_refuse (i := 2) (by decide) hp
theorem qM_see0 (h : cR ad T L V P t A sg lw) {x y w : Int32} (hx : notN x (nC sg) ∨ notN y (nJ sg)) {post : Int32 → MS → Prop} (hp : ∀ b s9, mfr sg s9 → s9 0 2 = 1 → post b s9) : wM_see sg x y w post := by
  have hJ := h.1.1.2.1
  have hC := h.1.1.2.2.1
  unfold wM_see jM_see_21
  refine sM_isCase (s2c4 hC.1) (by omega) (fun k q1 q2 => ?_) (fun q => by rw [if_pos rfl]; exact sM_fail hp)
  rw [if_neg (by decide)]
  refine sM_isJudge (s2c4 hJ.1) (by omega) (fun i z1 z2 => ?_) (fun q => by rw [if_pos rfl]; exact sM_fail hp)
  rcases hx with q | q
  · exact absurd q2 (q k q1)
  · exact absurd z2 (q i z1)
theorem qX_fault (h : cR ad T L V P t A sg lw) {post : Int32 → Prop} (hp : post (sg 0 23)) : wX1_fault ad T L V P t post := by
  unfold wX1_fault
  rw [h.2.2.2.2.2]
  exact hp
theorem qM_fault {post : Int32 → MS → Prop} (hp : post (sg 0 23) (s2 sg 0 2 0)) : wM_fault sg post := by
  unfold wM_fault
  rw [s2c0 (by decide)]
  exact hp
end AE
