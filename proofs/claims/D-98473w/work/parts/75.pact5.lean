/-! PURE: the acts word, feast, flood -/
set_option maxRecDepth 100000
section AD
variable {ad : Nat → Nat} {T L : Nat → Nat} {V : w_V} {P : w_P} {t : Nat} {A : Nat → Nat} {sg : MS} {lw : (Nat → Int32) → Int32}
def wordM (s : MS) (x y z : Int32) : MS := s2 (put3 s 26 (tn (s 0 30)) x y z) 0 30 (s 0 30 + 1)
def feastM (s : MS) (x y z : Int32) : MS := s2 (put3 s 27 (tn (s 0 31)) x y z) 0 31 (s 0 31 + 1)
def floodM (s : MS) (x y z : Int32) : MS := s2 (put3 s 28 (tn (s 0 32)) x y z) 0 32 (s 0 32 + 1)
theorem c4_of {x : Int32} (h : x = nI (tn x)) (h2 : tn x ≤ 4) (h3 : ¬ x = 4) : tn x ≤ 3 := by
  rcases Nat.lt_or_ge (tn x) 4 with q | q
  · omega
  · exfalso
    apply h3
    rw [h, show tn x = 4 by omega]
    rfl
theorem pk_f0 {s : MS} (es : pk s = pk sg) : s 0 30 = sg 0 30 ∧ s 0 31 = sg 0 31 ∧ s 0 32 = sg 0 32 := by
  have a := congrFun es 6
  have b := congrFun es 7
  have c := congrFun es 8
  rw [pk_6, pk_6] at a
  rw [pk_7, pk_7] at b
  rw [pk_8, pk_8] at c
  exact ⟨a, b, c⟩
theorem cnts (h : cR ad T L V P t A sg lw) : (sg 0 30 = nI (tn (sg 0 30)) ∧ tn (sg 0 30) ≤ 4) ∧ (sg 0 31 = nI (tn (sg 0 31)) ∧ tn (sg 0 31) ≤ 4) ∧ (sg 0 32 = nI (tn (sg 0 32)) ∧ tn (sg 0 32) ≤ 4) := by
  obtain ⟨-, h2, h3, h4, -⟩ := h.2.1.2
  rw [pk_6] at h2
  rw [pk_7] at h3
  rw [pk_8] at h4
  exact ⟨h2, h3, h4⟩
theorem qX_word (h : cR ad T L V P t A sg lw) (hb : bxP T L P t A) {x y w : Int32} {post : Int32 → w_V → w_P → Prop} {xp : String → w_V → w_P → Prop} (hp : ∀ c k d, c < nC sg → x = nI c → k < nT sg → y = nI k → d ≤ 99 → w = nI d → ¬ sg 0 30 = 4 → ∀ V9 P9 A', bxP T L P9 t A' → (∀ n, n < 100 → A' n = A n) → aF T V V9 P P9 A → (∀ s9 a, sg 0 33 = nI a → a ≤ 40 → kpM sg s9 a → cR ad T L V9 P9 t A' (wordM s9 x y w) lw) → post (sg 0 30 + 1) V9 P9) (hr : ∀ c k, c < nC sg → x = nI c → k < nT sg → y = nI k → (sg 0 30 = 4 ∨ w < 0 ∨ 99 < w) → post (-1) (up3 V (A 0) 5 1 (V (A 0) 5 1 + 1)) P) (h0 : notN x (nC sg) ∨ notN y (nT sg) → xp cNSE V P) : wX1_word ad T L V P t x y w post xp := by
  have hT := h.1.1.1
  have ec := (cnts h).1
  unfold wX1_word jX1_word_31
  refine sX_caseAt h hb (fun c hc e1 => sX_townAt h hb (fun k hk e2 => ?_) (fun q => h0 (Or.inr q))) (fun q => h0 (Or.inl q))
  refine ⟨A 2, hb.1.2.2.2.2.1, bx_st hb stI2, ?_⟩
  have en : V (A 2) 0 5 = sg 0 30 := by rw [h.2.1.1.2.2.1, pk_6]
  rw [en]
  by_cases c4 : sg 0 30 = 4
  · rw [if_pos c4]
    exact sX_refuses hb (i := 1) (by decide) (hr c k hc e1 hk e2 (Or.inl c4))
  rw [if_neg c4]
  refine sX_within (fun q1 q2 => ?_) (fun q => ?_)
  · rw [if_neg (by decide)]
    obtain ⟨d, hd, ed⟩ := le_of2 (n := 99) (by decide) q1 q2
    refine ⟨A 0, hb.1.2.2.1, hb.2.1.1, sX_keeps h hb (fun V1 P9 A' g1 g2 g3 g4 g5 g6 => ?_)⟩
    have e3 : P9 t 3 = some (A 2) := by rw [g1.1.2.2.2.2.1, g2 2 (by decide)]
    refine ⟨A 2, e3, bx_st hb stI2, ?_⟩
    unfold wX6_sends wX6_puts
    have e5 : V1 (A 2) 0 5 = nI (tn (sg 0 30)) := by rw [g5, en]; exact ec.1
    rw [e5]
    refine ⟨3 * tn (sg 0 30), by omega, ix3 _, fun U1 u1 => ⟨3 * tn (sg 0 30) + 1, by omega, ix31 _, fun U2 u2 => ⟨3 * tn (sg 0 30) + 2, by omega, ix32 _, fun U3 u3 U4 u4 => ⟨A 2, e3, bx_st hb stI2, ?_⟩⟩⟩⟩
    have ep : U3 (A 2) = put3 (V1 (A 2)) 2 (tn (sg 0 30)) x y w := by rw [u3, u2, u1, up3_put]
    have e44 : U4 (A 2) = s2 (U3 (A 2)) 0 5 (U3 (A 2) 0 5 + 1) := by rw [u4, up3_a]
    have fr : ∀ b, b ≠ A 2 → U4 b = V1 b := fun b hb => by rw [u4, up3_n hb, u3, up3_n hb, u2, up3_n hb, u1, up3_n hb]
    have er : U4 (A 2) 0 5 = sg 0 30 + 1 := by rw [e44, s2_s, ep, put3_n (by decide), g5, en]
    rw [er]
    refine hp c k d hc e1 hk e2 hd ed c4 U4 P9 A' g1 g2 ⟨fun b q1 q2 q3 => by rw [fr b (fun e => q1 (by rw [e]; exact bx_st hb stI2))]; exact g3 b q1 q2 q3, g4⟩ ?_
    refine act_of h hb g1 g2 g5 g6 (f := fun s => wordM s x y w) fr (fun s q q0 _ q26 _ _ => by unfold wordM; rw [s2_rowN q0, put3_n q26]) (fun s i _ _ q30 _ _ => by unfold wordM; rw [s2_i q30, put3_n (by decide)]) (fun s es r1 r2 => ?_)
    have e30 := (pk_f0 es).1
    unfold wordM
    refine ⟨r1.word (V1 := U3) r2 (by rw [e30]; exact ep) e44, ?_⟩
    rw [e2, ed]
    exact r2.word (by rw [e30]; exact c4_of ec.1 ec.2 c4) hk hd
  · rw [if_pos rfl]
    exact sX_refuses hb (i := 1) (by decide) (hr c k hc e1 hk e2 (Or.inr q))
theorem sM_put {s : MS} {a n1 n : Nat} (hn : 3 * n + 2 < n1) (hn2 : n ≤ 100) {x y w : Int32} {post : MS → Prop} (hp : post (put3 s (a + 1) n x y w)) : wM_putRow s a n1 (nI n) x y w post := by
  unfold wM_putRow
  exact ⟨3 * n, by omega, ix3 n, 3 * n + 1, by omega, ix31 n, 3 * n + 2, hn, ix32 n, hp⟩
theorem qM_word (h : cR ad T L V P t A sg lw) {c k d : Nat} (hc : c < nC sg) (hk : k < nT sg) (hd : d ≤ 99) (h4 : ¬ sg 0 30 = 4) {post : Int32 → MS → Prop} (hp : ∀ s9 a, sg 0 33 = nI a → a ≤ 40 → kpM (s2 sg 0 2 0) s9 a → post (sg 0 30 + 1) (wordM s9 (nI c) (nI k) (nI d))) : wM_word sg (nI c) (nI k) (nI d) post := by
  have hT := h.1.1.1
  have hC := h.1.1.2.2.1
  have ec := (cnts h).1
  obtain ⟨a, a1, a2⟩ := kp_33 h
  unfold wM_word
  refine sM_isCase (s2c4 hC.1) (by omega) (fun _ _ _ => ?_) (fun q => absurd rfl (q c hc))
  rw [if_neg (by decide)]
  refine sM_isTown (s2c4 hT.1) (by omega) (fun _ _ _ => ?_) (fun q => absurd rfl (q k hk))
  rw [if_neg (by decide), s2c0 (by decide), if_neg h4]
  refine sM_isIn (a := 0) (b := 99) (by decide) (by decide) (fun _ _ => ?_) (fun q => absurd q (fun z => z.elim (nI_pos (by omega)) (nI_nlt (a := 99) hd (by decide))))
  rw [if_neg (by decide)]
  refine sM_keep (by rw [s2c0 (by decide)]; exact a1) a2 (fun s9 hk => ?_)
  have e30 : s9 0 30 = sg 0 30 := by rw [hk.2.1 30 (by decide), s2c0 (by decide)]
  have hp' := hp s9 a a1 a2 hk
  unfold wordM at hp'
  rw [e30] at hp' ⊢
  rw [ec.1]
  refine sM_put (by omega) (by omega) ?_
  rw [s2_s, put3_n (by decide), e30]
  exact hp'
theorem qM_wordR (h : cR ad T L V P t A sg lw) {c k : Nat} (hc : c < nC sg) (hk : k < nT sg) {w : Int32} (hw : sg 0 30 = 4 ∨ w < 0 ∨ 99 < w) {post : Int32 → MS → Prop} (hp : post (-1) (s2 (s2 sg 0 2 0) 13 1 (s2 sg 0 2 0 13 1 + 1))) : wM_word sg (nI c) (nI k) w post := by
  have hT := h.1.1.1
  have hC := h.1.1.2.2.1
  unfold wM_word jM_word_47
  refine sM_isCase (s2c4 hC.1) (by omega) (fun _ _ _ => ?_) (fun q => absurd rfl (q c hc))
  rw [if_neg (by decide)]
  refine sM_isTown (s2c4 hT.1) (by omega) (fun _ _ _ => ?_) (fun q => absurd rfl (q k hk))
  rw [if_neg (by decide), s2c0 (by decide)]
  by_cases h4 : sg 0 30 = 4
  · rw [if_pos h4]; exact sM_refuse (i := 1) (by decide) hp
  rw [if_neg h4]
  refine sM_isIn (a := 0) (b := 99) (by decide) (by decide) (fun q1 q2 => absurd (hw.resolve_left h4) (fun z => z.elim q1 q2)) (fun _ => ?_)
  rw [if_pos rfl]; exact sM_refuse (i := 1) (by decide) hp
theorem qM_word0 (h : cR ad T L V P t A sg lw) {x y w : Int32} (hx : notN x (nC sg) ∨ notN y (nT sg)) {post : Int32 → MS → Prop} (hp : ∀ b s9, mfr sg s9 → s9 0 2 = 1 → post b s9) : wM_word sg x y w post := by
  have hT := h.1.1.1
  have hC := h.1.1.2.2.1
  unfold wM_word jM_word_21
  refine sM_isCase (s2c4 hC.1) (by omega) (fun k q1 q2 => ?_) (fun q => by rw [if_pos rfl]; exact sM_fail hp)
  rw [if_neg (by decide)]
  refine sM_isTown (s2c4 hT.1) (by omega) (fun i z1 z2 => ?_) (fun q => by rw [if_pos rfl]; exact sM_fail hp)
  rcases hx with q | q
  · exact absurd q2 (q k q1)
  · exact absurd z2 (q i z1)
def badF (sg : MS) (y w : Int32) : Prop := sg 0 31 = 4 ∨ y < 0 ∨ 99 < w ∨ w < y
theorem qX_feast (h : cR ad T L V P t A sg lw) (hb : bxP T L P t A) {x y w : Int32} {post : Int32 → w_V → w_P → Prop} {xp : String → w_V → w_P → Prop} (hp : ∀ k, k < nT sg → x = nI k → ¬ badF sg y w → ∀ V9 P9 A', bxP T L P9 t A' → (∀ n, n < 100 → A' n = A n) → aF T V V9 P P9 A → (∀ s9 a, sg 0 33 = nI a → a ≤ 40 → kpM sg s9 a → cR ad T L V9 P9 t A' (feastM s9 x y w) lw) → post (sg 0 31 + 1) V9 P9) (hr : ∀ k, k < nT sg → x = nI k → badF sg y w → post (-1) (up3 V (A 0) 5 1 (V (A 0) 5 1 + 1)) P) (h0 : notN x (nT sg) → xp cNSE V P) : wX1_feast ad T L V P t x y w post xp := by
  have hT := h.1.1.1
  have ec := (cnts h).2.1
  unfold wX1_feast jX1_feast_31
  refine sX_townAt h hb (fun k hk e2 => ?_) h0
  refine ⟨A 2, hb.1.2.2.2.2.1, bx_st hb stI2, ?_⟩
  have en : V (A 2) 0 6 = sg 0 31 := by rw [h.2.1.1.2.2.2.1, pk_7]
  rw [en]
  have bad : badF sg y w → wX1_refuses ad T L V P t 1 (fun (r8 : Int32) (V9 : w_V) => (post r8 V9 P)) := fun q => sX_refuses hb (i := 1) (by decide) (hr k hk e2 q)
  by_cases c4 : sg 0 31 = 4
  · rw [if_pos c4]; exact bad (Or.inl c4)
  rw [if_neg c4]
  by_cases c5 : y < 0
  · rw [if_pos c5]; exact bad (Or.inr (Or.inl c5))
  rw [if_neg c5]
  by_cases c6 : 99 < w
  · rw [if_pos c6]; exact bad (Or.inr (Or.inr (Or.inl c6)))
  rw [if_neg c6]
  by_cases c7 : y ≤ w
  · rw [if_pos c7]
    refine ⟨A 0, hb.1.2.2.1, hb.2.1.1, sX_keeps h hb (fun V1 P9 A' g1 g2 g3 g4 g5 g6 => ?_)⟩
    have e3 : P9 t 3 = some (A 2) := by rw [g1.1.2.2.2.2.1, g2 2 (by decide)]
    refine ⟨A 2, e3, bx_st hb stI2, ?_⟩
    unfold wX6_feasts wX6_puts
    have e5 : V1 (A 2) 0 6 = nI (tn (sg 0 31)) := by rw [g5, en]; exact ec.1
    have e3' := c4_of ec.1 ec.2 c4
    rw [e5]
    refine ⟨3 * tn (sg 0 31), by omega, ix3 _, fun U1 u1 => ⟨3 * tn (sg 0 31) + 1, by omega, ix31 _, fun U2 u2 => ⟨3 * tn (sg 0 31) + 2, by omega, ix32 _, fun U3 u3 U4 u4 => ⟨A 2, e3, bx_st hb stI2, ?_⟩⟩⟩⟩
    have ep : U3 (A 2) = put3 (V1 (A 2)) 3 (tn (sg 0 31)) x y w := by rw [u3, u2, u1, up3_put]
    have e44 : U4 (A 2) = s2 (U3 (A 2)) 0 6 (U3 (A 2) 0 6 + 1) := by rw [u4, up3_a]
    have fr : ∀ b, b ≠ A 2 → U4 b = V1 b := fun b hb => by rw [u4, up3_n hb, u3, up3_n hb, u2, up3_n hb, u1, up3_n hb]
    have er : U4 (A 2) 0 6 = sg 0 31 + 1 := by rw [e44, s2_s, ep, put3_n (by decide), g5, en]
    rw [er]
    refine hp k hk e2 (fun z => ?_) U4 P9 A' g1 g2 ⟨fun b q1 q2 q3 => by rw [fr b (fun e => q1 (by rw [e]; exact bx_st hb stI2))]; exact g3 b q1 q2 q3, g4⟩ ?_
    · rcases z with z | z | z | z
      · exact c4 z
      · exact c5 z
      · exact c6 z
      · exact absurd z (Int32.not_lt.mpr c7)
    refine act_of h hb g1 g2 g5 g6 (f := fun s => feastM s x y w) fr (fun s q q0 _ _ q27 _ => by unfold feastM; rw [s2_rowN q0, put3_n q27]) (fun s i _ _ _ q31 _ => by unfold feastM; rw [s2_i q31, put3_n (by decide)]) (fun s es r1 r2 => ?_)
    have e31 := (pk_f0 es).2.1
    unfold feastM
    exact ⟨r1.feast (V1 := U3) r2 (by rw [e31]; exact ep) e44, r2.feast (by rw [e31]; exact e3')⟩
  · rw [if_neg c7]; exact bad (Or.inr (Or.inr (Or.inr (Int32.not_le.mp c7))))
theorem badF_M {y w : Int32} (hn : ¬ sg 0 31 = 4) : ¬ badF sg y w ↔ ((¬ y < 0 ∧ ¬ 99 < y) ∧ ¬ w < y ∧ ¬ 99 < w) := by
  unfold badF
  constructor
  · intro h
    have h1 : ¬ y < 0 := fun z => h (Or.inr (Or.inl z))
    have h2 : ¬ 99 < w := fun z => h (Or.inr (Or.inr (Or.inl z)))
    have h3 : ¬ w < y := fun z => h (Or.inr (Or.inr (Or.inr z)))
    exact ⟨⟨h1, fun z => h2 (Int32.lt_of_lt_of_le z (Int32.not_lt.mp h3))⟩, h3, h2⟩
  · rintro ⟨⟨h1, h2⟩, h3, h4⟩ (z | z | z | z)
    · exact hn z
    · exact h1 z
    · exact h4 z
    · exact h3 z
theorem qM_feast (h : cR ad T L V P t A sg lw) {k : Nat} (hk : k < nT sg) {y w : Int32} (hg : ¬ badF sg y w) {post : Int32 → MS → Prop} (hp : ∀ s9 a, sg 0 33 = nI a → a ≤ 40 → kpM (s2 sg 0 2 0) s9 a → post (sg 0 31 + 1) (feastM s9 (nI k) y w)) : wM_feast sg (nI k) y w post := by
  have hT := h.1.1.1
  have ec := (cnts h).2.1
  obtain ⟨a, a1, a2⟩ := kp_33 h
  have h4 : ¬ sg 0 31 = 4 := fun z => hg (Or.inl z)
  obtain ⟨⟨b1, b2'⟩, b3, b4⟩ := (badF_M h4).mp hg
  unfold wM_feast
  refine sM_isTown (s2c4 hT.1) (by omega) (fun _ _ _ => ?_) (fun q => absurd rfl (q k hk))
  rw [if_neg (by decide), s2c0 (by decide), if_neg h4]
  refine sM_isIn (a := 0) (b := 99) (by decide) (by decide) (fun _ _ => ?_) (fun q => absurd q (fun z => z.elim b1 b2'))
  rw [if_neg (by decide)]
  refine sM_isIn (a := y) (b := 99) rfl (by decide) (fun _ _ => ?_) (fun q => absurd q (fun z => z.elim b3 b4))
  rw [if_neg (by decide)]
  have e3' := c4_of ec.1 ec.2 h4
  refine sM_keep (by rw [s2c0 (by decide)]; exact a1) a2 (fun s9 hk => ?_)
  have e31 : s9 0 31 = sg 0 31 := by rw [hk.2.1 31 (by decide), s2c0 (by decide)]
  have hp' := hp s9 a a1 a2 hk
  unfold feastM at hp'
  rw [e31] at hp' ⊢
  rw [ec.1]
  refine sM_put (by omega) (by omega) ?_
  rw [s2_s, put3_n (by decide), e31]
  exact hp'
theorem qM_feastR (h : cR ad T L V P t A sg lw) {k : Nat} (hk : k < nT sg) {y w : Int32} (hg : badF sg y w) {post : Int32 → MS → Prop} (hp : post (-1) (s2 (s2 sg 0 2 0) 13 1 (s2 sg 0 2 0 13 1 + 1))) : wM_feast sg (nI k) y w post := by
  have hT := h.1.1.1
  unfold wM_feast jM_feast_52
  refine sM_isTown (s2c4 hT.1) (by omega) (fun _ _ _ => ?_) (fun q => absurd rfl (q k hk))
  rw [if_neg (by decide), s2c0 (by decide)]
  by_cases h4 : sg 0 31 = 4
  · rw [if_pos h4]; exact sM_refuse (i := 1) (by decide) hp
  rw [if_neg h4]
  refine sM_isIn (a := 0) (b := 99) (by decide) (by decide) (fun q1 q2 => ?_) (fun _ => by rw [if_pos rfl]; exact sM_refuse (i := 1) (by decide) hp)
  rw [if_neg (by decide)]
  refine sM_isIn (a := y) (b := 99) rfl (by decide) (fun q3 q4 => absurd hg ((badF_M h4).mpr ⟨⟨q1, q2⟩, q3, q4⟩)) (fun _ => by rw [if_pos rfl]; exact sM_refuse (i := 1) (by decide) hp)
theorem qM_feast0 (h : cR ad T L V P t A sg lw) {x y w : Int32} (hx : notN x (nT sg)) {post : Int32 → MS → Prop} (hp : ∀ b s9, mfr sg s9 → s9 0 2 = 1 → post b s9) : wM_feast sg x y w post := by
  have hT := h.1.1.1
  unfold wM_feast
  exact sM_isTown (s2c4 hT.1) (by omega) (fun k q1 q2 => absurd q2 (hx k q1)) (fun q => by rw [if_pos rfl]; exact sM_fail hp)
def badL (sg : MS) (y w : Int32) : Prop := sg 0 32 = 4 ∨ (y < 0 ∨ 99 < y) ∨ (w < 0 ∨ 20 < w)
theorem qX_flood (h : cR ad T L V P t A sg lw) (hb : bxP T L P t A) {x y w : Int32} {post : Int32 → w_V → w_P → Prop} {xp : String → w_V → w_P → Prop} (hp : ∀ k, k < nT sg → x = nI k → ¬ badL sg y w → ∀ V9 P9 A', bxP T L P9 t A' → (∀ n, n < 100 → A' n = A n) → aF T V V9 P P9 A → (∀ s9 a, sg 0 33 = nI a → a ≤ 40 → kpM sg s9 a → cR ad T L V9 P9 t A' (floodM s9 x y w) lw) → post (sg 0 32 + 1) V9 P9) (hr : ∀ k, k < nT sg → x = nI k → badL sg y w → post (-1) (up3 V (A 0) 5 1 (V (A 0) 5 1 + 1)) P) (h0 : notN x (nT sg) → xp cNSE V P) : wX1_flood ad T L V P t x y w post xp := by
  have hT := h.1.1.1
  have ec := (cnts h).2.2
  unfold wX1_flood jX1_flood_36
  refine sX_townAt h hb (fun k hk e2 => ?_) h0
  refine ⟨A 2, hb.1.2.2.2.2.1, bx_st hb stI2, ?_⟩
  have en : V (A 2) 0 7 = sg 0 32 := by rw [h.2.1.1.2.2.2.2.1, pk_8]
  rw [en]
  have bad : badL sg y w → wX1_refuses ad T L V P t 1 (fun (r8 : Int32) (V9 : w_V) => (post r8 V9 P)) := fun q => sX_refuses hb (i := 1) (by decide) (hr k hk e2 q)
  by_cases c4 : sg 0 32 = 4
  · rw [if_pos c4]; exact bad (Or.inl c4)
  rw [if_neg c4]
  refine sX_within (fun q1 q2 => ?_) (fun q => by rw [if_pos rfl]; exact bad (Or.inr (Or.inl q)))
  rw [if_neg (by decide)]
  refine sX_within (fun q3 q4 => ?_) (fun q => by rw [if_pos rfl]; exact bad (Or.inr (Or.inr q)))
  rw [if_neg (by decide)]
  obtain ⟨d, hd, ed⟩ := le_of2 (n := 20) (by decide) q3 q4
  refine ⟨A 0, hb.1.2.2.1, hb.2.1.1, sX_keeps h hb (fun V1 P9 A' g1 g2 g3 g4 g5 g6 => ?_)⟩
  have e3 : P9 t 3 = some (A 2) := by rw [g1.1.2.2.2.2.1, g2 2 (by decide)]
  refine ⟨A 2, e3, bx_st hb stI2, ?_⟩
  unfold wX6_floods wX6_puts
  have e5 : V1 (A 2) 0 7 = nI (tn (sg 0 32)) := by rw [g5, en]; exact ec.1
  rw [e5]
  refine ⟨3 * tn (sg 0 32), by omega, ix3 _, fun U1 u1 => ⟨3 * tn (sg 0 32) + 1, by omega, ix31 _, fun U2 u2 => ⟨3 * tn (sg 0 32) + 2, by omega, ix32 _, fun U3 u3 U4 u4 => ⟨A 2, e3, bx_st hb stI2, ?_⟩⟩⟩⟩
  have ep : U3 (A 2) = put3 (V1 (A 2)) 4 (tn (sg 0 32)) x y w := by rw [u3, u2, u1, up3_put]
  have e44 : U4 (A 2) = s2 (U3 (A 2)) 0 7 (U3 (A 2) 0 7 + 1) := by rw [u4, up3_a]
  have fr : ∀ b, b ≠ A 2 → U4 b = V1 b := fun b hb => by rw [u4, up3_n hb, u3, up3_n hb, u2, up3_n hb, u1, up3_n hb]
  have er : U4 (A 2) 0 7 = sg 0 32 + 1 := by rw [e44, s2_s, ep, put3_n (by decide), g5, en]
  rw [er]
  refine hp k hk e2 (fun z => ?_) U4 P9 A' g1 g2 ⟨fun b q1 q2 q3 => by rw [fr b (fun e => q1 (by rw [e]; exact bx_st hb stI2))]; exact g3 b q1 q2 q3, g4⟩ ?_
  · rcases z with z | z | z
    · exact c4 z
    · exact z.elim q1 q2
    · exact z.elim q3 q4
  refine act_of h hb g1 g2 g5 g6 (f := fun s => floodM s x y w) fr (fun s q q0 _ _ _ q28 => by unfold floodM; rw [s2_rowN q0, put3_n q28]) (fun s i _ _ _ _ q32 => by unfold floodM; rw [s2_i q32, put3_n (by decide)]) (fun s es r1 r2 => ?_)
  have e32 := (pk_f0 es).2.2
  unfold floodM
  refine ⟨r1.flood (V1 := U3) r2 (by rw [e32]; exact ep) e44, ?_⟩
  rw [e2, ed]
  exact r2.flood (by rw [e32]; exact c4_of ec.1 ec.2 c4) hk hd
theorem qM_flood (h : cR ad T L V P t A sg lw) {k : Nat} (hk : k < nT sg) {y w : Int32} (hg : ¬ badL sg y w) {post : Int32 → MS → Prop} (hp : ∀ s9 a, sg 0 33 = nI a → a ≤ 40 → kpM (s2 sg 0 2 0) s9 a → post (sg 0 32 + 1) (floodM s9 (nI k) y w)) : wM_flood sg (nI k) y w post := by
  have hT := h.1.1.1
  have ec := (cnts h).2.2
  obtain ⟨a, a1, a2⟩ := kp_33 h
  have h4 : ¬ sg 0 32 = 4 := fun z => hg (Or.inl z)
  unfold wM_flood
  refine sM_isTown (s2c4 hT.1) (by omega) (fun _ _ _ => ?_) (fun q => absurd rfl (q k hk))
  rw [if_neg (by decide), s2c0 (by decide), if_neg h4]
  refine sM_isIn (a := 0) (b := 99) (by decide) (by decide) (fun _ _ => ?_) (fun q => absurd (Or.inr (Or.inl q)) hg)
  rw [if_neg (by decide)]
  refine sM_isIn (a := 0) (b := 20) (by decide) (by decide) (fun _ _ => ?_) (fun q => absurd (Or.inr (Or.inr q)) hg)
  rw [if_neg (by decide)]
  refine sM_keep (by rw [s2c0 (by decide)]; exact a1) a2 (fun s9 hk => ?_)
  have e32 : s9 0 32 = sg 0 32 := by rw [hk.2.1 32 (by decide), s2c0 (by decide)]
  have hp' := hp s9 a a1 a2 hk
  unfold floodM at hp'
  rw [e32] at hp' ⊢
  rw [ec.1]
  refine sM_put (by omega) (by omega) ?_
  rw [s2_s, put3_n (by decide), e32]
  exact hp'
theorem qM_floodR (h : cR ad T L V P t A sg lw) {k : Nat} (hk : k < nT sg) {y w : Int32} (hg : badL sg y w) {post : Int32 → MS → Prop} (hp : post (-1) (s2 (s2 sg 0 2 0) 13 1 (s2 sg 0 2 0 13 1 + 1))) : wM_flood sg (nI k) y w post := by
  have hT := h.1.1.1
  unfold wM_flood jM_flood_51
  refine sM_isTown (s2c4 hT.1) (by omega) (fun _ _ _ => ?_) (fun q => absurd rfl (q k hk))
  rw [if_neg (by decide), s2c0 (by decide)]
  by_cases h4 : sg 0 32 = 4
  · rw [if_pos h4]; exact sM_refuse (i := 1) (by decide) hp
  rw [if_neg h4]
  refine sM_isIn (a := 0) (b := 99) (by decide) (by decide) (fun q1 q2 => ?_) (fun _ => by rw [if_pos rfl]; exact sM_refuse (i := 1) (by decide) hp)
  rw [if_neg (by decide)]
  refine sM_isIn (a := 0) (b := 20) (by decide) (by decide) (fun q3 q4 => absurd hg (fun z => ?_)) (fun _ => by rw [if_pos rfl]; exact sM_refuse (i := 1) (by decide) hp)
  rcases z with z | z | z
  · exact h4 z
  · exact z.elim q1 q2
  · exact z.elim q3 q4
theorem qM_flood0 (h : cR ad T L V P t A sg lw) {x y w : Int32} (hx : notN x (nT sg)) {post : Int32 → MS → Prop} (hp : ∀ b s9, mfr sg s9 → s9 0 2 = 1 → post b s9) : wM_flood sg x y w post := by
  have hT := h.1.1.1
  unfold wM_flood
  exact sM_isTown (s2c4 hT.1) (by omega) (fun k q1 q2 => absurd q2 (hx k q1)) (fun q => by rw [if_pos rfl]; exact sM_fail hp)
end AD
