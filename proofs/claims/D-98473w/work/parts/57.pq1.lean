/-! PURE: questions of the class and of the model (printed by gen/q57.py) -/
set_option maxRecDepth 100000
def rCount (sg : MS) (lw : (Nat → Int32) → Int32) (x : Int32) : Int32 := if x = 0 then sg 4 0 else if x = 1 then sg 4 2 else if x = 2 then sg 4 3 else if x = 3 then sg 4 4 else if x = 4 then sg 4 5 else if x = 5 then sg 0 29 else if x = 6 then sg 0 30 else if x = 7 then sg 0 31 else if x = 8 then sg 0 32 else if x = 9 then pN (gh sg) (pTell (gh sg) lw) else if x = 10 then sg 0 33 else if x = 11 then sg 0 34 else if x = 12 then sg 0 14 else if x = 13 then sg 13 0 else if x = 14 then sg 13 1 else sg 13 2
section Q1
variable {ad : Nat → Nat} {T L : Nat → Nat} {V : w_V} {P : w_P} {t : Nat} {A : Nat → Nat} {sg : MS} {lw : (Nat → Int32) → Int32}
theorem qX_count (h : cR ad T L V P t A sg lw) (hb : bxP T L P t A) {x : Int32} {post : Int32 → w_V → Prop} {xp : String → w_V → w_P → Prop} (h0 : x < 0 ∨ 15 < x → xp cNSE V P) (hp : ¬ x < 0 → ¬ 15 < x → ∀ V9 : w_V, cfr V V9 t A → post (rCount sg lw x) V9) : wX1_count ad T L V P t x post xp := by
  unfold wX1_count
  refine sX_within (fun q1 q2 => sX_there1 ?_) (fun q => sX_there0 (h0 q))
  replace hp := hp q1 q2
  have hl := h.1.2.2.1.1
  have hJ := h.1.1.2.1
  have hC := h.1.1.2.2.1
  obtain ⟨r1, r2, r3, r4, r5, -⟩ := h.2.1.1
  obtain ⟨-, ⟨ac, k1, k2, k3, -⟩, ⟨sn, k4, k5, k6, -⟩, -, k7⟩ := h.2.2.1
  obtain ⟨n, m1, m2, m3, -⟩ := h.2.2.2.2.1
  have cf := cfr.rf V t A
  unfold rCount at hp
  by_cases c0 : x = 0
  · rw [if_pos c0] at hp ⊢
    exact ⟨A 5, hb.1.2.1, hl.1, by rw [hl.2.1]; exact hp V cf⟩
  rw [if_neg c0] at hp ⊢
  by_cases c1 : x = 1
  · rw [if_pos c1] at hp ⊢
    exact ⟨A 5, hb.1.2.1, hl.1, by rw [hl.2.2.1]; exact hp V cf⟩
  rw [if_neg c1] at hp ⊢
  by_cases c2 : x = 2
  · rw [if_pos c2] at hp ⊢
    exact ⟨A 5, hb.1.2.1, hl.1, by rw [hl.2.2.2.1]; exact hp V cf⟩
  rw [if_neg c2] at hp ⊢
  by_cases c3 : x = 3
  · rw [if_pos c3] at hp ⊢
    obtain ⟨g1, g2, -⟩ := h.1.2.2.1.2.2.1
    exact ⟨A 5, hb.1.2.1, hl.1, A 6, g1, g2.1, by unfold wJ2_size; rw [g2.2.1, ← hJ.1]; exact hp V cf⟩
  rw [if_neg c3] at hp ⊢
  by_cases c4 : x = 4
  · rw [if_pos c4] at hp ⊢
    exact sX1_cases h hb (by rw [← hC.1]; exact hp V cf)
  rw [if_neg c4] at hp ⊢
  by_cases c5 : x = 5
  · rw [if_pos c5] at hp ⊢
    exact ⟨A 2, hb.1.2.2.2.2.1, bx_st hb stI2, by rw [r2, pk_5]; exact hp V cf⟩
  rw [if_neg c5] at hp ⊢
  by_cases c6 : x = 6
  · rw [if_pos c6] at hp ⊢
    exact ⟨A 2, hb.1.2.2.2.2.1, bx_st hb stI2, by rw [r3, pk_6]; exact hp V cf⟩
  rw [if_neg c6] at hp ⊢
  by_cases c7 : x = 7
  · rw [if_pos c7] at hp ⊢
    exact ⟨A 2, hb.1.2.2.2.2.1, bx_st hb stI2, by rw [r4, pk_7]; exact hp V cf⟩
  rw [if_neg c7] at hp ⊢
  by_cases c8 : x = 8
  · rw [if_pos c8] at hp ⊢
    exact ⟨A 2, hb.1.2.2.2.2.1, bx_st hb stI2, by rw [r5, pk_8]; exact hp V cf⟩
  rw [if_neg c8] at hp ⊢
  by_cases c9 : x = 9
  · rw [if_pos c9] at hp ⊢
    exact sX1_tries h hb (fun V9 a1 _ _ => hp V9 a1)
  rw [if_neg c9] at hp ⊢
  by_cases c10 : x = 10
  · rw [if_pos c10] at hp ⊢
    exact ⟨A 0, hb.1.2.2.1, hb.2.1.1, by rw [k3, ← k1]; exact hp V cf⟩
  rw [if_neg c10] at hp ⊢
  by_cases c11 : x = 11
  · rw [if_pos c11] at hp ⊢
    exact ⟨A 0, hb.1.2.2.1, hb.2.1.1, by rw [k6, ← k4]; exact hp V cf⟩
  rw [if_neg c11] at hp ⊢
  by_cases c12 : x = 12
  · rw [if_pos c12] at hp ⊢
    rw [m3, ← m1]
    exact hp V cf
  rw [if_neg c12] at hp ⊢
  refine ⟨A 0, hb.1.2.2.1, hb.2.1.1, ?_⟩
  by_cases c13 : x = 13
  · rw [if_pos c13] at hp
    exact ⟨0, by decide, by rw [c13]; decide, by rw [k7 0 (by decide)]; exact hp V cf⟩
  rw [if_neg c13] at hp
  by_cases c14 : x = 14
  · rw [if_pos c14] at hp
    exact ⟨1, by decide, by rw [c14]; decide, by rw [k7 1 (by decide)]; exact hp V cf⟩
  rw [if_neg c14] at hp
  have c15 : x = 15 := by
    obtain ⟨k, hk, e⟩ := in_of (x := x) (n := 16) (by decide) q1 (fun z => q2 (Int32.lt_of_lt_of_le (b := 16) (by decide) z))
    subst e
    have d0 : k ≠ 0 := fun z => c0 (by rw [z]; rfl)
    have d1 : k ≠ 1 := fun z => c1 (by rw [z]; rfl)
    have d2 : k ≠ 2 := fun z => c2 (by rw [z]; rfl)
    have d3 : k ≠ 3 := fun z => c3 (by rw [z]; rfl)
    have d4 : k ≠ 4 := fun z => c4 (by rw [z]; rfl)
    have d5 : k ≠ 5 := fun z => c5 (by rw [z]; rfl)
    have d6 : k ≠ 6 := fun z => c6 (by rw [z]; rfl)
    have d7 : k ≠ 7 := fun z => c7 (by rw [z]; rfl)
    have d8 : k ≠ 8 := fun z => c8 (by rw [z]; rfl)
    have d9 : k ≠ 9 := fun z => c9 (by rw [z]; rfl)
    have d10 : k ≠ 10 := fun z => c10 (by rw [z]; rfl)
    have d11 : k ≠ 11 := fun z => c11 (by rw [z]; rfl)
    have d12 : k ≠ 12 := fun z => c12 (by rw [z]; rfl)
    have d13 : k ≠ 13 := fun z => c13 (by rw [z]; rfl)
    have d14 : k ≠ 14 := fun z => c14 (by rw [z]; rfl)
    rw [show k = 15 by omega]; rfl
  exact ⟨2, by decide, by rw [c15]; decide, by rw [k7 2 (by decide)]; exact hp V cf⟩
theorem cR.M (h : cR ad T L V P t A sg lw) : inp (gh sg) (gh sg) ∧ lndOk (gh sg) ∧ farOk (gh sg) ∧ stOk (gh sg) ∧ lawM (gh sg) lw := by
  have ha := gh_ag sg
  have hL := h.1.1
  exact ⟨inp.rf _, ha.lnd hL, ha.far hL h.1.2.1, h.2.1.2.st hL.2.1.2, lawR.M (ha.land hL h.1.2.2.1).2.2.2.2.2⟩
theorem gh_code (sg : MS) (x : Int32) : gh (s2 sg 0 2 x) = s2 (gh sg) 0 2 x := by
  have e : dfS (s2 sg 0 2 x) = dfS sg := by
    funext n
    induction n with
    | zero => rfl
    | succ n ih => rw [dfS_s, dfS_s, ih, s2_rowN (by decide)]
  have e2 : nJ (s2 sg 0 2 x) = nJ sg := by
    show tn (s2 sg 0 2 x 4 4) = tn (sg 4 4)
    rw [s2_rowN (by decide)]
  unfold gh
  rw [e, e2]
  funext a b
  unfold s2
  by_cases h1 : a = 0
  · subst h1
    by_cases h2 : b = 2
    · subst h2; rfl
    · simp [h2]
  · simp [h1]
/-- the model's tellNow after a code -/
theorem sM_now (h : cR ad T L V P t A sg lw) {post : Int32 → MS → Prop} (hp : ∀ s9 : MS, mfr sg s9 → s9 0 2 = 0 → (∀ q, offT2 q → offJ q → s9 q = s2 (gh sg) 0 2 0 q) → inp s9 (gh sg) → full s9 (gh sg) (pTell (gh sg) lw) → post (pN (gh sg) (pTell (gh sg) lw)) s9) : wM_tellNow (s2 sg 0 2 0) post := by
  obtain ⟨-, g2, g3, g4, g5⟩ := h.M
  have hJ := h.1.1.2.1
  have e2 : nJ (s2 sg 0 2 0) = nJ sg := by
    show tn (s2 sg 0 2 0 4 4) = tn (sg 4 4)
    rw [s2_rowN (by decide)]
  have hI : inp (s2 (gh sg) 0 2 0) (gh sg) := ⟨fun k hk => s2_rowN (fun e => by rw [e] at hk; cases hk), fun j hj => s2_i (fun e => by rw [e] at hj; cases hj)⟩
  unfold wM_tellNow
  refine sM_set (by rw [e2, s2_rowN (by decide)]; exact hJ.1) (by rw [e2]; exact hJ.2) ?_
  rw [gh_code]
  refine sM_all hI g2 g3 g4 g5 (fun s9 a1 a2 => hp s9 ?_ ?_ a1 ?_ a2)
  · exact ((mfr.gh sg).tr (mfr.code _ 0)).tr (mfr.tell a1)
  · rw [a1 0 (by refine ⟨⟨?_, ?_, ?_, ?_, ?_⟩, ?_, ?_, ?_⟩ <;> decide) (by refine ⟨?_, ?_, ?_⟩ <;> decide), s2_s]
  · exact hI.tr (fun q hq => a1 q (offT2_in hq) (offJ_in hq))
theorem sM_fail {x : Int32} {post : Int32 → MS → Prop} (hp : ∀ b s9, mfr sg s9 → s9 0 2 = x → post b s9) : wM_fail (s2 sg 0 2 0) x post := by
  unfold wM_fail
  exact hp _ _ ((mfr.code sg 0).tr (mfr.code _ x)) s2_s
theorem s2c {x : Int32} {k i : Nat} (hk : k ≠ 0) : s2 sg 0 2 x k i = sg k i := by rw [s2_rowN hk]
theorem s2c0 {x : Int32} {j : Nat} (hj : j ≠ 2) : s2 sg 0 2 x 0 j = sg 0 j := s2_i hj
theorem qM_count (h : cR ad T L V P t A sg lw) {x : Int32} (hx : ¬ x < 0 ∧ ¬ 15 < x) {post : Int32 → MS → Prop} (hp : ∀ s9 : MS, mfr sg s9 → s9 0 2 = 0 → post (rCount sg lw x) s9) : wM_count sg x post := by
  unfold wM_count
  have cf := hp _ (mfr.code sg 0) s2_s
  unfold rCount at hp cf
  by_cases c0 : x = 0
  · rw [if_pos c0] at hp cf ⊢
    rw [s2c (by decide)]
    exact cf
  rw [if_neg c0] at hp cf ⊢
  by_cases c1 : x = 1
  · rw [if_pos c1] at hp cf ⊢
    rw [s2c (by decide)]
    exact cf
  rw [if_neg c1] at hp cf ⊢
  by_cases c2 : x = 2
  · rw [if_pos c2] at hp cf ⊢
    rw [s2c (by decide)]
    exact cf
  rw [if_neg c2] at hp cf ⊢
  by_cases c3 : x = 3
  · rw [if_pos c3] at hp cf ⊢
    rw [s2c (by decide)]
    exact cf
  rw [if_neg c3] at hp cf ⊢
  by_cases c4 : x = 4
  · rw [if_pos c4] at hp cf ⊢
    rw [s2c (by decide)]
    exact cf
  rw [if_neg c4] at hp cf ⊢
  by_cases c5 : x = 5
  · rw [if_pos c5] at hp cf ⊢
    rw [s2c0 (by decide)]
    exact cf
  rw [if_neg c5] at hp cf ⊢
  by_cases c6 : x = 6
  · rw [if_pos c6] at hp cf ⊢
    rw [s2c0 (by decide)]
    exact cf
  rw [if_neg c6] at hp cf ⊢
  by_cases c7 : x = 7
  · rw [if_pos c7] at hp cf ⊢
    rw [s2c0 (by decide)]
    exact cf
  rw [if_neg c7] at hp cf ⊢
  by_cases c8 : x = 8
  · rw [if_pos c8] at hp cf ⊢
    rw [s2c0 (by decide)]
    exact cf
  rw [if_neg c8] at hp cf ⊢
  by_cases c9 : x = 9
  · rw [if_pos c9] at hp cf ⊢
    exact sM_now h (fun s9 a1 a2 _ _ _ => hp s9 a1 a2)
  rw [if_neg c9] at hp cf ⊢
  by_cases c10 : x = 10
  · rw [if_pos c10] at hp cf ⊢
    rw [s2c0 (by decide)]
    exact cf
  rw [if_neg c10] at hp cf ⊢
  by_cases c11 : x = 11
  · rw [if_pos c11] at hp cf ⊢
    rw [s2c0 (by decide)]
    exact cf
  rw [if_neg c11] at hp cf ⊢
  by_cases c12 : x = 12
  · rw [if_pos c12] at hp cf ⊢
    rw [s2c0 (by decide)]
    exact cf
  rw [if_neg c12] at hp cf ⊢
  by_cases c13 : x = 13
  · rw [if_pos c13] at hp cf ⊢
    exact ⟨0, by decide, by rw [c13]; decide, by rw [s2c (by decide)]; exact cf⟩
  rw [if_neg c13] at hp cf ⊢
  by_cases c14 : x = 14
  · rw [if_pos c14] at hp cf ⊢
    exact ⟨1, by decide, by rw [c14]; decide, by rw [s2c (by decide)]; exact cf⟩
  rw [if_neg c14] at hp cf ⊢
  have c15 : x = 15 := by
    obtain ⟨k, hk, e⟩ := in_of (x := x) (n := 16) (by decide) hx.1 (fun z => hx.2 (Int32.lt_of_lt_of_le (b := 16) (by decide) z))
    subst e
    have d0 : k ≠ 0 := fun z => c0 (by rw [z]; rfl)
    have d1 : k ≠ 1 := fun z => c1 (by rw [z]; rfl)
    have d2 : k ≠ 2 := fun z => c2 (by rw [z]; rfl)
    have d3 : k ≠ 3 := fun z => c3 (by rw [z]; rfl)
    have d4 : k ≠ 4 := fun z => c4 (by rw [z]; rfl)
    have d5 : k ≠ 5 := fun z => c5 (by rw [z]; rfl)
    have d6 : k ≠ 6 := fun z => c6 (by rw [z]; rfl)
    have d7 : k ≠ 7 := fun z => c7 (by rw [z]; rfl)
    have d8 : k ≠ 8 := fun z => c8 (by rw [z]; rfl)
    have d9 : k ≠ 9 := fun z => c9 (by rw [z]; rfl)
    have d10 : k ≠ 10 := fun z => c10 (by rw [z]; rfl)
    have d11 : k ≠ 11 := fun z => c11 (by rw [z]; rfl)
    have d12 : k ≠ 12 := fun z => c12 (by rw [z]; rfl)
    have d13 : k ≠ 13 := fun z => c13 (by rw [z]; rfl)
    have d14 : k ≠ 14 := fun z => c14 (by rw [z]; rfl)
    rw [show k = 15 by omega]; rfl
  rw [if_pos c15]
  exact ⟨2, by decide, by rw [c15]; decide, by rw [s2c (by decide)]; exact cf⟩
theorem qM_count0 {x : Int32} (hx : x < 0 ∨ 15 < x) {post : Int32 → MS → Prop} (hp : ∀ b s9, mfr sg s9 → s9 0 2 = 1 → post b s9) : wM_count sg x post := by
  unfold wM_count
  have ne : ∀ k : Nat, k ≤ 15 → ¬ x = nI k := fun k hk e => by
    subst e
    rcases hx with q | q
    · exact nI_pos (by omega) q
    · exact nI_nlt (a := 15) hk (by decide) q
  rw [if_neg (show ¬ x = 0 from ne 0 (by decide)), if_neg (show ¬ x = 1 from ne 1 (by decide)), if_neg (show ¬ x = 2 from ne 2 (by decide)), if_neg (show ¬ x = 3 from ne 3 (by decide)), if_neg (show ¬ x = 4 from ne 4 (by decide)), if_neg (show ¬ x = 5 from ne 5 (by decide)), if_neg (show ¬ x = 6 from ne 6 (by decide)), if_neg (show ¬ x = 7 from ne 7 (by decide)), if_neg (show ¬ x = 8 from ne 8 (by decide)), if_neg (show ¬ x = 9 from ne 9 (by decide)), if_neg (show ¬ x = 10 from ne 10 (by decide)), if_neg (show ¬ x = 11 from ne 11 (by decide)), if_neg (show ¬ x = 12 from ne 12 (by decide)), if_neg (show ¬ x = 13 from ne 13 (by decide)), if_neg (show ¬ x = 14 from ne 14 (by decide)), if_neg (show ¬ x = 15 from ne 15 (by decide))]
  exact sM_fail hp
end Q1
