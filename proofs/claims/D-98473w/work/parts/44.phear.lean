/-! PURE: what is said day by day, by the model -/
set_option maxRecDepth 100000
def foldN (f : MS → Nat → MS) (s : MS) : Nat → MS
  | 0 => s
  | k + 1 => f (foldN f s k) k
def pHear1 (D : MS) (lw : (Nat → Int32) → Int32) (j t : Nat) (d : Int32) (S : MS) (c : Nat) : MS := if D 11 (9 * c + t) = -1 then S else if S 0 (5 * c + j) = -1 then s2 (s2 (s2 S 0 (5 * c + j) (b2 (pHolds D lw S c j t d))) 1 (5 * c + j) d) 2 (5 * c + j) (nI t) else S
theorem pHear1_eq {D : MS} {lw : (Nat → Int32) → Int32} {j t : Nat} {d : Int32} {S : MS} {c : Nat} : pHear1 D lw j t d S c = if D 11 (9 * c + t) = -1 then S else if S 0 (5 * c + j) = -1 then s2 (s2 (s2 S 0 (5 * c + j) (b2 (pHolds D lw S c j t d))) 1 (5 * c + j) d) 2 (5 * c + j) (nI t) else S := rfl
def pHear (D : MS) (lw : (Nat → Int32) → Int32) (d : Int32) (S : MS) (j : Nat) : MS := if pAt D j d = -1 then S else if pFeast D (pAt D j d) d = true then S else foldN (pHear1 D lw j (tn (pAt D j d)) d) S (nC D)
def pDay (D : MS) (lw : (Nat → Int32) → Int32) (S : MS) (k : Nat) : MS := foldN (pHear D lw (nI k)) S (nJ D)
def pNone : MS := fun _ _ => -1
def pTell (D : MS) (lw : (Nat → Int32) → Int32) : MS := foldN (pDay D lw) pNone 115
/-- the model's rows of what was said -/
def mS (sg S : MS) : Prop := ∀ k, k < 30 → sg 45 k = S 0 k ∧ (¬ S 0 k = -1 → sg 46 k = S 1 k ∧ sg 47 k = S 2 k)
theorem cntI_congr {c c2 : Nat → Bool} : ∀ k, (∀ i, i < k → c i = c2 i) → cntI c k = cntI c2 k
  | 0, _ => rfl
  | k + 1, h => by
    unfold cntI
    rw [cntI_congr k (fun i hi => h i (by omega)), h k (by omega)]
theorem pHear_eq {D : MS} {lw : (Nat → Int32) → Int32} {d : Int32} {S : MS} {j : Nat} : pHear D lw d S j = if pAt D j d = -1 then S else if pFeast D (pAt D j d) d = true then S else foldN (pHear1 D lw j (tn (pAt D j d)) d) S (nC D) := rfl
theorem mS.ahead {sg S D : MS} (h : mS sg S) (hL : lndOk D) {c : Nat} (hc : c < nC D) (d : Int32) : pAhead D (sg 45) (sg 46) c d = pAhead D (S 0) (S 1) c d := by
  have hC6 := hL.2.2.1.2
  have hJ5 := hL.2.1.2
  refine cntI_congr _ (fun i hi => ?_)
  obtain ⟨h1, h2⟩ := h (5 * c + i) (by omega)
  rw [h1]
  by_cases h3 : S 0 (5 * c + i) = -1
  · simp [h3]
  · rw [(h2 h3).1]
theorem mS.put {sg S : MS} (h : mS sg S) {k : Nat} {x d t : Int32} (hx : ¬ x = -1) : mS (s2 (s2 (s2 sg 45 k x) 46 k d) 47 k t) (s2 (s2 (s2 S 0 k x) 1 k d) 2 k t) := by
  intro q hq
  obtain ⟨h1, h2⟩ := h q hq
  by_cases e : q = k
  · subst e
    rw [s2_k (show (45 : Nat) ≠ 47 by decide), s2_k (show (45 : Nat) ≠ 46 by decide), s2_s, s2_k (show (0 : Nat) ≠ 2 by decide), s2_k (show (0 : Nat) ≠ 1 by decide), s2_s]
    refine ⟨rfl, fun _ => ?_⟩
    rw [s2_k (show (46 : Nat) ≠ 47 by decide), s2_s, s2_k (show (1 : Nat) ≠ 2 by decide), s2_s, s2_s, s2_s]
    exact ⟨rfl, rfl⟩
  · rw [s2_i e, s2_i e, s2_i e, s2_i e, s2_i e, s2_i e]
    refine ⟨h1, fun h3 => ?_⟩
    rw [s2_i e, s2_i e, s2_i e, s2_i e, s2_i e, s2_i e, s2_i e, s2_i e, s2_i e, s2_i e, s2_i e, s2_i e]
    exact h2 h3
theorem b2_ne (b : Bool) : ¬ b2 b = -1 := by cases b <;> decide
/-- no input, but what the tale writes -/
def offT (q : Nat) : Prop := q ≠ 36 ∧ q ≠ 37 ∧ q ≠ 45 ∧ q ≠ 46 ∧ q ≠ 47
theorem offT_in {q : Nat} (h : inS q = true ∨ q = 0) : offT q := by
  refine ⟨?_, ?_, ?_, ?_, ?_⟩ <;> (intro e; subst e; rcases h with h | h <;> cases h)
theorem sM_hear {sg D S : MS} {lw : (Nat → Int32) → Int32} (hI : inp sg D) (hL : lndOk D) (hO : stOk D) (hw : lawM D lw) (hm : mS sg S) {j t : Nat} (hj : j < nJ D) (ht : t < nT D) {d : Int32} {post : MS → Prop}
    (h : ∀ s9 : MS, (∀ q, offT q → s9 q = sg q) → mS s9 (if pFeast D (nI t) d = true then S else foldN (pHear1 D lw j t d) S (nC D)) → post s9) : wM_hear sg (nI j) (nI t) d post := by
  have hC6 := hL.2.2.1.2
  have hC := hL.2.2.1.1
  have hT9 := hL.1.2
  have hJ5 := hL.2.1.2
  unfold wM_hear
  refine loop0 (F := fun n i s => lM_hear_3 (nI j) (nI t) d post n i s) (nC D) (fun c s => (∀ q, offT q → s q = sg q) ∧ mS s (foldN (pHear1 D lw j t d) S c) ∧ (0 < c → pFeast D (nI t) d = false)) sg ⟨fun _ _ => rfl, hm, fun h => absurd h (by decide)⟩ (fun n c s hc hs kk => ?_)
  obtain ⟨hs1, hs2, hs3⟩ := hs
  have hIs : inp s D := hI.tr (fun q hq => hs1 q (offT_in hq))
  show lM_hear_3 (nI j) (nI t) d post (n + 1) (nI c) s
  unfold lM_hear_3
  rw [hIs.a (k := 4) rfl, hC]
  by_cases hcN : c < nC D
  · rw [if_neg (nI_ge hcN (by omega))]
    refine sM_isFeast hIs hO ?_
    cases hf : pFeast D (nI t) d with
    | true =>
      rw [b2_t, if_neg (by decide)]
      refine h s hs1 ?_
      rw [if_pos hf]
      rcases Nat.eq_zero_or_pos c with h0 | h0
      · subst h0; exact hs2
      · rw [hs3 h0] at hf; cases hf
    | false =>
      rw [b2_f, if_pos rfl]
      refine ⟨9 * c + t, by omega, ix9 c t, ?_⟩
      rw [hIs.a (k := 11) rfl]
      unfold jM_hear_101
      have ek : foldN (pHear1 D lw j t d) S (c + 1) = pHear1 D lw j t d (foldN (pHear1 D lw j t d) S c) c := rfl
      by_cases h1 : D 11 (9 * c + t) = -1
      · rw [if_pos h1, nI_1]
        refine kk s hcN ⟨hs1, ?_, fun _ => hf⟩
        rw [ek, pHear1_eq, if_pos h1]
        exact hs2
      · rw [if_neg h1]
        refine ⟨5 * c + j, by omega, ix5 c j, ?_⟩
        rw [(hs2 (5 * c + j) (by omega)).1]
        by_cases h2 : foldN (pHear1 D lw j t d) S c 0 (5 * c + j) = -1
        · rw [if_pos h2]
          refine sM_holds (S := foldN (pHear1 D lw j t d) S c) hIs hL hw hcN hj ht (hs2.ahead hL hcN d) (fun s9 g1 => ?_)
          have fin : ∀ x : Int32, x = b2 (pHolds D lw (foldN (pHear1 D lw j t d) S c) c j t d) → jM_hear_84 s9 (nI j) (nI t) d (nI c) ((5 : Int32) * nI c + nI j) x ((5 : Int32) * nI c + nI j) post (lM_hear_3 (nI j) (nI t) d post n) := by
            intro x hx
            unfold jM_hear_84 jM_hear_101
            refine ⟨5 * c + j, by omega, ix5 c j, 5 * c + j, by omega, ix5 c j, 5 * c + j, by omega, ix5 c j, ?_⟩
            rw [nI_1]
            refine kk _ hcN ⟨fun q hq => ?_, ?_, fun _ => hf⟩
            · rw [s2_rowN hq.2.2.2.2, s2_rowN hq.2.2.2.1, s2_rowN hq.2.2.1, g1 q hq.1 hq.2.1]
              exact hs1 q hq
            · rw [ek, pHear1_eq, if_neg h1, if_pos h2, hx]
              refine mS.put (fun q hq => ?_) (b2_ne _)
              rw [g1 45 (by decide) (by decide), g1 46 (by decide) (by decide), g1 47 (by decide) (by decide)]
              exact hs2 q hq
          cases hp : pHolds D lw (foldN (pHear1 D lw j t d) S c) c j t d with
          | false => rw [b2_f, if_pos rfl]; exact fin 0 (by rw [hp]; rfl)
          | true => rw [b2_t, if_neg (by decide)]; exact fin 1 (by rw [hp]; rfl)
        · rw [if_neg h2, nI_1]
          refine kk s hcN ⟨hs1, ?_, fun _ => hf⟩
          rw [ek, pHear1_eq, if_neg h1, if_neg h2]
          exact hs2
  · have ec : c = nC D := by omega
    rw [if_pos (nI_le (by omega) (by omega))]
    refine h s hs1 ?_
    cases hf : pFeast D (nI t) d with
    | true =>
      rw [if_pos rfl]
      rcases Nat.eq_zero_or_pos c with h0 | h0
      · rw [h0] at hs2; exact hs2
      · rw [hs3 h0] at hf; cases hf
    | false =>
      rw [if_neg (by decide), ← ec]
      exact hs2
/-- what the tale leaves in the model's rows -/
def tale (sg D : MS) (lw : (Nat → Int32) → Int32) : Prop := stops sg D ∧ (∀ a b, a < nJ D → b < nJ D → sg 40 (5 * a + b) = pMeet D a b) ∧ mS sg (pTell D lw)
def offT2 (q : Nat) : Prop := offT q ∧ q ≠ 38 ∧ q ≠ 39 ∧ q ≠ 40
theorem offT2_in {q : Nat} (h : inS q = true ∨ q = 0) : offT2 q := by
  refine ⟨offT_in h, ?_, ?_, ?_⟩ <;> (intro e; subst e; rcases h with h | h <;> cases h)
theorem sM_tell {sg D : MS} {lw : (Nat → Int32) → Int32} (hI : inp sg D) (hL : lndOk D) (hO : stOk D) (hw : lawM D lw) {post : Int32 → MS → Prop}
    (h : ∀ s9 : MS, (∀ q, offT2 q → s9 q = sg q) → tale s9 D lw → wM_judgeAll s9 post) : wM_tell sg post := by
  obtain ⟨hJ, hJ5⟩ := hL.2.1
  unfold wM_tell
  refine sM_tellStops hI hL (fun g2 a1 a2 => ?_)
  have hI2 : inp g2 D := hI.tr (fun q hq => a1 q (offT2_in hq).2.1 (offT2_in hq).2.2.1)
  refine sM_tellMeetings hI2 hL hO a2 (fun g4 b1 b2' => ?_)
  have hI4 : inp g4 D := hI2.tr (fun q hq => b1 q (offT2_in hq).2.2.2)
  -- nothing said
  refine loop0 (F := fun n i s => lM_tell_10 post _ n i s) 30 (fun k s => (∀ q, q ≠ 45 → s q = g4 q) ∧ ∀ i, i < k → s 45 i = -1) g4 ⟨fun _ _ => rfl, fun i h => absurd h (by omega)⟩ (fun n k s hk hs kk => ?_)
  obtain ⟨hs1, hs2⟩ := hs
  show lM_tell_10 post _ (n + 1) (nI k) s
  unfold lM_tell_10
  by_cases hkN : k < 30
  · rw [if_neg (show ¬ (30 : Int32) ≤ nI k from nI_ge (b := 30) hkN (by decide))]
    refine ⟨k, hkN, rfl, ?_⟩
    rw [nI_1]
    refine kk _ hkN ⟨fun q hq => by rw [s2_rowN hq]; exact hs1 q hq, fun i hi => ?_⟩
    by_cases e : i = k
    · subst e; exact s2_s
    · rw [s2_i e]; exact hs2 i (by omega)
  · have ek : k = 30 := by omega
    subst ek
    rw [if_pos (show (30 : Int32) ≤ nI 30 by decide)]
    -- the days
    refine loop0 (F := fun n i s => lM_tell_31 post _ n i s) 115 (fun k s => (∀ q, offT q → s q = g4 q) ∧ mS s (foldN (pDay D lw) pNone k)) s ⟨fun q hq => hs1 q hq.2.2.1, fun q hq => ⟨hs2 q hq, fun h9 => absurd rfl h9⟩⟩ (fun n1 k s hk hs kk => ?_)
    obtain ⟨hs1, hs2⟩ := hs
    show lM_tell_31 post _ (n1 + 1) (nI k) s
    unfold lM_tell_31
    by_cases hkN : k < 115
    · rw [if_neg (show ¬ (114 : Int32) < nI k from nI_nlt (a := 114) (by omega) (by decide))]
      refine loop0 (F := fun n i s => lM_tell_39 (nI k) post _ n i s) (nJ D) (fun j s => (∀ q, offT q → s q = g4 q) ∧ mS s (foldN (pHear D lw (nI k)) (foldN (pDay D lw) pNone k) j)) s ⟨hs1, hs2⟩ (fun n2 j s hj hs kk2 => ?_)
      obtain ⟨hs1, hs2⟩ := hs
      have hIs : inp s D := hI4.tr (fun q hq => hs1 q (offT_in hq))
      have hPs : stops s D := fun j i h1 h2 => by
        rw [hs1 38 ⟨by decide, by decide, by decide, by decide, by decide⟩, hs1 39 ⟨by decide, by decide, by decide, by decide, by decide⟩, b1 38 (by decide), b1 39 (by decide)]
        exact a2 j i h1 h2
      show lM_tell_39 (nI k) post _ (n2 + 1) (nI j) s
      unfold lM_tell_39 jM_tell_68
      rw [hIs.a (k := 4) rfl, hJ]
      by_cases hjN : j < nJ D
      · rw [if_neg (nI_ge hjN (by omega))]
        refine sM_townOn hIs hL hPs hjN ?_
        have ek : foldN (pHear D lw (nI k)) (foldN (pDay D lw) pNone k) (j + 1) = pHear D lw (nI k) (foldN (pHear D lw (nI k)) (foldN (pDay D lw) pNone k) j) j := rfl
        by_cases h1 : pAt D j (nI k) = -1
        · rw [if_pos h1, nI_1 j]
          refine kk2 s hjN ⟨hs1, ?_⟩
          rw [ek, pHear_eq, if_pos h1]
          exact hs2
        · rw [if_neg h1]
          obtain ⟨t, ht, htT⟩ := (pAt_nat hL hjN (nI k)).resolve_left h1
          have hT9 := hL.1.2
          rw [ht]
          refine sM_hear hIs hL hO hw hs2 hjN htT (fun s9 c1 c2 => ?_)
          rw [nI_1 j]
          refine kk2 s9 hjN ⟨fun q hq => (c1 q hq).trans (hs1 q hq), ?_⟩
          rw [ek, pHear_eq, if_neg h1, ht, tn_nI (by omega)]
          exact c2
      · have ej : j = nJ D := by omega
        rw [if_pos (nI_le (by omega) (by omega)), nI_1 k]
        refine kk s hkN ⟨hs1, ?_⟩
        show mS s (foldN (pHear D lw (nI k)) (foldN (pDay D lw) pNone k) (nJ D))
        rw [← ej]
        exact hs2
    · have ek : k = 115 := by omega
      subst ek
      rw [if_pos (show (114 : Int32) < nI 115 by decide)]
      refine h s (fun q hq => ?_) ⟨fun j i h1 h2 => ?_, fun a b h1 h2 => ?_, hs2⟩
      · rw [hs1 q hq.1, b1 q hq.2.2.2, a1 q hq.2.1 hq.2.2.1]
      · rw [hs1 38 ⟨by decide, by decide, by decide, by decide, by decide⟩, hs1 39 ⟨by decide, by decide, by decide, by decide, by decide⟩, b1 38 (by decide), b1 39 (by decide)]
        exact a2 j i h1 h2
      · rw [hs1 40 ⟨by decide, by decide, by decide, by decide, by decide⟩]
        exact b2' a b h1 h2
