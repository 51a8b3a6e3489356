/-! PURE: the model's set, tell, bounds; what a question leaves -/
set_option maxRecDepth 100000
theorem bit_or : ∀ m, m < 32 → ∀ k, k < 5 → ∀ j, j < 5 → bitI (nI m ||| ((1 : Int32) <<< (nI k &&& 31))) (nI j) = (bitI (nI m) (nI j) || decide (j = k)) := by decide +kernel
theorem bit_orN : ∀ m, m < 32 → ∀ k, k < 5 → nI m ||| ((1 : Int32) <<< (nI k &&& 31)) = nI (m ||| 2 ^ k) ∧ m ||| 2 ^ k < 32 := by decide +kernel
theorem bit_xor : ∀ m, m < 32 → ∀ k, k < 5 → ∀ j, j < 5 → bitI (nI m ^^^ ((1 : Int32) <<< (nI k &&& 31))) (nI j) = (bitI (nI m) (nI j) != decide (j = k)) := by decide +kernel
theorem bit_one : ∀ k, k < 5 → ∀ j, j < 5 → bitI ((1 : Int32) <<< (nI k &&& 31)) (nI j) = decide (nI k = nI j) := by decide +kernel
theorem bit_0 : ∀ j, j < 5 → bitI 0 (nI j) = false := by decide +kernel
def dfS (D : MS) : Nat → Int32
  | 0 => 0
  | k + 1 => dfS D k ||| (if D 6 k = 1 then (1 : Int32) <<< (nI k &&& 31) else 0)
theorem dfS_s {D : MS} {k : Nat} : dfS D (k + 1) = dfS D k ||| (if D 6 k = 1 then (1 : Int32) <<< (nI k &&& 31) else 0) := rfl
theorem dfS_bit {D : MS} : ∀ n, n ≤ 5 → ∃ m, m < 32 ∧ dfS D n = nI m ∧ ∀ j, j < 5 → bitI (nI m) (nI j) = decide (j < n ∧ D 6 j = 1)
  | 0, _ => ⟨0, by decide, rfl, fun j hj => by rw [decide_eq_false (fun q => absurd q.1 (by omega))]; exact bit_0 j hj⟩
  | n + 1, h => by
    obtain ⟨m, h1, h2, h3⟩ := dfS_bit (D := D) n (by omega)
    rw [dfS_s, h2]
    by_cases e : D 6 n = 1
    · rw [if_pos e]
      obtain ⟨q1, q2⟩ := bit_orN m h1 n (by omega)
      refine ⟨_, q2, q1, fun j hj => ?_⟩
      rw [← q1, bit_or m h1 n (by omega) j hj, h3 j hj]
      by_cases ej : j = n
      · subst ej
        rw [decide_eq_true (p := j = j) rfl, Bool.or_true, decide_eq_true ⟨by omega, e⟩]
      · rw [decide_eq_false ej, Bool.or_false]
        exact decide_eq_decide.mpr ⟨fun q => ⟨by omega, q.2⟩, fun q => ⟨by omega, q.2⟩⟩
    · rw [if_neg e, Int32.or_zero]
      refine ⟨m, h1, rfl, fun j hj => ?_⟩
      rw [h3 j hj]
      refine decide_eq_decide.mpr ⟨fun q => ⟨by omega, q.2⟩, fun q => ⟨?_, q.2⟩⟩
      have : ¬ j = n := fun e2 => e (by rw [← e2]; exact q.2)
      omega
/-- what set leaves -/
def gh (sg : MS) : MS := s2 (s2 (s2 (s2 sg 0 40 (-1)) 0 42 0) 0 43 (-1)) 0 41 (dfS sg (nJ sg))
theorem s2_s2 {σ : MS} {k i : Nat} {x y : Int32} : s2 (s2 σ k i x) k i y = s2 σ k i y := by
  funext a b
  by_cases h : a = k ∧ b = i
  · obtain ⟨rfl, rfl⟩ := h
    rw [s2_s, s2_s]
  · unfold s2
    rw [if_neg h, if_neg h, if_neg h]
theorem gh_k {sg : MS} {k : Nat} (h : k ≠ 0) : gh sg k = sg k := by
  unfold gh
  rw [s2_rowN h, s2_rowN h, s2_rowN h, s2_rowN h]
theorem gh_0 {sg : MS} {j : Nat} (h1 : j ≠ 40) (h2 : j ≠ 41) (h3 : j ≠ 42) (h4 : j ≠ 43) : gh sg 0 j = sg 0 j := by
  unfold gh
  rw [s2_i h2, s2_i h4, s2_i h3, s2_i h1]
theorem gh_40 {sg : MS} : gh sg 0 40 = -1 := by
  unfold gh
  rw [s2_i (by decide), s2_i (by decide), s2_i (by decide), s2_s]
theorem gh_41 {sg : MS} : gh sg 0 41 = dfS sg (nJ sg) := by
  unfold gh
  rw [s2_s]
theorem gh_42 {sg : MS} : gh sg 0 42 = 0 := by
  unfold gh
  rw [s2_i (by decide), s2_i (by decide), s2_s]
theorem gh_43 {sg : MS} : gh sg 0 43 = -1 := by
  unfold gh
  rw [s2_i (by decide), s2_s]
theorem gh_ag (sg : MS) : agL sg (gh sg) := agL.of (fun k hk => gh_k (by rcases hk with h | h | h | h | h | h | h | h | h <;> (rw [h]; decide)))
theorem gh_ag' (sg : MS) : agL (gh sg) sg := agL.of (fun k hk => (gh_k (by rcases hk with h | h | h | h | h | h | h | h | h <;> (rw [h]; decide))).symm)
theorem sM_set {sg : MS} (hJ : sg 4 4 = nI (nJ sg)) (hJ5 : nJ sg ≤ 5) {post : MS → Prop} (h : post (gh sg)) : wM_set sg post := by
  unfold wM_set
  obtain ⟨b, hb⟩ : ∃ b, b = s2 (s2 (s2 sg 0 40 (-1)) 0 42 0) 0 43 (-1) := ⟨_, rfl⟩
  rw [← hb]
  refine loop0 (F := fun n i s => lM_set_22 post n i s) (nJ sg) (fun k s => s = s2 b 0 41 (dfS sg k)) _ rfl (fun n k s hk hs kk => ?_)
  subst hs
  have e : ∀ q i, q ≠ 0 → s2 b 0 41 (dfS sg k) q i = sg q i := fun q i hq => by rw [s2_rowN hq, hb, s2_rowN hq, s2_rowN hq, s2_rowN hq]
  show lM_set_22 post (n + 1) (nI k) _
  unfold lM_set_22
  rw [e 4 4 (by decide), hJ]
  by_cases hkN : k < nJ sg
  · rw [if_neg (nI_ge hkN (by omega))]
    refine ⟨k, by omega, rfl, ?_⟩
    rw [e 6 k (by decide), s2_s]
    unfold jM_set_54
    have hn := kk _ hkN rfl
    rw [dfS_s] at hn
    rw [nI_1]
    by_cases h6 : sg 6 k = 1
    · rw [if_pos h6] at hn ⊢
      rw [s2_s2]
      exact hn
    · rw [if_neg h6] at hn ⊢
      rw [s2_s2]
      exact hn
  · have ek : k = nJ sg := by omega
    rw [if_pos (nI_le (by omega) (by omega)), ek, hb]
    exact h
/-- all told -/
def full (sg D S : MS) : Prop := judgeOn sg D S ∧ ∀ c, c < nC D → judged sg D S c
theorem sM_all {sg D : MS} {lw : (Nat → Int32) → Int32} (hI : inp sg D) (hL : lndOk D) (hF : farOk D) (hO : stOk D) (hw : lawM D lw) {post : Int32 → MS → Prop}
    (h : ∀ s9 : MS, (∀ q, offT2 q → offJ q → s9 q = sg q) → full s9 D (pTell D lw) → post (pN D (pTell D lw)) s9) : wM_tell sg post := by
  refine sM_tell hI hL hO hw (fun s1 a1 a2 => ?_)
  have hI1 : inp s1 D := hI.tr (fun q hq => a1 q (offT2_in hq))
  refine sM_judgeAll hI1 hL hF hO a2 (pTell_ok hL lw) (fun s9 b1 b2' => ?_)
  exact h s9 (fun q h1 h2 => (b1 q h2).trans (a1 q h1)) ⟨judgeOn.tr a2 b1, b2'⟩
theorem lg_lt {x y : Int64} : lg_cmp x y < 0 ↔ x < y := by
  unfold lg_cmp
  by_cases h : x > y
  · rw [if_pos h]
    exact ⟨fun q => absurd q (by decide), fun q => absurd (Int64.lt_iff_toInt_lt.mp h) (by have := Int64.lt_iff_toInt_lt.mp q; omega)⟩
  · rw [if_neg h]
    by_cases e : x = y
    · rw [if_pos e]
      exact ⟨fun q => absurd q (by decide), fun q => absurd (Int64.lt_iff_toInt_lt.mp q) (by rw [e]; omega)⟩
    · rw [if_neg e]
      refine ⟨fun _ => Int64.lt_iff_toInt_lt.mpr ?_, fun _ => by decide⟩
      have h1 : ¬ y.toInt < x.toInt := fun q => h (Int64.lt_iff_toInt_lt.mpr q)
      have h2 : ¬ x.toInt = y.toInt := fun q => e (Int64.toInt_inj.mp q)
      omega
theorem lg_gt {x y : Int64} : 0 < lg_cmp x y ↔ y < x := by
  unfold lg_cmp
  by_cases h : x > y
  · rw [if_pos h]
    exact ⟨fun _ => h, fun _ => by decide⟩
  · rw [if_neg h]
    refine ⟨fun q => ?_, fun q => absurd q h⟩
    by_cases e : x = y
    · rw [if_pos e] at q; exact absurd q (by decide)
    · rw [if_neg e] at q; exact absurd q (by decide)
theorem l_lt {x y : Int32} : x.toInt64 < y.toInt64 ↔ x < y := by
  rw [Int64.lt_iff_toInt_lt, Int32.lt_iff_toInt_lt, Int32.toInt_toInt64, Int32.toInt_toInt64]
theorem sM_isIn {sg : MS} {x a b : Int32} {A B : Int64} (hA : A = a.toInt64) (hB : B = b.toInt64) {post : Int32 → Prop} (h1 : ¬ x < a → ¬ b < x → post 1) (h0 : x < a ∨ b < x → post 0) : wM_isIn sg x.toInt64 A B post := by
  subst hA hB
  unfold wM_isIn
  by_cases q : x < a
  · rw [if_pos (lg_lt.mpr (l_lt.mpr q))]
    exact h0 (Or.inl q)
  · rw [if_neg (fun z => q (l_lt.mp (lg_lt.mp z)))]
    by_cases q2 : b < x
    · rw [if_pos (lg_gt.mpr (l_lt.mpr q2))]
      exact h0 (Or.inr q2)
    · rw [if_neg (fun z => q2 (l_lt.mp (lg_gt.mp z)))]
      exact h1 q q2
/-- no number below n -/
def notN (x : Int32) (n : Nat) : Prop := ∀ k, k < n → x ≠ nI k
theorem notN_neg {x : Int32} {n : Nat} (hn : n ≤ 2000) (h : x < 0) : notN x n := fun k hk e => nI_pos (n := k) (by omega) (by rw [← e]; exact h)
theorem notN_ge {x : Int32} {n : Nat} (hn : n ≤ 2000) (h : nI n ≤ x) : notN x n := fun k hk e => nI_ge (a := k) (b := n) hk (by omega) (by rw [← e]; exact h)
theorem in_of {x : Int32} {n : Nat} (hn : n ≤ 2000) (h1 : ¬ x < 0) (h2 : ¬ nI n ≤ x) : ∃ k, k < n ∧ x = nI k := by
  obtain ⟨j, hj, rfl⟩ := nI_of h1
  refine ⟨j, ?_, rfl⟩
  rcases Nat.lt_or_ge j n with h | h
  · exact h
  · exact absurd (nI_le h hj) h2
theorem m1_lt {x : Int32} {n : Nat} (hn : n ≤ 2000) (h0 : ¬ x < 0) : nI n - 1 < x ↔ nI n ≤ x := by
  obtain ⟨j, hj, rfl⟩ := nI_of h0
  cases n with
  | zero => exact ⟨fun _ => nI_le (Nat.zero_le _) hj, fun _ => Int32.lt_of_lt_of_le (b := 0) (by decide) (Int32.not_lt.mp h0)⟩
  | succ m =>
    rw [nI_pred]
    exact ⟨fun h => nI_le ((nI_ltI (by omega) hj).mp h) hj, fun h => nI_lt ((nI_leI (by omega) hj).mp h) hj⟩
theorem sM_inN {sg : MS} {x : Int32} {n : Nat} (hn : n ≤ 2000) {post : Int32 → Prop} (h1 : ∀ k, k < n → x = nI k → post 1) (h0 : notN x n → post 0) : wM_isIn sg x.toInt64 0 (nI n - 1).toInt64 post := by
  refine sM_isIn (a := 0) (b := nI n - 1) (by decide) rfl (fun q1 q2 => ?_) (fun q => ?_)
  · obtain ⟨k, hk, e⟩ := in_of hn q1 (fun z => q2 ((m1_lt hn q1).mpr z))
    exact h1 k hk e
  · by_cases q1 : x < 0
    · exact h0 (notN_neg hn q1)
    · exact h0 (notN_ge hn ((m1_lt hn q1).mp (q.resolve_left q1)))
theorem nB0 : nB 0 := nB_b2 false
theorem nB1 : nB 1 := nB_b2 true
theorem sM_isTown {sg : MS} {x : Int32} {n : Nat} (hg : sg 4 0 = nI n) (hn : n ≤ 2000) {post : Int32 → Prop} (h1 : ∀ k, k < n → x = nI k → post 1) (h0 : notN x n → post 0) : wM_isTown sg x post := by
  unfold wM_isTown
  rw [hg]
  exact sM_inN hn (fun k a b => ⟨nB1, h1 k a b⟩) (fun a => ⟨nB0, h0 a⟩)
theorem sM_isJudge {sg : MS} {x : Int32} {n : Nat} (hg : sg 4 4 = nI n) (hn : n ≤ 2000) {post : Int32 → Prop} (h1 : ∀ k, k < n → x = nI k → post 1) (h0 : notN x n → post 0) : wM_isJudge sg x post := by
  unfold wM_isJudge
  rw [hg]
  exact sM_inN hn (fun k a b => ⟨nB1, h1 k a b⟩) (fun a => ⟨nB0, h0 a⟩)
theorem sM_isCase {sg : MS} {x : Int32} {n : Nat} (hg : sg 4 5 = nI n) (hn : n ≤ 2000) {post : Int32 → Prop} (h1 : ∀ k, k < n → x = nI k → post 1) (h0 : notN x n → post 0) : wM_isCase sg x post := by
  unfold wM_isCase
  rw [hg]
  exact sM_inN hn (fun k a b => ⟨nB1, h1 k a b⟩) (fun a => ⟨nB0, h0 a⟩)
theorem sM_orNone {sg : MS} {x : Int32} {post : Int32 → Prop} (h : post (orN x)) : wM_orNone sg x post := by
  unfold wM_orNone
  unfold orN at h
  by_cases q : x < 100000
  · rw [if_pos q] at h ⊢; exact h
  · rw [if_neg q] at h ⊢; exact h
/-- rows that a question may write -/
def scr (k : Nat) : Bool := k == 36 || k == 37 || k == 38 || k == 39 || k == 40 || k == 45 || k == 46 || k == 47 || k == 48 || k == 49 || k == 50
/-- what a question leaves -/
def mfr (sg s9 : MS) : Prop := (∀ k, k ≠ 0 → k ≠ 26 → k ≠ 28 → scr k = false → s9 k = sg k) ∧ (∀ j, j ≠ 2 → j ≠ 40 → j ≠ 41 → j ≠ 42 → j ≠ 43 → j ≠ 53 → s9 0 j = sg 0 j) ∧ (∀ i, i < 3 * tn (sg 0 30) → s9 26 i = sg 26 i) ∧ ∀ i, i < 3 * tn (sg 0 32) → s9 28 i = sg 28 i
theorem mfr.rf (sg : MS) : mfr sg sg := ⟨fun _ _ _ _ _ => rfl, fun _ _ _ _ _ _ _ => rfl, fun _ _ => rfl, fun _ _ => rfl⟩
theorem mfr.tr {a b c : MS} (h : mfr a b) (h2 : mfr b c) : mfr a c := by
  obtain ⟨h1, h2', h3, h4⟩ := h
  obtain ⟨g1, g2, g3, g4⟩ := h2
  have e30 := h2' 30 (by decide) (by decide) (by decide) (by decide) (by decide) (by decide)
  have e32 := h2' 32 (by decide) (by decide) (by decide) (by decide) (by decide) (by decide)
  rw [e30] at g3
  rw [e32] at g4
  exact ⟨fun k a b c d => (g1 k a b c d).trans (h1 k a b c d), fun j a b c d e f => (g2 j a b c d e f).trans (h2' j a b c d e f), fun i hi => (g3 i hi).trans (h3 i hi), fun i hi => (g4 i hi).trans (h4 i hi)⟩
theorem mfr.gh (sg : MS) : mfr sg (gh sg) := ⟨fun k h _ _ _ => by rw [gh_k h], fun j _ h1 h2 h3 h4 _ => gh_0 h1 h2 h3 h4, fun i _ => by rw [gh_k (by decide)], fun i _ => by rw [gh_k (by decide)]⟩
theorem mfr.tell {sg s9 : MS} (h : ∀ q, offT2 q → offJ q → s9 q = sg q) : mfr sg s9 := by
  have hs : ∀ k, scr k = false → offT2 k ∧ offJ k := by
    intro k hk
    refine ⟨⟨⟨?_, ?_, ?_, ?_, ?_⟩, ?_, ?_, ?_⟩, ?_, ?_, ?_⟩ <;> (intro e; subst e; cases hk)
  refine ⟨fun k _ _ _ hk => h k (hs k hk).1 (hs k hk).2, fun j _ _ _ _ _ _ => ?_, fun i _ => ?_, fun i _ => ?_⟩
  · rw [h 0 (hs 0 rfl).1 (hs 0 rfl).2]
  · rw [h 26 (hs 26 rfl).1 (hs 26 rfl).2]
  · rw [h 28 (hs 28 rfl).1 (hs 28 rfl).2]
/-- a code is told -/
theorem mfr.code (sg : MS) (x : Int32) : mfr sg (s2 sg 0 2 x) := ⟨fun k h _ _ _ => s2_rowN h, fun j h _ _ _ _ _ => s2_i h, fun i _ => s2_k (by decide), fun i _ => s2_k (by decide)⟩
