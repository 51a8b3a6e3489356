/-! PURE: the model's reader: its state at a token, its small questions -/
set_option maxRecDepth 100000
def rj (i : Nat) : Bool := i == 15 || i == 17 || i == 18 || i == 19 || i == 20
/-- the reader alone changed -/
def fS (sg s9 : MS) : Prop := (∀ k, k ≠ 0 → s9 k = sg k) ∧ ∀ j, rj j = false → s9 0 j = sg 0 j
theorem fS.rf (sg : MS) : fS sg sg := ⟨fun _ _ => rfl, fun _ _ => rfl⟩
theorem fS.tr {sg s1 s2 : MS} (h : fS sg s1) (h2 : fS s1 s2) : fS sg s2 := ⟨fun k hk => (h2.1 k hk).trans (h.1 k hk), fun j hj => (h2.2 j hj).trans (h.2 j hj)⟩
theorem fS.w {sg s1 : MS} {j : Nat} {x : Int32} (h : fS sg s1) (hj : rj j = true) : fS sg (s2 s1 0 j x) := ⟨fun k hk => by rw [s2_rowN hk]; exact h.1 k hk, fun i hi => by rw [s2_i (fun e => by rw [e, hj] at hi; cases hi)]; exact h.2 i hi⟩
def rdT (b : Nat → Nat) (n : Nat) (sg : MS) : Prop := sg 0 16 = nI n ∧ ∀ i, i < n → sg 14 i = nI (b i)
/-- the reader at the token p -/
def rdM (b : Nat → Nat) (n : Nat) (sg : MS) (p : Nat) : Prop := rdT b n sg ∧ sg 0 15 = nI (tEn b n p) ∧ sg 0 19 = nI p ∧ sg 0 20 = nI (tEn b n p) ∧ p ≤ n ∧ sg 0 17 = nI (tKin b n p) ∧ (tKin b n p = 2 → tEn b n p - p ≤ 4 → sg 0 18 = nI (tVl b n p))
/-- a fault noted -/
def wr (sg : MS) (k : Int32) (p : Nat) : MS := s2 (s2 sg 0 21 k) 0 22 (nI p)
section M
variable {b : Nat → Nat} {n p : Nat} {sg : MS}
theorem rdT.f {s9 : MS} (h : rdT b n sg) (f : fS sg s9) : rdT b n s9 := ⟨(f.2 16 rfl).trans h.1, fun i hi => by rw [f.1 14 (by decide)]; exact h.2 i hi⟩
/-- other things changed -/
theorem rdM.f {s9 : MS} (h : rdM b n sg p) (h14 : s9 14 = sg 14) (f : ∀ j, rj j = true ∨ j = 16 → s9 0 j = sg 0 j) : rdM b n s9 p := by
  obtain ⟨⟨h1, h2⟩, h3, h4, h5, h6, h7, h8⟩ := h
  exact ⟨⟨(f 16 (Or.inr rfl)).trans h1, fun i hi => by rw [h14]; exact h2 i hi⟩, (f 15 (Or.inl rfl)).trans h3, (f 19 (Or.inl rfl)).trans h4, (f 20 (Or.inl rfl)).trans h5, h6, (f 17 (Or.inl rfl)).trans h7, fun a c => (f 18 (Or.inl rfl)).trans (h8 a c)⟩
def mB (b : Nat → Nat) (n q : Nat) : Int32 := if q < n then nI (b q) else -1
theorem vl4' {v c : Nat} (h : v ≤ 100000) (h1 : 48 ≤ c) (h2 : c < 256) : (10 : Int32) * nI v + nI c - 48 = nI (10 * v + (c - 48)) := by
  rw [show (10 : Int32) = nI 10 from rfl, show (48 : Int32) = nI 48 from rfl, nI_mul, nI_add, nI_sub (by omega), show 10 * v + c - 48 = 10 * v + (c - 48) by omega]
theorem sM_byteAt (h : rdT b n sg) (ht : tOk b n) {q : Nat} (hq : q ≤ n) {post : Int32 → Prop} (k : post (mB b n q)) : wM_byteAt sg (nI q) post := by
  have hn := ht.1
  unfold wM_byteAt
  unfold mB at k
  rw [h.1]
  by_cases e : q < n
  · rw [if_neg (nI_ge e (by omega))]
    rw [if_pos e] at k
    exact ⟨q, by omega, rfl, by rw [h.2 q e]; exact k⟩
  · rw [if_pos (nI_le (by omega) (by omega))]
    rw [if_neg e] at k
    exact k
theorem sM_isLetter (ht : tOk b n) {q : Nat} {post : Int32 → Prop} (k : post (b2 (tqL b n q))) : wM_isLetter sg (mB b n q) post := by
  unfold mB
  unfold tqL at k
  by_cases e : q < n
  · rw [if_pos e]
    rw [decide_eq_true e, Bool.true_and] at k
    exact sX_isLetter (ad := id) (T := id) (L := id) (V := fun _ _ _ => 0) (P := fun _ _ => none) (ht.2 q) k
  · rw [if_neg e]
    rw [decide_eq_false e, Bool.false_and] at k
    unfold wM_isLetter
    rw [if_pos (by decide)]
    exact k
theorem sM_isDigit (ht : tOk b n) {q : Nat} {post : Int32 → Prop} (k : post (b2 (tqD b n q))) : wM_isDigit sg (mB b n q) post := by
  unfold mB
  unfold tqD at k
  by_cases e : q < n
  · rw [if_pos e]
    rw [decide_eq_true e, Bool.true_and] at k
    exact sX_isDigit (ad := id) (T := id) (L := id) (V := fun _ _ _ => 0) (P := fun _ _ => none) (ht.2 q) k
  · rw [if_neg e]
    rw [decide_eq_false e, Bool.false_and] at k
    unfold wM_isDigit
    rw [if_pos (by decide)]
    exact k
theorem sM_step0 (ht : tOk b n) {post ke : MS → Prop} : ∀ (m q : Nat) (sg : MS), q + m = n → rdT b n sg → sg 0 15 = nI q → (∀ s9, fS sg s9 → s9 0 15 = nI (tSkp b n q) → ke s9) → lM_stepOn_0 post ke (m + 1) sg := by
  have hn6 := ht.1
  have hend : ∀ (q : Nat) (sg : MS), sg 0 15 = nI q → tqW b n q = false → (∀ s9, fS sg s9 → s9 0 15 = nI (tSkp b n q) → ke s9) → ke sg := fun q sg h2 hq k => k sg (fS.rf sg) (by unfold tSkp; rw [tRun_f hq]; exact h2)
  intro m
  induction m with
  | zero =>
    intro q sg hq hT h2 k
    unfold lM_stepOn_0
    rw [h2]
    refine sM_byteAt hT ht (by omega) ?_
    have e : mB b n q = -1 := if_neg (by omega)
    rw [e, if_neg (by decide)]
    refine sM_byteAt hT ht (by omega) ?_
    rw [e, if_neg (by decide)]
    exact hend q sg h2 (decide_eq_false (by omega)) k
  | succ m ih =>
    intro q sg hq hT h2 k
    have hqn : q < n := by omega
    have hc := ht.2 q
    have e : mB b n q = nI (b q) := if_pos hqn
    have step : tqW b n q = true → jM_stepOn_26 sg post (lM_stepOn_0 post ke (m + 1)) := fun hw => by
      unfold jM_stepOn_26
      have f1 : fS sg (s2 sg 0 15 (sg 0 15 + 1)) := (fS.rf sg).w rfl
      refine ih (q + 1) _ (by omega) (hT.f f1) (by rw [s2_s, h2, nI_1]) (fun s9 a1 a2 => k s9 (f1.tr a1) ?_)
      rw [a2]
      unfold tSkp
      rw [tRun_t hqn hw]
    unfold lM_stepOn_0
    rw [h2]
    refine sM_byteAt hT ht (by omega) ?_
    rw [e]
    by_cases e1 : b q = 32
    · rw [if_pos (by rw [e1]; rfl)]
      exact step (decide_eq_true ⟨hqn, Or.inl e1⟩)
    · rw [if_neg (show ¬ nI (b q) = 32 from fun e => e1 ((nI_eq (b := 32) (by omega) (by omega)).mp e))]
      refine sM_byteAt hT ht (by omega) ?_
      rw [e]
      by_cases e2 : b q = 10
      · rw [if_pos (by rw [e2]; rfl)]
        exact step (decide_eq_true ⟨hqn, Or.inr e2⟩)
      · rw [if_neg (show ¬ nI (b q) = 10 from fun e => e2 ((nI_eq (b := 10) (by omega) (by omega)).mp e))]
        exact hend q sg h2 (decide_eq_false (fun h => by rcases h.2 with h | h; exact e1 h; exact e2 h)) k
theorem sM_stepL (ht : tOk b n) {post ke : MS → Prop} : ∀ (m q : Nat) (sg : MS), q + m = n → rdT b n sg → sg 0 15 = nI q → (∀ s9, fS sg s9 → s9 0 15 = nI (tRun (tqL b n) (n - q) q) → (∀ j, j ≠ 15 → s9 0 j = sg 0 j) → ke s9) → lM_stepOn_76 post ke (m + 1) sg := by
  have hn6 := ht.1
  intro m
  induction m with
  | zero =>
    intro q sg hq hT h2 k
    unfold lM_stepOn_76
    rw [h2]
    have e : tqL b n q = false := by unfold tqL; rw [decide_eq_false (by omega)]; rfl
    refine sM_byteAt hT ht (by omega) (sM_isLetter ht ?_)
    rw [e, if_pos (show b2 false = 0 from rfl)]
    exact k sg (fS.rf sg) (by rw [tRun_f e]; exact h2) (fun _ _ => rfl)
  | succ m ih =>
    intro q sg hq hT h2 k
    unfold lM_stepOn_76
    rw [h2]
    refine sM_byteAt hT ht (by omega) (sM_isLetter ht ?_)
    cases e : tqL b n q with
    | false =>
      rw [if_pos (show b2 false = 0 from rfl)]
      exact k sg (fS.rf sg) (by rw [tRun_f e]; exact h2) (fun _ _ => rfl)
    | true =>
      rw [if_neg (show ¬ b2 true = 0 by decide)]
      have f1 : fS sg (s2 sg 0 15 (nI q + 1)) := (fS.rf sg).w rfl
      refine ih (q + 1) _ (by omega) (hT.f f1) (by rw [s2_s, nI_1]) (fun s9 a1 a2 a3 => k s9 (f1.tr a1) ?_ (fun j hj => (a3 j hj).trans (s2_i hj)))
      rw [a2, tRun_t (by omega) e]
theorem sM_stepD (ht : tOk b n) {post ke : MS → Prop} : ∀ (m q v : Nat) (sg : MS), q + m = n → p ≤ q → rdT b n sg → sg 0 15 = nI q → sg 0 18 = nI v → v ≤ 100000 → (q - p ≤ 4 → v = tVlN b p (q - p)) → (∀ i, p ≤ i → i < q → tDg (b i) = true) → (∀ s9, fS sg s9 → s9 0 15 = nI (tRun (tqD b n) (n - q) q) → (tRun (tqD b n) (n - q) q - p ≤ 4 → s9 0 18 = nI (tVlN b p (tRun (tqD b n) (n - q) q - p))) → (∀ j, j ≠ 15 → j ≠ 18 → s9 0 j = sg 0 j) → ke s9) → lM_stepOn_123 post ke (m + 1) sg := by
  have hn6 := ht.1
  intro m
  induction m with
  | zero =>
    intro q v sg hq hpq hT h2 h3 h4 h5 hd k
    unfold lM_stepOn_123
    rw [h2]
    have e : tqD b n q = false := by unfold tqD; rw [decide_eq_false (by omega)]; rfl
    refine sM_byteAt hT ht (by omega) (sM_isDigit ht ?_)
    rw [e, if_pos (show b2 false = 0 from rfl)]
    exact k sg (fS.rf sg) (by rw [tRun_f e]; exact h2) (by rw [tRun_f e]; intro q4; rw [h3, h5 q4]) (fun _ _ _ => rfl)
  | succ m ih =>
    intro q v sg hq hpq hT h2 h3 h4 h5 hd k
    unfold lM_stepOn_123
    rw [h2]
    refine sM_byteAt hT ht (by omega) (sM_isDigit ht ?_)
    cases e : tqD b n q with
    | false =>
      rw [if_pos (show b2 false = 0 from rfl)]
      exact k sg (fS.rf sg) (by rw [tRun_f e]; exact h2) (by rw [tRun_f e]; intro q4; rw [h3, h5 q4]) (fun _ _ _ => rfl)
    | true =>
      rw [if_neg (show ¬ b2 true = 0 by decide)]
      have hqn : q < n := by omega
      have hdg : tDg (b q) = true := by unfold tqD at e; exact (Bool.and_eq_true_iff.mp e).2
      have hdc := of_decide_eq_true hdg
      refine sM_byteAt hT ht (by omega) ?_
      have eB : mB b n q = nI (b q) := if_pos hqn
      rw [eB, h3, vl4' h4 hdc.1 (ht.2 q)]
      obtain ⟨v2, hv2, hv3, hv4⟩ : ∃ v2, (if nI (10 * v + (b q - 48)) < 100000 then nI (10 * v + (b q - 48)) else 100000) = nI v2 ∧ v2 ≤ 100000 ∧ (10 * v + (b q - 48) < 100000 → v2 = 10 * v + (b q - 48)) := by
        by_cases hh : 10 * v + (b q - 48) < 100000
        · rw [if_pos (show nI (10 * v + (b q - 48)) < 100000 from nI_lt (b := 100000) hh (by decide))]
          exact ⟨_, rfl, by omega, fun _ => rfl⟩
        · rw [if_neg (show ¬ nI (10 * v + (b q - 48)) < 100000 from nI_nlt (b := 100000) (by omega) (by omega))]
          exact ⟨100000, rfl, Nat.le_refl _, fun q => absurd q hh⟩
      rw [hv2]
      have f1 : fS sg (s2 (s2 sg 0 18 (nI v2)) 0 15 (s2 sg 0 18 (nI v2) 0 15 + 1)) := ((fS.rf sg).w rfl).w rfl
      have hd1 : ∀ i, p ≤ i → i < q + 1 → tDg (b i) = true := fun i h1 h2 => by
        by_cases ei : i = q
        · rw [ei]; exact hdg
        · exact hd i h1 (by omega)
      refine ih (q + 1) v2 _ (by omega) (by omega) (hT.f f1) (by rw [s2_s, s2_i (by decide), h2, nI_1]) (by rw [s2_i (by decide), s2_s]) hv3 (fun q4 => ?_) hd1 (fun s9 a1 a2 a3 a4 => k s9 (f1.tr a1) ?_ ?_ (fun j hj hj2 => (a4 j hj hj2).trans (by rw [s2_i hj, s2_i hj2])))
      · have e5 := h5 (by omega)
        have hv := t9vlN_lt (b := b) (p := p) (q - p) (fun i hi => hd (p + i) (by omega) (by omega))
        have hvp : (10 : Nat) ^ (q - p) ≤ 10 ^ 4 := Nat.pow_le_pow_right (by decide) (by omega)
        have es : tVlN b p (q + 1 - p) = 10 * tVlN b p (q - p) + (b q - 48) := by
          rw [show q + 1 - p = q - p + 1 by omega, tVlN_s, show p + (q - p) = q by omega]
        rw [es, ← e5]
        by_cases e4 : q - p ≤ 3
        · have hvp3 : (10 : Nat) ^ (q - p) ≤ 10 ^ 3 := Nat.pow_le_pow_right (by decide) e4
          exact hv4 (by omega)
        · omega
      · rw [a2, tRun_t hqn e]
      · rw [tRun_t hqn e]; exact a3
end M
