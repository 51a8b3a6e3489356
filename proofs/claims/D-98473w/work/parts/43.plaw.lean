/-! PURE: the law's rows of signs, what the model makes of them -/
set_option maxRecDepth 100000
def rk (x a b : Int32) : Int32 := if x = -26 then (if a = 0 then 0 else if b = 0 then 0 else 1) else if x = -25 then (if a = b then 1 else 0) else if x = -24 then (if b ≤ a then 0 else 1) else if x = -23 then (if b = 0 then 0 else a / b) else if x = -22 then a * b else if x = -21 then a - b else if x = -20 then a + b else (if a = 0 then (if b = 0 then 0 else 1) else 1)
def opOk (x : Int32) : Prop := x = -20 ∨ x = -21 ∨ x = -22 ∨ x = -23 ∨ x = -24 ∨ x = -25 ∨ x = -26 ∨ x = -27
/-- a row of signs, to the depth d: what it needs of the stack, what it is worth -/
def exprM : Nat → List Int32 → Nat → ((Nat → Int32) → Int32) → Prop
  | 0, _, _, _ => False
  | d + 1, l, n, f => (∃ k : Nat, k ≤ 9999 ∧ l = [nI k] ∧ 1 ≤ n ∧ f = fun _ => nI k) ∨ (∃ k : Nat, k < 5 ∧ l = [-1 - nI k] ∧ 1 ≤ n ∧ f = fun as => as k) ∨
    (∃ l1 f1, exprM d l1 n f1 ∧ l = l1 ++ [-28] ∧ f = fun as => if f1 as = 0 then 1 else 0) ∨
    (∃ l1 l2 f1 f2 n2 x, exprM d l1 n f1 ∧ exprM d l2 n2 f2 ∧ n2 + 1 ≤ n ∧ l = l1 ++ (l2 ++ [x]) ∧ opOk x ∧ f = fun as => rk x (f1 as) (f2 as))
theorem exprM_congr {as bs : Nat → Int32} (h : ∀ k, k < 5 → as k = bs k) : ∀ (d : Nat) (l : List Int32) (n : Nat) (f : (Nat → Int32) → Int32), exprM d l n f → f as = f bs
  | 0, _, _, _, he => he.elim
  | d + 1, l, n, f, he => by
    rcases he with ⟨k, -, -, -, rfl⟩ | ⟨k, hk, -, -, rfl⟩ | ⟨l1, f1, h1, -, rfl⟩ | ⟨l1, l2, f1, f2, n2, x, h1, h2, -, -, -, rfl⟩
    · rfl
    · exact h k hk
    · show (if f1 as = 0 then (1 : Int32) else 0) = if f1 bs = 0 then 1 else 0
      rw [exprM_congr h d _ _ _ h1]
    · show rk x (f1 as) (f2 as) = rk x (f1 bs) (f2 bs)
      rw [exprM_congr h d _ _ _ h1, exprM_congr h d _ _ _ h2]
theorem sM_reckon {sg : MS} {x a b : Int32} {post : Int32 → Prop} (h : post (rk x a b)) : wM_reckon sg x a b post := by
  unfold wM_reckon
  unfold rk at h
  by_cases h1 : x = -26
  · rw [if_pos h1] at h ⊢
    by_cases g1 : a = 0
    · rw [if_pos g1] at h ⊢; exact h
    · rw [if_neg g1] at h ⊢
      by_cases g2 : b = 0
      · rw [if_pos g2] at h ⊢; exact h
      · rw [if_neg g2] at h ⊢; exact h
  rw [if_neg h1] at h ⊢
  by_cases h1 : x = -25
  · rw [if_pos h1] at h ⊢
    by_cases g1 : a = b
    · rw [if_pos g1] at h ⊢; exact h
    · rw [if_neg g1] at h ⊢; exact h
  rw [if_neg h1] at h ⊢
  by_cases h1 : x = -24
  · rw [if_pos h1] at h ⊢
    by_cases g1 : b ≤ a
    · rw [if_pos g1] at h ⊢; exact h
    · rw [if_neg g1] at h ⊢; exact h
  rw [if_neg h1] at h ⊢
  by_cases h1 : x = -23
  · rw [if_pos h1] at h ⊢
    by_cases g1 : b = 0
    · rw [if_pos g1] at h ⊢; exact h
    · rw [if_neg g1] at h ⊢; exact ⟨g1, h⟩
  rw [if_neg h1] at h ⊢
  by_cases h1 : x = -22
  · rw [if_pos h1] at h ⊢; exact h
  rw [if_neg h1] at h ⊢
  by_cases h1 : x = -21
  · rw [if_pos h1] at h ⊢; exact h
  rw [if_neg h1] at h ⊢
  by_cases h1 : x = -20
  · rw [if_pos h1] at h ⊢; exact h
  rw [if_neg h1] at h ⊢
  by_cases g1 : a = 0
  · rw [if_pos g1] at h ⊢
    by_cases g2 : b = 0
    · rw [if_pos g2] at h ⊢; exact h
    · rw [if_neg g2] at h ⊢; exact h
  · rw [if_neg g1] at h ⊢; exact h
def sigL (D : MS) : List Int32 := (List.range (nS D)).map (D 12)
theorem sigL_len (D : MS) : (sigL D).length = nS D := by simp [sigL]
theorem getD_app1 {l l2 : List Int32} {i : Nat} (h : i < l.length) : (l ++ l2).getD i 0 = l.getD i 0 := by
  rw [List.getD_eq_getElem?_getD, List.getD_eq_getElem?_getD, List.getElem?_append_left h]
theorem getD_app2 {l l2 : List Int32} {i : Nat} : (l ++ l2).getD (l.length + i) 0 = l2.getD i 0 := by
  rw [List.getD_eq_getElem?_getD, List.getD_eq_getElem?_getD, List.getElem?_append_right (by omega), Nat.add_sub_cancel_left]
theorem getD_last {l : List Int32} {x : Int32} : (l ++ [x]).getD l.length 0 = x := by simp
theorem exprM_pos : ∀ (d : Nat) (l : List Int32) (n : Nat) (f : (Nat → Int32) → Int32), exprM d l n f → 1 ≤ n
  | 0, _, _, _, he => he.elim
  | d + 1, l, n, f, he => by
    rcases he with ⟨k, -, -, h, -⟩ | ⟨k, -, -, h, -⟩ | ⟨l1, f1, h1, -, -⟩ | ⟨l1, l2, f1, f2, n2, x, h1, h2, h3, -⟩
    · exact h
    · exact h
    · exact exprM_pos d _ _ _ h1
    · omega
theorem nI_p2 {m : Nat} : nI (m + 2) + -1 = nI (m + 1) := by
  rw [show m + 2 = m + 1 + 1 from rfl, ← nI_1, Int32.add_assoc, show (1 : Int32) + -1 = 0 by decide, Int32.add_zero]
theorem run_expr {D : MS} (hL : lndOk D) {post : Int32 → MS → Prop} {ke : MS → Prop} : ∀ (d : Nat) (l : List Int32) (n : Nat) (f : (Nat → Int32) → Int32), exprM d l n f → ∀ (pos m F : Nat) (sg : MS), inp sg D → m + n ≤ 64 → pos + l.length ≤ nS D → (∀ i, i < l.length → D 12 (pos + i) = l.getD i 0) →
    (∀ s9 : MS, (∀ q, q ≠ 37 → s9 q = sg q) → (∀ i, i < m → s9 37 i = sg 37 i) → s9 37 m = f (sg 36) → lM_valueNow_4 post ke F (nI (m + 1)) (nI (pos + l.length)) s9) → lM_valueNow_4 post ke (F + l.length) (nI m) (nI pos) sg
  | 0, _, _, _, he => he.elim
  | d + 1, l, n, f, he => by
    intro pos m F sg hI hn hp hl kk
    obtain ⟨hS, hS6⟩ := hL.2.2.2.1
    rcases he with ⟨k, hk, rfl, h1, rfl⟩ | ⟨k, hk, rfl, h1, rfl⟩ | ⟨l1, f1, h1, rfl, rfl⟩ | ⟨l1, l2, f1, f2, n2, x, h1, h2, h3, rfl, hx, rfl⟩
    · have hp1 : pos + 1 ≤ nS D := hp
      show lM_valueNow_4 post ke (F + 1) (nI m) (nI pos) sg
      unfold lM_valueNow_4 jM_valueNow_49 jM_valueNow_118
      have e := hl 0 (show 0 < 1 by decide)
      rw [Nat.add_zero] at e
      rw [hI.a (k := 4) rfl, hS, if_neg (nI_ge (show pos < nS D by omega) (by omega))]
      refine ⟨pos, by omega, rfl, ?_⟩
      rw [hI.a (k := 12) rfl, e]
      show if nI k ≤ -20 then _ else if nI k < 0 then _ else _
      rw [if_neg (fun h => nI_pos (show k < 2 ^ 31 by omega) (Int32.lt_of_le_of_lt h (by decide))), if_neg (nI_pos (by omega))]
      refine ⟨m, by omega, rfl, ?_⟩
      rw [nI_1, nI_1]
      exact kk _ (fun q hq => s2_rowN hq) (fun i hi => s2_i (by omega)) s2_s
    · have hp1 : pos + 1 ≤ nS D := hp
      show lM_valueNow_4 post ke (F + 1) (nI m) (nI pos) sg
      unfold lM_valueNow_4 jM_valueNow_49 jM_valueNow_118
      have e := hl 0 (show 0 < 1 by decide)
      rw [Nat.add_zero] at e
      rw [hI.a (k := 4) rfl, hS, if_neg (nI_ge (show pos < nS D by omega) (by omega))]
      refine ⟨pos, by omega, rfl, ?_⟩
      rw [hI.a (k := 12) rfl, e]
      show if (-1 : Int32) - nI k ≤ -20 then _ else if (-1 : Int32) - nI k < 0 then _ else _
      have ek : ¬ (-1 : Int32) - nI k ≤ -20 ∧ (-1 : Int32) - nI k < 0 ∧ (-1 : Int32) - ((-1 : Int32) - nI k) = nI k := by
        rcases (show k = 0 ∨ k = 1 ∨ k = 2 ∨ k = 3 ∨ k = 4 by omega) with h | h | h | h | h <;> subst h <;> decide
      rw [if_neg ek.1, if_pos ek.2.1]
      refine ⟨k, hk, ek.2.2, m, by omega, rfl, ?_⟩
      rw [nI_1, nI_1]
      exact kk _ (fun q hq => s2_rowN hq) (fun i hi => s2_i (by omega)) s2_s
    · have hlen : (l1 ++ [-28]).length = l1.length + 1 := by simp
      rw [hlen] at hp hl kk ⊢
      rw [show F + (l1.length + 1) = F + 1 + l1.length by omega]
      refine run_expr hL d l1 n f1 h1 pos m (F + 1) sg hI hn (by omega) (fun i hi => by rw [hl i (by omega), getD_app1 hi]) (fun s9 g1 g2 g3 => ?_)
      have hI9 : inp s9 D := hI.tr (fun q hq => g1 q (fun e => by subst e; rcases hq with h | h <;> cases h))
      unfold lM_valueNow_4 jM_valueNow_85 jM_valueNow_118
      have e := hl l1.length (by omega)
      rw [getD_last] at e
      rw [hI9.a (k := 4) rfl, hS, if_neg (nI_ge (show pos + l1.length < nS D by omega) (by omega))]
      refine ⟨pos + l1.length, by omega, rfl, ?_⟩
      rw [hI9.a (k := 12) rfl, e, if_pos (by decide), if_pos rfl, nI_pred]
      have hn1 := exprM_pos d _ _ _ h1
      refine ⟨m, by omega, rfl, ?_⟩
      by_cases h0 : s9 37 m = 0
      · rw [if_pos h0]
        refine ⟨m, by omega, rfl, ?_⟩
        rw [nI_1]
        refine kk _ (fun q hq => by rw [s2_rowN hq]; exact g1 q hq) (fun i hi => by rw [s2_i (by omega)]; exact g2 i hi) ?_
        rw [s2_s]
        show (1 : Int32) = if f1 (sg 36) = 0 then 1 else 0
        rw [if_pos (by rw [← g3]; exact h0)]
      · rw [if_neg h0]
        refine ⟨m, by omega, rfl, ?_⟩
        rw [nI_1]
        refine kk _ (fun q hq => by rw [s2_rowN hq]; exact g1 q hq) (fun i hi => by rw [s2_i (by omega)]; exact g2 i hi) ?_
        rw [s2_s]
        show (0 : Int32) = if f1 (sg 36) = 0 then 1 else 0
        rw [if_neg (by rw [← g3]; exact h0)]
    · have hlen : (l1 ++ (l2 ++ [x])).length = l1.length + (l2.length + 1) := by simp
      rw [hlen] at hp hl kk ⊢
      rw [show F + (l1.length + (l2.length + 1)) = F + 1 + l2.length + l1.length by omega]
      refine run_expr hL d l1 n f1 h1 pos m (F + 1 + l2.length) sg hI hn (by omega) (fun i hi => by rw [hl i (by omega), getD_app1 hi]) (fun s9 g1 g2 g3 => ?_)
      have hI9 : inp s9 D := hI.tr (fun q hq => g1 q (fun e => by subst e; rcases hq with h | h <;> cases h))
      refine run_expr hL d l2 n2 f2 h2 (pos + l1.length) (m + 1) (F + 1) s9 hI9 (by omega) (by omega) (fun i hi => by rw [Nat.add_assoc, hl (l1.length + i) (by omega), getD_app2, getD_app1 hi]) (fun s8 k1 k2 k3 => ?_)
      have hI8 : inp s8 D := hI9.tr (fun q hq => k1 q (fun e => by subst e; rcases hq with h | h <;> cases h))
      unfold lM_valueNow_4 jM_valueNow_118
      have e := hl (l1.length + l2.length) (by omega)
      rw [show (l1 ++ (l2 ++ [x])).getD (l1.length + l2.length) 0 = x by rw [getD_app2, getD_last]] at e
      rw [hI8.a (k := 4) rfl, hS, if_neg (nI_ge (show pos + l1.length + l2.length < nS D by omega) (by omega))]
      refine ⟨pos + l1.length + l2.length, by omega, rfl, ?_⟩
      have ex : x ≤ -20 ∧ ¬ x = -28 := by
        rcases hx with h | h | h | h | h | h | h | h <;> subst h <;> decide
      rw [hI8.a (k := 12) rfl, Nat.add_assoc, e, if_pos ex.1, if_neg ex.2, nI_p2, nI_pred]
      have hn2 := exprM_pos d _ _ _ h2
      refine ⟨m, by omega, rfl, m + 1, by omega, rfl, ?_⟩
      refine sM_reckon ?_
      refine ⟨m, by omega, rfl, ?_⟩
      rw [nI_1]
      rw [show pos + (l1.length + (l2.length + 1)) = pos + (l1.length + l2.length) + 1 by omega] at kk
      refine kk _ (fun q hq => by rw [s2_rowN hq, k1 q hq]; exact g1 q hq) (fun i hi => by rw [s2_i (by omega), k2 i (by omega)]; exact g2 i hi) ?_
      rw [s2_s, k2 m (by omega), g3, k3, g1 36 (by decide)]
/-- the law in the model's signs, worth lw -/
def lawM (D : MS) (lw : (Nat → Int32) → Int32) : Prop := nS D = 0 ∨ ∃ d n, n ≤ 64 ∧ exprM d (sigL D) n lw
theorem sM_valueNow {sg D : MS} {lw : (Nat → Int32) → Int32} (hI : inp sg D) (hL : lndOk D) {d n : Nat} (hn : n ≤ 64) (he : exprM d (sigL D) n lw) {post : Int32 → MS → Prop} (h : ∀ s9 : MS, (∀ q, q ≠ 37 → s9 q = sg q) → post (lw (sg 36)) s9) : wM_valueNow sg post := by
  unfold wM_valueNow
  obtain ⟨hS, hS6⟩ := hL.2.2.2.1
  refine ⟨1 + (sigL D).length, ?_⟩
  have hlen := sigL_len D
  refine run_expr hL d (sigL D) n lw he 0 0 1 sg hI (by omega) (by omega) (fun i hi => ?_) (fun s9 g1 _ g3 => ?_)
  · rw [Nat.zero_add, List.getD_eq_getElem?_getD]
    unfold sigL
    rw [List.getElem?_map, List.getElem?_range (by omega)]
    rfl
  · have hI9 : inp s9 D := hI.tr (fun q hq => g1 q (fun e => by subst e; rcases hq with h | h <;> cases h))
    unfold lM_valueNow_4
    rw [hI9.a (k := 4) rfl, hS, if_pos (nI_le (by omega) (by omega)), g3]
    exact h s9 g1
/-- what a judge hears of a case -/
def askd (D S : MS) (c j t : Nat) (d : Int32) : Nat → Int32
  | 0 => D 11 (9 * c + t)
  | 1 => D 8 j
  | 2 => d
  | 3 => nI t
  | _ => pAhead D (S 0) (S 1) c d
def pHolds (D : MS) (lw : (Nat → Int32) → Int32) (S : MS) (c j t : Nat) (d : Int32) : Bool := (if nS D = 0 then decide (¬ D 11 (9 * c + t) ≤ 4) else decide (¬ lw (askd D S c j t d) ≤ 0)) != decide (D 6 j = 2)
theorem sM_holds {sg D S : MS} {lw : (Nat → Int32) → Int32} (hI : inp sg D) (hL : lndOk D) (hw : lawM D lw) {c j t : Nat} (hc : c < nC D) (hj : j < nJ D) (ht : t < nT D) {d : Int32} (hS : pAhead D (sg 45) (sg 46) c d = pAhead D (S 0) (S 1) c d) {post : Int32 → MS → Prop} (h : ∀ s9 : MS, (∀ q, q ≠ 36 → q ≠ 37 → s9 q = sg q) → post (b2 (pHolds D lw S c j t d)) s9) : wM_holds sg (nI c) (nI j) (nI t) d post := by
  have hC6 := hL.2.2.1.2
  have hT9 := hL.1.2
  have hJ5 := hL.2.1.2
  obtain ⟨hSn, hS6⟩ := hL.2.2.2.1
  have fin : ∀ (s9 : MS) (g : Bool), (∀ q, q ≠ 36 → q ≠ 37 → s9 q = sg q) → pHolds D lw S c j t d = (g != decide (D 6 j = 2)) → jM_holds_98 s9 (nI j) (b2 g) post := by
    intro s9 g g1 g2
    have hp := h s9 g1
    rw [g2] at hp
    have hI9 : inp s9 D := hI.tr (fun q hq => g1 q (fun e => by subst e; rcases hq with h | h <;> cases h) (fun e => by subst e; rcases hq with h | h <;> cases h))
    unfold jM_holds_98 jM_holds_115
    refine ⟨j, by omega, rfl, ?_⟩
    rw [hI9.a (k := 6) rfl]
    by_cases h2 : D 6 j = 2
    · rw [if_pos h2]
      rw [show decide (D 6 j = 2) = true from decide_eq_true h2] at hp
      cases g
      · exact hp
      · exact hp
    · rw [if_neg h2]
      rw [show decide (D 6 j = 2) = false from decide_eq_false h2] at hp
      cases g
      · exact hp
      · exact hp
  have mid : ∀ g : Bool, g = decide (¬ D 11 (9 * c + t) ≤ 4) → jM_holds_24 sg (nI c) (nI j) (nI t) d (D 11 (9 * c + t)) (b2 g) post := by
    intro g hg
    unfold jM_holds_24
    rw [hI.a (k := 4) rfl, hSn]
    by_cases h0 : nS D = 0
    · rw [if_pos (by rw [h0]; decide)]
      refine fin sg g (fun _ _ _ => rfl) ?_
      unfold pHolds
      rw [if_pos h0, hg]
    · rw [if_neg (nI_nle (by omega) (by omega))]
      obtain ⟨dd, n, hn, he⟩ := hw.resolve_left h0
      refine ⟨j, by omega, rfl, ?_⟩
      rw [s2_k (show (8 : Nat) ≠ 36 by decide), hI.a (k := 8) rfl]
      have w36 : ∀ (s : MS) (i : Nat) (x : Int32), inp s D → inp (s2 s 36 i x) D := fun s i x hs => hs.w ⟨rfl, by decide⟩
      refine sM_saidAhead (D := D) (w36 _ _ _ (w36 _ _ _ (w36 _ _ _ (w36 _ _ _ hI)))) hL hc ?_
      rw [s2_rowN (show (45 : Nat) ≠ 36 by decide), s2_rowN (show (45 : Nat) ≠ 36 by decide), s2_rowN (show (45 : Nat) ≠ 36 by decide), s2_rowN (show (45 : Nat) ≠ 36 by decide), s2_rowN (show (46 : Nat) ≠ 36 by decide), s2_rowN (show (46 : Nat) ≠ 36 by decide), s2_rowN (show (46 : Nat) ≠ 36 by decide), s2_rowN (show (46 : Nat) ≠ 36 by decide), hS]
      refine sM_valueNow (D := D) (w36 _ _ _ (w36 _ _ _ (w36 _ _ _ (w36 _ _ _ (w36 _ _ _ hI))))) hL hn he (fun s9 g1 => ?_)
      have hs9 : ∀ q, q ≠ 36 → q ≠ 37 → s9 q = sg q := fun q h1 h2 => by rw [g1 q h2, s2_rowN h1, s2_rowN h1, s2_rowN h1, s2_rowN h1, s2_rowN h1]
      have elw : lw (s2 (s2 (s2 (s2 (s2 sg 36 0 (D 11 (9 * c + t))) 36 1 (D 8 j)) 36 2 d) 36 3 (nI t)) 36 4 (pAhead D (S 0) (S 1) c d) 36) = lw (askd D S c j t d) := by
        refine exprM_congr (fun k hk => ?_) dd _ n _ he
        rcases (show k = 0 ∨ k = 1 ∨ k = 2 ∨ k = 3 ∨ k = 4 by omega) with h | h | h | h | h <;> subst h
        · rw [s2_i (by decide), s2_i (by decide), s2_i (by decide), s2_i (by decide), s2_s]; rfl
        · rw [s2_i (by decide), s2_i (by decide), s2_i (by decide), s2_s]; rfl
        · rw [s2_i (by decide), s2_i (by decide), s2_s]; rfl
        · rw [s2_i (by decide), s2_s]; rfl
        · rw [s2_s]; rfl
      rw [elw]
      unfold jM_holds_96
      by_cases h1 : lw (askd D S c j t d) ≤ 0
      · rw [if_pos h1]
        refine fin s9 false hs9 ?_
        unfold pHolds
        rw [if_neg h0, show decide (¬ lw (askd D S c j t d) ≤ 0) = false from decide_eq_false (fun q => q h1)]
      · rw [if_neg h1]
        refine fin s9 true hs9 ?_
        unfold pHolds
        rw [if_neg h0, show decide (¬ lw (askd D S c j t d) ≤ 0) = true from decide_eq_true h1]
  unfold wM_holds
  refine ⟨9 * c + t, by omega, ix9 c t, ?_⟩
  rw [hI.a (k := 11) rfl]
  by_cases h4 : D 11 (9 * c + t) ≤ 4
  · rw [if_pos h4]
    exact mid false (decide_eq_false (fun q => q h4)).symm
  · rw [if_neg h4]
    exact mid true (decide_eq_true h4).symm
