/-! PURE: the class's things against the ghost; a trial's stops, feasts, what was said ahead -/
set_option maxRecDepth 100000
theorem up3_a {V : w_V} {a k i : Nat} {x : Int32} : up3 V a k i x a = s2 (V a) k i x := up1_s
theorem up3_n {V : w_V} {a b k i : Nat} {x : Int32} (h : b ≠ a) : up3 V a k i x b = V b := up1_n h
def lstR (T L : Nat → Nat) (V : w_V) (P : w_P) (l ar n : Nat) : Prop := T l = 16 ∧ V l 0 2 = nI n ∧ P l 1 = some ar ∧ T ar = 2004 ∧ n ≤ L ar ∧ L ar < 2147483648
def jdgR (T L : Nat → Nat) (V : w_V) (P : w_P) (a : Nat) (D : MS) (j : Nat) : Prop := ((D 6 j = 0 ∧ T a = 13) ∨ (D 6 j = 1 ∧ T a = 14) ∨ (D 6 j = 2 ∧ T a = 15)) ∧ V a 0 1 = D 8 j ∧ ∃ r, P a 2 = some r ∧ T r = 1000 ∧ L r = stp D j ∧ ∀ i, i < stp D j → V r 0 i = D 10 (7 * j + i)
def casR (T L : Nat → Nat) (V : w_V) (a : Nat) (D : MS) (c : Nat) : Prop := T a = 1000 ∧ L a = 9 ∧ ∀ t, t < 9 → V a 0 t = D 11 (9 * c + t)
def opC (a x : Int32) : Prop := (a = 38 ∧ x = -26) ∨ (a = 42 ∧ x = -22) ∨ (a = 43 ∧ x = -20) ∨ (a = 45 ∧ x = -21) ∨ (a = 47 ∧ x = -23) ∨ (a = 60 ∧ x = -24) ∨ (a = 61 ∧ x = -25) ∨ (a = 124 ∧ x = -27)
/-- the tree at a, of depth d at most: its row of signs, what it needs of the stack, what it is worth -/
def exprR (ad : Nat → Nat) (T : Nat → Nat) (V : w_V) (P : w_P) : Nat → Nat → List Int32 → Nat → ((Nat → Int32) → Int32) → Prop
  | 0, _, _, _, _ => False
  | d + 1, a, l, n, f => (T a = 9 ∧ ∃ k : Nat, k ≤ 9999 ∧ V a 0 0 = nI k ∧ l = [nI k] ∧ 1 ≤ n ∧ f = fun _ => nI k) ∨ (T a = 10 ∧ ∃ k : Nat, k < 5 ∧ P a 0 = some (ad k) ∧ l = [-1 - nI k] ∧ 1 ≤ n ∧ f = fun as => as k) ∨
    (T a = 12 ∧ ∃ b l1 f1, P a 0 = some b ∧ exprR ad T V P d b l1 n f1 ∧ l = l1 ++ [-28] ∧ f = fun as => if f1 as = 0 then 1 else 0) ∨
    (T a = 11 ∧ ∃ b c l1 l2 f1 f2 n2 x, P a 1 = some b ∧ P a 2 = some c ∧ exprR ad T V P d b l1 n f1 ∧ exprR ad T V P d c l2 n2 f2 ∧ n2 + 1 ≤ n ∧ l = l1 ++ (l2 ++ [x]) ∧ opC (V a 0 0) x ∧ f = fun as => rk x (f1 as) (f2 as))
def lawR (ad : Nat → Nat) (T : Nat → Nat) (V : w_V) (P : w_P) (o : Option Nat) (D : MS) (lw : (Nat → Int32) → Int32) : Prop := (o = none ∧ nS D = 0) ∨ ∃ a d n, o = some a ∧ 0 < nS D ∧ d ≤ 620 ∧ n ≤ 64 ∧ exprR ad T V P d a (sigL D) n lw
theorem exprR.M {ad : Nat → Nat} {T : Nat → Nat} {V : w_V} {P : w_P} : ∀ (d a : Nat) (l : List Int32) (n : Nat) (f : (Nat → Int32) → Int32), exprR ad T V P d a l n f → exprM d l n f
  | 0, _, _, _, _, h => h.elim
  | d + 1, a, l, n, f, h => by
    rcases h with ⟨-, k, h1, -, h2⟩ | ⟨-, k, h1, -, h2⟩ | ⟨-, b, l1, f1, -, h1, h2⟩ | ⟨-, b, c, l1, l2, f1, f2, n2, x, -, -, h1, h2, h3, h4, h5, h6⟩
    · exact Or.inl ⟨k, h1, h2⟩
    · exact Or.inr (Or.inl ⟨k, h1, h2⟩)
    · exact Or.inr (Or.inr (Or.inl ⟨l1, f1, exprR.M d _ _ _ _ h1, h2⟩))
    · refine Or.inr (Or.inr (Or.inr ⟨l1, l2, f1, f2, n2, x, exprR.M d _ _ _ _ h1, exprR.M d _ _ _ _ h2, h3, h4, ?_, h6⟩))
      rcases h5 with ⟨-, h⟩ | ⟨-, h⟩ | ⟨-, h⟩ | ⟨-, h⟩ | ⟨-, h⟩ | ⟨-, h⟩ | ⟨-, h⟩ | ⟨-, h⟩ <;> subst h <;> simp [opOk]
theorem lawR.M {ad : Nat → Nat} {T : Nat → Nat} {V : w_V} {P : w_P} {o : Option Nat} {D : MS} {lw : (Nat → Int32) → Int32} (h : lawR ad T V P o D lw) : lawM D lw := by
  rcases h with ⟨-, h⟩ | ⟨a, d, n, -, -, -, h1, h2⟩
  · exact Or.inl h
  · exact Or.inr ⟨d, n, h1, exprR.M _ _ _ _ _ h2⟩
def lndR (ad : Nat → Nat) (T L : Nat → Nat) (V : w_V) (P : w_P) (l jl ja cl ca vw : Nat) (D : MS) (lw : (Nat → Int32) → Int32) : Prop :=
  (T l = 3 ∧ V l 0 0 = D 4 0 ∧ V l 0 1 = D 4 2 ∧ V l 0 2 = D 4 3 ∧ V l 0 3 = D 4 1) ∧ (∀ k, k < 81 → V l 5 k = D 5 k) ∧ (P l 6 = some jl ∧ lstR T L V P jl ja (nJ D) ∧ ∀ j, j < nJ D → ∃ a, P ja j = some a ∧ jdgR T L V P a D j) ∧
  (P l 7 = some cl ∧ lstR T L V P cl ca (nC D) ∧ ∀ c, c < nC D → ∃ a, P ca c = some a ∧ casR T L V a D c) ∧ (P l 9 = some vw ∧ T vw = 4) ∧ lawR ad T V P (P l 8) D lw
def clF (x : Int32) : Int32 := if x < 100000 then x else 9999
def farR (V : w_V) (l : Nat) (D : MS) : Prop := ∀ a b, a < nT D → b < nT D → V l 6 (9 * a + b) = clF (D 25 (9 * a + b))
def stR (T : Nat → Nat) (V : w_V) (s : Nat) (D : MS) : Prop := T s = 6 ∧ (∀ j, j < nJ D → V s 1 j = D 7 j) ∧ V s 0 4 = D 0 29 ∧ V s 0 5 = D 0 30 ∧ V s 0 6 = D 0 31 ∧ V s 0 7 = D 0 32 ∧ (∀ k, k < 3 * tn (D 0 30) → V s 2 k = D 26 k) ∧ (∀ k, k < 3 * tn (D 0 31) → V s 3 k = D 27 k) ∧ (∀ k, k < 3 * tn (D 0 32) → V s 4 k = D 28 k)
def exR (V : w_V) (s : Nat) (D : MS) : Prop := (∀ j, j < nJ D → bitI (V s 0 8) (nI j) = decide (D 0 40 = nI j)) ∧ (∀ j, j < nJ D → bitI (V s 0 9) (nI j) = (bitI (D 0 41) (nI j) != decide (D 6 j = 1))) ∧ V s 0 10 = D 0 42 ∧ V s 0 11 = D 0 43
/-- kinds of a land's things -/
def lk (t : Nat) : Bool := t == 3 || t == 16 || t == 1000 || t == 2004 || t == 9 || t == 10 || t == 11 || t == 12 || t == 13 || t == 14 || t == 15
def sameL (T : Nat → Nat) (V V' : w_V) : Prop := ∀ a, lk (T a) = true → V' a = V a
theorem exprR.V {ad : Nat → Nat} {T : Nat → Nat} {V V' : w_V} {P : w_P} (hs : sameL T V V') : ∀ (d a : Nat) (l : List Int32) (n : Nat) (f : (Nat → Int32) → Int32), exprR ad T V P d a l n f → exprR ad T V' P d a l n f
  | 0, _, _, _, _, h => h.elim
  | d + 1, a, l, n, f, h => by
    rcases h with ⟨ht, h⟩ | ⟨ht, h⟩ | ⟨ht, b, l1, f1, h0, h1, h2⟩ | ⟨ht, b, c, l1, l2, f1, f2, n2, x, g1, g2, h1, h2, h3⟩
    · refine Or.inl ⟨ht, ?_⟩
      rw [hs a (by rw [ht]; rfl)]
      exact h
    · exact Or.inr (Or.inl ⟨ht, h⟩)
    · exact Or.inr (Or.inr (Or.inl ⟨ht, b, l1, f1, h0, exprR.V hs d _ _ _ _ h1, h2⟩))
    · refine Or.inr (Or.inr (Or.inr ⟨ht, b, c, l1, l2, f1, f2, n2, x, g1, g2, exprR.V hs d _ _ _ _ h1, exprR.V hs d _ _ _ _ h2, ?_⟩))
      rw [hs a (by rw [ht]; rfl)]
      exact h3
theorem lstR.V {T L : Nat → Nat} {V V' : w_V} {P : w_P} {l ar n : Nat} (h : lstR T L V P l ar n) (e : V' l = V l) : lstR T L V' P l ar n := by
  unfold lstR at h ⊢
  rw [e]
  exact h
theorem jdgR.V {T L : Nat → Nat} {V V' : w_V} {P : w_P} {a j : Nat} {D : MS} (h : jdgR T L V P a D j) (hs : sameL T V V') : jdgR T L V' P a D j := by
  obtain ⟨h1, h2, r, h3, h4, h5, h6⟩ := h
  refine ⟨h1, by rw [hs a (by rcases h1 with ⟨-, h⟩ | ⟨-, h⟩ | ⟨-, h⟩ <;> rw [h] <;> rfl)]; exact h2, r, h3, h4, h5, fun i hi => by rw [hs r (by rw [h4]; rfl)]; exact h6 i hi⟩
theorem lndR.V {ad : Nat → Nat} {T L : Nat → Nat} {V V' : w_V} {P : w_P} {l jl ja cl ca vw : Nat} {D : MS} {lw : (Nat → Int32) → Int32} (h : lndR ad T L V P l jl ja cl ca vw D lw) (hs : sameL T V V') : lndR ad T L V' P l jl ja cl ca vw D lw := by
  obtain ⟨⟨h1, h2⟩, h3, ⟨h4, h5, h6⟩, ⟨h7, h8, h9⟩, h10, h11⟩ := h
  refine ⟨⟨h1, by rw [hs l (by rw [h1]; rfl)]; exact h2⟩, fun k hk => by rw [hs l (by rw [h1]; rfl)]; exact h3 k hk, ⟨h4, h5.V (hs jl (by rw [h5.1]; rfl)), fun j hj => ?_⟩, ⟨h7, h8.V (hs cl (by rw [h8.1]; rfl)), fun c hc => ?_⟩, h10, ?_⟩
  · obtain ⟨a, g1, g2⟩ := h6 j hj
    exact ⟨a, g1, g2.V hs⟩
  · obtain ⟨a, g1, g2, g3, g4⟩ := h9 c hc
    exact ⟨a, g1, g2, g3, fun t ht => by rw [hs a (by rw [g2]; rfl)]; exact g4 t ht⟩
  · rcases h11 with h | ⟨a, d, n, q1, q2, q3, q4, q5⟩
    · exact Or.inl h
    · exact Or.inr ⟨a, d, n, q1, q2, q3, q4, exprR.V hs _ _ _ _ _ q5⟩
/-- a trial with its land and its state -/
def trW (ad : Nat → Nat) (T L : Nat → Nat) (V : w_V) (P : w_P) (tr l st jl ja cl ca vw : Nat) (D : MS) (lw : (Nat → Int32) → Int32) : Prop :=
  T tr = 7 ∧ P tr 0 = some l ∧ P tr 1 = some st ∧ lndR ad T L V P l jl ja cl ca vw D lw ∧ farR V l D ∧ stR T V st D ∧ exR V st D
theorem trW.V {ad : Nat → Nat} {T L : Nat → Nat} {V V' : w_V} {P : w_P} {tr l st jl ja cl ca vw : Nat} {D : MS} {lw : (Nat → Int32) → Int32} (h : trW ad T L V P tr l st jl ja cl ca vw D lw) (hs : ∀ a, a ≠ tr → a ≠ vw → V' a = V a) : trW ad T L V' P tr l st jl ja cl ca vw D lw := by
  obtain ⟨h1, h2, h3, h4, h5, h6, h7⟩ := h
  have hv : T vw = 4 := h4.2.2.2.2.1.2
  have hl : T l = 3 := h4.1.1
  have el : V' l = V l := hs l (fun e => by rw [e, h1] at hl; cases hl) (fun e => by rw [e, hv] at hl; cases hl)
  have es : V' st = V st := hs st (fun e => by have := h6.1; rw [e, h1] at this; cases this) (fun e => by have := h6.1; rw [e, hv] at this; cases this)
  refine ⟨h1, h2, h3, h4.V (fun a ha => hs a (fun e => by subst e; rw [h1] at ha; cases ha) (fun e => by subst e; rw [hv] at ha; cases ha)), fun a b x y => by rw [el]; exact h5 a b x y, ?_, ?_⟩
  · unfold stR at h6 ⊢
    rw [es]
    exact h6
  · unfold exR at h7 ⊢
    rw [es]
    exact h7
section TR
variable {ad : Nat → Nat} {T L : Nat → Nat} {V : w_V} {P : w_P} {tr l st jl ja cl ca vw : Nat} {D : MS} {lw : (Nat → Int32) → Int32}
theorem sJ2_get {l ar n j a : Nat} (h : lstR T L V P l ar n) (hj : j < n) (hn : n < 2147483648) (ha : P ar j = some a) {post : Nat → Prop} (hp : post a) : wJ2_get ad T L V P l (nI j) post := by
  obtain ⟨h1, h2, h3, h4, h5, h6⟩ := h
  unfold wJ2_get wJ18_checkIndex wJ14_checkIndex wJ2_elementData
  rw [h2, if_neg (nI_pos (by omega)), if_pos (nI_lt hj (by omega))]
  exact ⟨ar, h3, h4, j, a, by omega, h6, rfl, ha, hp⟩
theorem sX_judges (h : trW ad T L V P tr l st jl ja cl ca vw D lw) {post : Int32 → Prop} (hp : post (nI (nJ D))) : wX7_judges ad T L V P tr post := by
  obtain ⟨h1, h2, h3, h4, h5, h6, h7⟩ := h
  obtain ⟨g1, g2, g3⟩ := h4.2.2.1
  unfold wX7_judges wJ2_size
  refine ⟨l, h2, h4.1.1, jl, g1, g2.1, ?_⟩
  rw [g2.2.1]
  exact hp
theorem sX_cases (h : trW ad T L V P tr l st jl ja cl ca vw D lw) {post : Int32 → Prop} (hp : post (nI (nC D))) : wX7_cases ad T L V P tr post := by
  obtain ⟨h1, h2, h3, h4, h5, h6, h7⟩ := h
  obtain ⟨g1, g2, g3⟩ := h4.2.2.2.1
  unfold wX7_cases wJ2_size
  refine ⟨l, h2, h4.1.1, cl, g1, g2.1, ?_⟩
  rw [g2.2.1]
  exact hp
theorem jdgR.jT {a j : Nat} (h : jdgR T L V P a D j) : jT T a := by
  rcases h.1 with ⟨-, h⟩ | ⟨-, h⟩ | ⟨-, h⟩
  · exact Or.inl h
  · exact Or.inr (Or.inl h)
  · exact Or.inr (Or.inr h)
theorem hArr_S {a : Nat} (h : T a = 1000) : hArr T L a a 0 (L a) 0 := ⟨by decide, Or.inr ⟨h, rfl, rfl, rfl⟩⟩
theorem sX16_towns {a j : Nat} (hL : lndOk D) (hj : j < nJ D) (h : jdgR T L V P a D j) {post : Int32 → Prop} (hp : post (nI (stp D j))) : wX16_towns ad T L V P a post := by
  obtain ⟨h1, h2, r, h3, h4, h5, h6⟩ := h
  have h7 := (hL.2.2.2.2.2.1 j hj).2.2.2.1
  unfold wX16_towns
  exact ⟨r, r, 0, L r, h3, hArr_S h4, by omega, by rw [h5]; exact hp⟩
theorem sX_towns (hL : lndOk D) (h : trW ad T L V P tr l st jl ja cl ca vw D lw) {j : Nat} (hj : j < nJ D) {post : Int32 → Prop} (hp : post (nI (stp D j))) : wX7_towns ad T L V P tr (nI j) post := by
  obtain ⟨h1, h2, h3, h4, h5, h6, h7⟩ := h
  obtain ⟨g1, g2, g3⟩ := h4.2.2.1
  obtain ⟨a, ha, hr⟩ := g3 j hj
  have hJ5 := hL.2.1.2
  unfold wX7_towns
  exact ⟨l, h2, h4.1.1, jl, g1, g2.1, sJ2_get g2 hj (by omega) ha ⟨hr.jT, sX16_towns hL hj hr hp⟩⟩
/-- the i-th town of a judge's way -/
theorem sX16_town {a j i : Nat} (hL : lndOk D) (hj : j < nJ D) (hi : i < stp D j) (h : jdgR T L V P a D j) {x : Int32} (hx : (x = 0 ∧ ¬ D 0 40 = nI j) ∨ (¬ x = 0 ∧ D 0 40 = nI j)) {post : Int32 → Prop} (hp : post (pT D j i)) : wX16_town ad T L V P a (nI i) x post := by
  obtain ⟨h1, h2, r, h3, h4, h5, h6⟩ := h
  have h7 := (hL.2.2.2.2.2.1 j hj).2.2.2.1
  unfold wX16_town jX16_town_21
  refine ⟨r, r, 0, L r, h3, hArr_S h4, by omega, ?_⟩
  unfold pT at hp
  rcases hx with ⟨hx, hb⟩ | ⟨hx, hb⟩
  · rw [if_pos hx]
    rw [if_neg hb] at hp
    exact ⟨i, by omega, rfl, by rw [h6 i hi]; exact hp⟩
  · rw [if_neg hx]
    rw [if_pos hb] at hp
    refine ⟨r, r, 0, L r, h3, hArr_S h4, by omega, stp D j - 1 - i, by omega, ?_, ?_⟩
    · rw [h5, nI_m1 (by omega), nI_sub (by omega)]
    · rw [h6 _ (by omega)]; exact hp
/-- a trial's own rows of stops -/
def stopX (V : w_V) (tr : Nat) (D : MS) : Prop := ∀ j i, j < nJ D → i < stp D j → V tr 3 (7 * j + i) = pT D j i ∧ V tr 4 (7 * j + i) = pD D j i
theorem sX_goes (hL : lndOk D) (h : trW ad T L V P tr l st jl ja cl ca vw D lw) {post : w_V → Prop} (hp : ∀ V9 : w_V, (∀ a, a ≠ tr → V9 a = V a) → (∀ k, k ≠ 3 → k ≠ 4 → V9 tr k = V tr k) → stopX V9 tr D → post V9) : wX7_goes ad T L V P tr post := by
  obtain ⟨hJ, hJ5⟩ := hL.2.1
  have hT9 := hL.1.2
  unfold wX7_goes
  refine loop0 (F := fun n i W => lX7_goes_2 ad T L P tr post n i W) (nJ D) (fun k W => (∀ a, a ≠ tr → W a = V a) ∧ (∀ k, k ≠ 3 → k ≠ 4 → W tr k = V tr k) ∧ ∀ j i, j < k → i < stp D j → W tr 3 (7 * j + i) = pT D j i ∧ W tr 4 (7 * j + i) = pD D j i) V ⟨fun _ _ => rfl, fun _ _ _ => rfl, fun j i h => absurd h (by omega)⟩ (fun n0 k W hk hs kk => ?_)
  obtain ⟨hs1, hs0, hs2⟩ := hs
  have hW : trW ad T L W P tr l st jl ja cl ca vw D lw := h.V (fun a h1 _ => hs1 a h1)
  show lX7_goes_2 ad T L P tr post (n0 + 1) (nI k) W
  unfold lX7_goes_2
  refine sX_judges hW ?_
  by_cases hkN : k < nJ D
  · rw [if_neg (nI_ge hkN (by omega))]
    obtain ⟨-, h9, h91, h97, -⟩ := hL.2.2.2.2.2.1 k hkN
    obtain ⟨w1, w2, w3, w4, w5, w6, w7⟩ := id hW
    refine ⟨st, w3, w6.1, ?_⟩
    have run : ∀ x : Int32, ((x = 0 ∧ ¬ D 0 40 = nI k) ∨ (¬ x = 0 ∧ D 0 40 = nI k)) → jX7_goes_30 ad T L W P tr (nI k) x post (lX7_goes_2 ad T L P tr post n0) := by
      intro x hx
      unfold jX7_goes_30
      refine ⟨st, w3, w6.1, k, by omega, rfl, ?_⟩
      rw [w6.2.1 k hkN]
      refine loop0 (F := fun n i (q : Int32 × w_V) => lX7_goes_44 ad T L P tr (nI k) x post _ n q.1 i q.2) (stp D k) (fun i q => (q.1 = match i with | 0 => D 7 k | i' + 1 => pD D k i') ∧ (∀ a, a ≠ tr → q.2 a = V a) ∧ (∀ k, k ≠ 3 → k ≠ 4 → q.2 tr k = V tr k) ∧ (∀ j i, j < k → i < stp D j → q.2 tr 3 (7 * j + i) = pT D j i ∧ q.2 tr 4 (7 * j + i) = pD D j i) ∧ ∀ i', i' < i → q.2 tr 3 (7 * k + i') = pT D k i' ∧ q.2 tr 4 (7 * k + i') = pD D k i') (D 7 k, W) ⟨rfl, hs1, hs0, hs2, fun i h => absurd h (by omega)⟩ (fun n i q hi hq kk2 => ?_)
      obtain ⟨y, W1⟩ := q
      obtain ⟨hy, hq1, hq0, hq2, hq3⟩ := hq
      dsimp only at hy hq1 hq0 hq2 hq3
      have hWq : trW ad T L W1 P tr l st jl ja cl ca vw D lw := h.V (fun a h1 _ => hq1 a h1)
      obtain ⟨v1, v2, v3, v4, v5, v6, v7⟩ := id hWq
      obtain ⟨g1, g2, g3⟩ := v4.2.2.1
      obtain ⟨ja1, hja, hjr⟩ := g3 k hkN
      show lX7_goes_44 ad T L P tr (nI k) x post _ (n + 1) y (nI i) W1
      unfold lX7_goes_44
      refine sX_towns hL hWq hkN ?_
      by_cases hiN : i < stp D k
      · rw [if_neg (nI_ge hiN (by omega))]
        refine ⟨l, v2, v4.1.1, jl, g1, g2.1, sJ2_get g2 hkN (by omega) hja ⟨hjr.jT, sX16_town hL hkN hiN hjr hx ?_⟩⟩
        obtain ⟨kb, hkb⟩ : ∃ kb, kb = lX7_goes_44 ad T L P tr (nI k) x post (fun (V46 : w_V) => (lX7_goes_2 ad T L P tr post n0) (nI k + 1) V46) n := ⟨_, rfl⟩
        rw [← hkb] at kk2 ⊢
        obtain ⟨t, ht, htT⟩ := pT_nat hL hkN hiN
        have fin : ∀ y : Int32, y = pD D k i → jX7_goes_112 ad T L W1 P tr (nI k) x y (nI i) (pT D k i) post kb := by
          intro y hy
          unfold jX7_goes_112
          refine ⟨7 * k + i, by omega, ix7 k i, fun W2 e2 => ⟨7 * k + i, by omega, ix7 k i, fun W3 e3 => ?_⟩⟩
          subst e2 e3
          rw [nI_1]
          have eW : up3 (up3 W1 tr 3 (7 * k + i) (pT D k i)) tr 4 (7 * k + i) y tr = s2 (s2 (W1 tr) 3 (7 * k + i) (pT D k i)) 4 (7 * k + i) y := by rw [up3_a, up3_a]
          refine kk2 (y, _) hiN ⟨hy, fun a ha => ?_, fun q h1 h2 => ?_, fun j i2 h1 h2 => ?_, fun i2 h2 => ?_⟩
          · show up3 (up3 W1 tr 3 (7 * k + i) (pT D k i)) tr 4 (7 * k + i) y a = _
            rw [up3_n ha, up3_n ha]; exact hq1 a ha
          · show up3 (up3 W1 tr 3 (7 * k + i) (pT D k i)) tr 4 (7 * k + i) y tr q = _
            rw [eW, s2_rowN h2, s2_rowN h1]; exact hq0 q h1 h2
          · have hj7 := (hL.2.2.2.2.2.1 j (by omega)).2.2.2.1
            show up3 (up3 W1 tr 3 (7 * k + i) (pT D k i)) tr 4 (7 * k + i) y tr 3 _ = _ ∧ up3 (up3 W1 tr 3 (7 * k + i) (pT D k i)) tr 4 (7 * k + i) y tr 4 _ = _
            rw [eW, s2_k (by decide), s2_i (by omega), s2_i (by omega), s2_k (by decide)]
            exact hq2 j i2 h1 h2
          · show up3 (up3 W1 tr 3 (7 * k + i) (pT D k i)) tr 4 (7 * k + i) y tr 3 (7 * k + i2) = _ ∧ up3 (up3 W1 tr 3 (7 * k + i) (pT D k i)) tr 4 (7 * k + i) y tr 4 (7 * k + i2) = _
            rw [eW]
            by_cases he : i2 = i
            · subst he
              rw [s2_k (by decide), s2_s, s2_s]
              exact ⟨rfl, hy⟩
            · rw [s2_k (by decide), s2_i (by omega), s2_i (by omega), s2_k (by decide)]
              exact hq3 i2 (by omega)
        cases i with
        | zero =>
          rw [if_pos (by decide)]
          exact fin y hy
        | succ i0 =>
          rw [if_neg (nI_nle (by omega) (by omega))]
          refine ⟨l, v2, v4.1.1, 7 * k + i0, by omega, by rw [ix7, nI_m1 (by omega)]; rfl, ?_⟩
          rw [(hq3 i0 (by omega)).1]
          obtain ⟨a, b, r, c1, c2, c3, c4, c5, c6, c7, c8⟩ := pD_step hL hkN hiN
          refine ⟨9 * a + b, by omega, by rw [c1, c2]; exact ix9 a b, ?_⟩
          rw [v4.2.1 _ (by omega), c5]
          refine fin _ ?_
          rw [c8, hy]
      · have ei : i = stp D k := by omega
        rw [if_pos (nI_le (by omega) (by omega)), nI_1]
        refine kk W1 hkN ⟨hq1, hq0, fun j i2 h1 h2 => ?_⟩
        by_cases he : j = k
        · subst he; exact hq3 i2 (by omega)
        · exact hq2 j i2 (by omega) h2
    have hb := w7.1 k hkN
    unfold bitI at hb
    by_cases h8 : (((W st 0 8) >>> (nI k &&& 31)) &&& 1) = 1
    · rw [if_pos h8]
      rw [decide_eq_true h8] at hb
      exact run 1 (Or.inr ⟨by decide, of_decide_eq_true hb.symm⟩)
    · rw [if_neg h8]
      rw [decide_eq_false h8] at hb
      exact run 0 (Or.inl ⟨rfl, of_decide_eq_false hb.symm⟩)
  · have ek : k = nJ D := by omega
    rw [if_pos (nI_le (by omega) (by omega))]
    exact hp W hs1 hs0 (fun j i h1 h2 => hs2 j i (by omega) h2)
theorem sX_at (hL : lndOk D) (h : trW ad T L V P tr l st jl ja cl ca vw D lw) (hP : stopX V tr D) {j : Nat} (hj : j < nJ D) {d : Int32} {post : Int32 → Prop} (hp : post (pAt D j d)) : wX7_at ad T L V P tr (nI j) d post := by
  unfold wX7_at
  obtain ⟨-, h9, h91, h97, -⟩ := hL.2.2.2.2.2.1 j hj
  have hJ5 := hL.2.1.2
  refine loop0 (F := fun n i (_ : Unit) => lX7_at_2 ad T L V P tr (nI j) d post _ n i) (stp D j) (fun k _ => pAt D j d = firstI (fun i => decide (pD D j i = d)) (fun i => pT D j i) (-1) (stp D j - k) k) () rfl (fun n k s hk hs kk => ?_)
  show lX7_at_2 ad T L V P tr (nI j) d post _ (n + 1) (nI k)
  unfold lX7_at_2
  refine sX_towns hL h hj ?_
  by_cases hkN : k < stp D j
  · rw [if_neg (nI_ge hkN (by omega))]
    refine ⟨7 * j + k, by omega, ix7 j k, ?_⟩
    obtain ⟨e1, e2⟩ := hP j k hj hkN
    rw [e2]
    rw [firstI_s hkN] at hs
    have hn := kk () hkN
    rw [← nI_1] at hn
    by_cases h1 : pD D j k = d
    · rw [if_pos h1]
      refine ⟨7 * j + k, by omega, ix7 j k, ?_⟩
      rw [e1]
      rw [if_pos (by simp [h1])] at hs
      rw [hs] at hp
      exact hp
    · rw [if_neg h1]
      refine hn ?_
      rw [hs, if_neg (by simp [h1])]
  · have ek : k = stp D j := by omega
    rw [if_pos (nI_le (by omega) (by omega))]
    rw [ek, firstI_z] at hs
    rw [hs] at hp
    exact hp
theorem sX_isFeast (hR : stR T V st D) (hS : stOk D) {t d : Int32} {post : Int32 → Prop} (h : post (b2 (pFeast D t d))) : wX6_isFeast ad T L V P st t d post := by
  unfold wX6_isFeast
  obtain ⟨hF, hF4⟩ := hS.2.2.1
  obtain ⟨r1, r2, r3, r4, r5, r6, r7, r8, r9⟩ := hR
  refine loop0 (F := fun n i (_ : Unit) => lX6_isFeast_2 ad T L V P st t d post n i) (tn (D 0 31)) (fun k _ => pFeast D t d = anyI (fun k => decide (D 27 (3 * k) = t ∧ ¬ d < D 27 (3 * k + 1) ∧ ¬ D 27 (3 * k + 2) < d)) (tn (D 0 31) - k) k) () rfl (fun n k s hk hs kk => ?_)
  show lX6_isFeast_2 ad T L V P st t d post (n + 1) (nI k)
  unfold lX6_isFeast_2 jX6_isFeast_52
  rw [r5, hF]
  by_cases hkN : k < tn (D 0 31)
  · rw [if_neg (nI_ge hkN (by omega))]
    rw [anyI_s hkN] at hs
    refine ⟨3 * k, by omega, ix3 k, ?_⟩
    have hn := kk () hkN
    rw [← nI_1] at hn
    rw [r8 (3 * k) (by omega)]
    by_cases h1 : D 27 (3 * k) = t
    · rw [if_pos h1]
      refine ⟨3 * k + 1, by omega, ix31 k, ?_⟩
      rw [r8 (3 * k + 1) (by omega)]
      by_cases h2 : d < D 27 (3 * k + 1)
      · rw [if_pos h2]
        refine hn ?_
        rw [hs, if_neg (by simp [h2])]
      · rw [if_neg h2]
        refine ⟨3 * k + 2, by omega, ix32 k, ?_⟩
        rw [r8 (3 * k + 2) (by omega)]
        by_cases h3 : D 27 (3 * k + 2) < d
        · rw [if_pos h3]
          refine hn ?_
          rw [hs, if_neg (by simp [h3])]
        · rw [if_neg h3]
          rw [if_pos (by simp [h1, h2, h3])] at hs
          rw [hs] at h
          exact h
    · rw [if_neg h1]
      refine hn ?_
      rw [hs, if_neg (by simp [h1])]
  · have ek : k = tn (D 0 31) := by omega
    rw [if_pos (nI_le (by omega) (by omega))]
    rw [ek, anyI_z] at hs
    rw [hs] at h
    exact h
/-- a trial's own rows of what was said -/
def cS (V : w_V) (tr : Nat) (S : MS) : Prop := ∀ k, k < 30 → V tr 5 k = S 0 k ∧ V tr 6 k = S 1 k ∧ V tr 7 k = S 2 k
theorem sX_saidAhead (hL : lndOk D) (h : trW ad T L V P tr l st jl ja cl ca vw D lw) {S : MS} (hS : cS V tr S) {c : Nat} (hc : c < nC D) {d : Int32} {post : Int32 → Prop} (hp : post (pAhead D (S 0) (S 1) c d)) : wX7_saidAhead ad T L V P tr (nI c) d post := by
  unfold wX7_saidAhead
  obtain ⟨hJ, hJ5⟩ := hL.2.1
  have hC6 := hL.2.2.1.2
  refine loop0 (F := fun n i s => lX7_saidAhead_5 ad T L V P tr (nI c) d post n s i) (nJ D) (fun k s => s = cntI (fun j => decide (¬ S 0 (5 * c + j) = -1 ∧ ¬ d ≤ S 1 (5 * c + j))) k) 0 rfl (fun n k s hk hs kk => ?_)
  show lX7_saidAhead_5 ad T L V P tr (nI c) d post (n + 1) s (nI k)
  unfold lX7_saidAhead_5
  refine sX_judges h ?_
  by_cases hkN : k < nJ D
  · rw [if_neg (nI_ge hkN (by omega))]
    refine ⟨5 * c + k, by omega, ix5 c k, ?_⟩
    have hn := kk (cntI (fun j => decide (¬ S 0 (5 * c + j) = -1 ∧ ¬ d ≤ S 1 (5 * c + j))) (k + 1)) hkN rfl
    rw [← nI_1] at hn
    unfold cntI at hn
    unfold jX7_saidAhead_47
    obtain ⟨q1, q2, q3⟩ := hS (5 * c + k) (by omega)
    rw [q1]
    by_cases h1 : S 0 (5 * c + k) = -1
    · rw [if_pos h1]
      rw [show decide (¬ S 0 (5 * c + k) = -1 ∧ ¬ d ≤ S 1 (5 * c + k)) = false by simp [h1], ← hs, b2_f, Int32.add_zero] at hn
      exact hn
    · rw [if_neg h1]
      refine ⟨5 * c + k, by omega, ix5 c k, ?_⟩
      rw [q2]
      by_cases h2 : d ≤ S 1 (5 * c + k)
      · rw [if_pos h2]
        rw [show decide (¬ S 0 (5 * c + k) = -1 ∧ ¬ d ≤ S 1 (5 * c + k)) = false by simp [h2], ← hs, b2_f, Int32.add_zero] at hn
        exact hn
      · rw [if_neg h2]
        rw [show decide (¬ S 0 (5 * c + k) = -1 ∧ ¬ d ≤ S 1 (5 * c + k)) = true by simp [h1, h2], ← hs] at hn
        exact hn
  · have ek : k = nJ D := by omega
    rw [if_pos (nI_le (by omega) (by omega)), hs, ek]
    exact hp
end TR
