/-! PURE: numbers, loops, first, any, count -/
set_option maxRecDepth 100000
theorem nI_mul (a b : Nat) : nI a * nI b = nI (a * b) := (Int32.ofNat_mul a b).symm
theorem nI_sub {a b : Nat} (h : b ≤ a) : nI a - nI b = nI (a - b) := by
  have e : nI (a - b) + nI b = nI a := by rw [nI_add, Nat.sub_add_cancel h]
  rw [← e]
  exact Int32.add_sub_cancel _ _
def tn (x : Int32) : Nat := x.toNatClampNeg
theorem tn_nI {n : Nat} (h : n < 2147483648) : tn (nI n) = n := nI_clamp h
theorem ix3 (a : Nat) : (3 : Int32) * nI a = nI (3 * a) := by rw [show (3 : Int32) = nI 3 from rfl, nI_mul]
theorem ix31 (a : Nat) : (3 : Int32) * nI a + 1 = nI (3 * a + 1) := by rw [ix3, show (1 : Int32) = nI 1 from rfl, nI_add]
theorem ix32 (a : Nat) : (3 : Int32) * nI a + 2 = nI (3 * a + 2) := by rw [ix3, show (2 : Int32) = nI 2 from rfl, nI_add]
theorem ix5 (a b : Nat) : (5 : Int32) * nI a + nI b = nI (5 * a + b) := by rw [show (5 : Int32) = nI 5 from rfl, nI_mul, nI_add]
theorem ix7 (a b : Nat) : (7 : Int32) * nI a + nI b = nI (7 * a + b) := by rw [show (7 : Int32) = nI 7 from rfl, nI_mul, nI_add]
theorem ix9 (a b : Nat) : (9 : Int32) * nI a + nI b = nI (9 * a + b) := by rw [show (9 : Int32) = nI 9 from rfl, nI_mul, nI_add]
theorem nI_m1 {k : Nat} (h : 0 < k) : nI k - 1 = nI (k - 1) := by
  rw [show (1 : Int32) = nI 1 from rfl, nI_sub h]
theorem nI_ne1 {n : Nat} (h : n < 2147483648) : ¬ nI n = -1 := by
  intro e
  have h1 : nI n < 0 := by rw [e]; decide
  exact nI_pos h h1
theorem loopS {S : Type} {F : Nat → Int32 → S → Prop} {N : Nat} (Inv : Nat → S → Prop) (step : ∀ (n k : Nat) (s : S), k ≤ N → Inv k s → (∀ s' : S, k < N → Inv (k + 1) s' → F n (nI (k + 1)) s') → F (n + 1) (nI k) s) : ∀ (m k : Nat) (s : S), k + m = N → Inv k s → F (m + 1) (nI k) s := by
  intro m
  induction m with
  | zero => intro k s hk hI; exact step 0 k s (by omega) hI (fun s' h _ => absurd h (by omega))
  | succ m ih => intro k s hk hI; exact step (m + 1) k s (by omega) hI (fun s' _ h => ih (k + 1) s' (by omega) h)
/-- a loop from 0 to N -/
theorem loop0 {S : Type} {F : Nat → Int32 → S → Prop} (N : Nat) (Inv : Nat → S → Prop) (s : S) (h0 : Inv 0 s) (step : ∀ (n k : Nat) (s : S), k ≤ N → Inv k s → (∀ s' : S, k < N → Inv (k + 1) s' → F n (nI (k + 1)) s') → F (n + 1) (nI k) s) : ∃ n, F n 0 s := ⟨N + 1, loopS Inv step N 0 s (by omega) h0⟩
def firstI (c : Nat → Bool) (f : Nat → Int32) (e : Int32) : Nat → Nat → Int32
  | 0, _ => e
  | m + 1, k => if c k = true then f k else firstI c f e m (k + 1)
theorem firstI_s {c : Nat → Bool} {f : Nat → Int32} {e : Int32} {N k : Nat} (h : k < N) : firstI c f e (N - k) k = if c k = true then f k else firstI c f e (N - (k + 1)) (k + 1) := by
  obtain ⟨m, rfl⟩ : ∃ m, N = k + 1 + m := ⟨N - k - 1, by omega⟩
  rw [show k + 1 + m - k = m + 1 by omega, show k + 1 + m - (k + 1) = m by omega]
  rfl
theorem firstI_z {c : Nat → Bool} {f : Nat → Int32} {e : Int32} {N : Nat} : firstI c f e (N - N) N = e := by rw [Nat.sub_self]; rfl
theorem firstI_none {c : Nat → Bool} {f : Nat → Int32} {e : Int32} : ∀ (m k : Nat), (∀ i, k ≤ i → i < k + m → c i = false) → firstI c f e m k = e
  | 0, _, _ => rfl
  | m + 1, k, h => by
    unfold firstI
    rw [h k (Nat.le_refl _) (by omega)]
    exact firstI_none m (k + 1) (fun i h1 h2 => h i (by omega) (by omega))
theorem firstI_at {c : Nat → Bool} {f : Nat → Int32} {e : Int32} : ∀ (m k j : Nat), k ≤ j → j < k + m → c j = true → (∀ i, k ≤ i → i < j → c i = false) → firstI c f e m k = f j
  | 0, k, j, h1, h2, _, _ => absurd h1 (by omega)
  | m + 1, k, j, h1, h2, h3, h4 => by
    unfold firstI
    by_cases hj : k = j
    · subst hj; rw [h3]; rfl
    · rw [h4 k (Nat.le_refl _) (by omega)]
      exact firstI_at m (k + 1) j (by omega) (by omega) h3 (fun i h5 h6 => h4 i (by omega) h6)
theorem firstI_congr {c c2 : Nat → Bool} {f f2 : Nat → Int32} {e : Int32} : ∀ (m k : Nat), (∀ i, k ≤ i → i < k + m → c i = c2 i ∧ f i = f2 i) → firstI c f e m k = firstI c2 f2 e m k
  | 0, _, _ => rfl
  | m + 1, k, h => by
    have h0 := h k (Nat.le_refl _) (by omega)
    unfold firstI
    rw [h0.1, h0.2, firstI_congr m (k + 1) (fun i h1 h2 => h i (by omega) (by omega))]
/-- whether one of c k .. c (k + m - 1) -/
def anyI (c : Nat → Bool) : Nat → Nat → Bool
  | 0, _ => false
  | m + 1, k => if c k = true then true else anyI c m (k + 1)
theorem anyI_s {c : Nat → Bool} {N k : Nat} (h : k < N) : anyI c (N - k) k = if c k = true then true else anyI c (N - (k + 1)) (k + 1) := by
  obtain ⟨m, rfl⟩ : ∃ m, N = k + 1 + m := ⟨N - k - 1, by omega⟩
  rw [show k + 1 + m - k = m + 1 by omega, show k + 1 + m - (k + 1) = m by omega]
  rfl
theorem anyI_z {c : Nat → Bool} {N : Nat} : anyI c (N - N) N = false := by rw [Nat.sub_self]; rfl
theorem anyI_iff {c : Nat → Bool} : ∀ (m k : Nat), anyI c m k = true ↔ ∃ i, k ≤ i ∧ i < k + m ∧ c i = true
  | 0, k => by
    constructor
    · intro h; exact absurd (show false = true from h) (by decide)
    · rintro ⟨i, h1, h2, -⟩; exact absurd h1 (by omega)
  | m + 1, k => by
    unfold anyI
    constructor
    · intro h
      by_cases hc : c k = true
      · exact ⟨k, Nat.le_refl _, by omega, hc⟩
      · rw [if_neg hc] at h
        obtain ⟨i, h1, h2, h3⟩ := (anyI_iff m (k + 1)).mp h
        exact ⟨i, by omega, by omega, h3⟩
    · rintro ⟨i, h1, h2, h3⟩
      by_cases hc : c k = true
      · rw [if_pos hc]
      · rw [if_neg hc]
        refine (anyI_iff m (k + 1)).mpr ⟨i, ?_, by omega, h3⟩
        rcases Nat.lt_or_ge k i with h | h
        · omega
        · exact absurd (show c k = true by rw [show k = i by omega]; exact h3) hc
theorem anyI_congr {c c2 : Nat → Bool} : ∀ (m k : Nat), (∀ i, k ≤ i → i < k + m → c i = c2 i) → anyI c m k = anyI c2 m k
  | 0, _, _ => rfl
  | m + 1, k, h => by
    unfold anyI
    rw [h k (Nat.le_refl _) (by omega), anyI_congr m (k + 1) (fun i h1 h2 => h i (by omega) (by omega))]
def b2 (b : Bool) : Int32 := if b = true then 1 else 0
theorem b2_t : b2 true = 1 := rfl
theorem b2_f : b2 false = 0 := rfl
/-- how many of c 0 .. c (k - 1) -/
def cntI (c : Nat → Bool) : Nat → Int32
  | 0 => 0
  | k + 1 => cntI c k + b2 (c k)
theorem cntI_nat {c : Nat → Bool} : ∀ k : Nat, ∃ n, n ≤ k ∧ cntI c k = nI n
  | 0 => ⟨0, Nat.le_refl _, rfl⟩
  | k + 1 => by
    obtain ⟨n, h1, h2⟩ := cntI_nat (c := c) k
    unfold cntI
    cases hc : c k with
    | true => exact ⟨n + 1, by omega, by rw [h2]; exact nI_1 n⟩
    | false => exact ⟨n, by omega, by rw [h2, b2_f]; exact Int32.add_zero _⟩
/-! the ghost: the model's own numbers -/
abbrev nT (D : MS) : Nat := tn (D 4 0)
abbrev nJ (D : MS) : Nat := tn (D 4 4)
abbrev nC (D : MS) : Nat := tn (D 4 5)
abbrev nS (D : MS) : Nat := tn (D 4 6)
abbrev stp (D : MS) (j : Nat) : Nat := tn (D 9 j)
/-- what a land has: numbers within bounds -/
def lndOk (D : MS) : Prop := (D 4 0 = nI (nT D) ∧ nT D ≤ 9) ∧ (D 4 4 = nI (nJ D) ∧ nJ D ≤ 5) ∧ (D 4 5 = nI (nC D) ∧ nC D ≤ 6) ∧ (D 4 6 = nI (nS D) ∧ nS D ≤ 600) ∧ (∃ g, D 4 3 = nI g ∧ g ≤ 40) ∧
  (∀ j, j < nJ D → (D 6 j = 0 ∨ D 6 j = 1 ∨ D 6 j = 2) ∧ D 9 j = nI (stp D j) ∧ 1 ≤ stp D j ∧ stp D j ≤ 7 ∧ (∀ i, i < stp D j → ∃ t, D 10 (7 * j + i) = nI t ∧ t < nT D) ∧ ∀ i, i + 1 < stp D j → ∃ a b, D 10 (7 * j + i) = nI a ∧ D 10 (7 * j + (i + 1)) = nI b ∧ a < nT D ∧ b < nT D ∧ D 5 (9 * a + b) ≠ 0) ∧
  (∀ a b, a < 9 → b < 9 → ∃ r, D 5 (9 * a + b) = nI r ∧ r ≤ 9 ∧ D 5 (9 * b + a) = nI r)
/-- far, as the model has it -/
def farOk (D : MS) : Prop := ∀ a b, a < nT D → b < nT D → ∃ f, D 25 (9 * a + b) = nI f ∧ (f ≤ 90 ∨ f = 100000)
/-- a state: days, inns, words, feasts, floods -/
def stOk (D : MS) : Prop := (∀ j, j < nJ D → ∃ d, D 7 j = nI d ∧ d ≤ 60) ∧ (D 0 30 = nI (tn (D 0 30)) ∧ tn (D 0 30) ≤ 5) ∧ (D 0 31 = nI (tn (D 0 31)) ∧ tn (D 0 31) ≤ 4) ∧ (D 0 32 = nI (tn (D 0 32)) ∧ tn (D 0 32) ≤ 6) ∧
  (∀ k, k < tn (D 0 30) → ∃ t d, D 26 (3 * k + 1) = nI t ∧ t < nT D ∧ D 26 (3 * k + 2) = nI d ∧ d ≤ 99) ∧ (∀ k, k < tn (D 0 32) → ∃ t w, D 28 (3 * k) = nI t ∧ t < nT D ∧ D 28 (3 * k + 2) = nI w ∧ w ≤ 20)
def inS (k : Nat) : Bool := k == 4 || k == 5 || k == 6 || k == 7 || k == 8 || k == 9 || k == 10 || k == 11 || k == 12 || k == 25 || k == 26 || k == 27 || k == 28
def inF (j : Nat) : Bool := j == 29 || j == 30 || j == 31 || j == 32 || j == 40 || j == 41 || j == 42 || j == 43
/-- the model's state has the ghost's input -/
def inp (sg D : MS) : Prop := (∀ k, inS k = true → sg k = D k) ∧ ∀ j, inF j = true → sg 0 j = D 0 j
theorem inp.a {sg D : MS} (h : inp sg D) {k : Nat} (hk : inS k = true) (i : Nat) : sg k i = D k i := by rw [h.1 k hk]
theorem inp.f {sg D : MS} (h : inp sg D) {j : Nat} (hj : inF j = true) : sg 0 j = D 0 j := h.2 j hj
theorem inp.rf (D : MS) : inp D D := ⟨fun _ _ => rfl, fun _ _ => rfl⟩
/-- what is written is no input -/
theorem inp.w {sg D : MS} (h : inp sg D) {k i : Nat} {x : Int32} (hk : inS k = false ∧ k ≠ 0) : inp (s2 sg k i x) D :=
  ⟨fun q hq => by rw [s2_rowN (fun e => by rw [e, hk.1] at hq; cases hq)]; exact h.1 q hq, fun j hj => by rw [s2_k (fun e => hk.2 e.symm)]; exact h.2 j hj⟩
theorem inp.tr {sg s9 D : MS} (h : inp sg D) (hs : ∀ k, (inS k = true ∨ k = 0) → s9 k = sg k) : inp s9 D := ⟨fun q hq => by rw [hs q (Or.inl hq)]; exact h.1 q hq, fun j hj => by rw [hs 0 (Or.inr rfl)]; exact h.2 j hj⟩
/-- stops: town and day -/
def pT (D : MS) (j i : Nat) : Int32 := D 10 (7 * j + if D 0 40 = nI j then stp D j - 1 - i else i)
def pD (D : MS) (j : Nat) : Nat → Int32
  | 0 => D 7 j
  | i + 1 => pD D j i + D 5 (tn ((9 : Int32) * pT D j i + pT D j (i + 1)))
def pAt (D : MS) (j : Nat) (d : Int32) : Int32 := firstI (fun i => decide (pD D j i = d)) (fun i => pT D j i) (-1) (stp D j) 0
def pFeast (D : MS) (t d : Int32) : Bool := anyI (fun k => decide (D 27 (3 * k) = t ∧ ¬ d < D 27 (3 * k + 1) ∧ ¬ D 27 (3 * k + 2) < d)) (tn (D 0 31)) 0
/-- of how many something of the case c was said ahead of the day d -/
def pAhead (D : MS) (said on : Nat → Int32) (c : Nat) (d : Int32) : Int32 := cntI (fun j => decide (¬ said (5 * c + j) = -1 ∧ ¬ d ≤ on (5 * c + j))) (nJ D)
theorem sM_saidAhead {sg D : MS} (hI : inp sg D) (hL : lndOk D) {c : Nat} (hc : c < nC D) {d : Int32} {post : Int32 → Prop} (h : post (pAhead D (sg 45) (sg 46) c d)) : wM_saidAhead sg (nI c) d post := by
  unfold wM_saidAhead
  obtain ⟨hJ, hJ5⟩ := hL.2.1
  have hC6 := hL.2.2.1.2
  refine loop0 (F := fun n i s => lM_saidAhead_5 sg (nI c) d post n s i) (nJ D) (fun k s => s = cntI (fun j => decide (¬ sg 45 (5 * c + j) = -1 ∧ ¬ d ≤ sg 46 (5 * c + j))) k) 0 rfl (fun n k s hk hs kk => ?_)
  show lM_saidAhead_5 sg (nI c) d post (n + 1) s (nI k)
  unfold lM_saidAhead_5
  rw [hI.a rfl, hJ]
  by_cases hkN : k < nJ D
  · rw [if_neg (nI_ge hkN (by omega))]
    refine ⟨5 * c + k, by omega, ix5 c k, ?_⟩
    have hn := kk (cntI (fun j => decide (¬ sg 45 (5 * c + j) = -1 ∧ ¬ d ≤ sg 46 (5 * c + j))) (k + 1)) hkN rfl
    rw [← nI_1] at hn
    unfold cntI at hn
    unfold jM_saidAhead_51 jM_saidAhead_52
    by_cases h1 : sg 45 (5 * c + k) = -1
    · rw [if_pos h1]
      rw [show decide (¬ sg 45 (5 * c + k) = -1 ∧ ¬ d ≤ sg 46 (5 * c + k)) = false by simp [h1], ← hs] at hn
      exact hn
    · rw [if_neg h1]
      refine ⟨5 * c + k, by omega, ix5 c k, ?_⟩
      by_cases h2 : d ≤ sg 46 (5 * c + k)
      · rw [if_pos h2]
        rw [show decide (¬ sg 45 (5 * c + k) = -1 ∧ ¬ d ≤ sg 46 (5 * c + k)) = false by simp [h2], ← hs] at hn
        exact hn
      · rw [if_neg h2]
        rw [show decide (¬ sg 45 (5 * c + k) = -1 ∧ ¬ d ≤ sg 46 (5 * c + k)) = true by simp [h1, h2], ← hs] at hn
        exact hn
  · have ek : k = nJ D := by omega
    rw [if_pos (nI_le (by omega) (by omega)), hs, ek]
    exact h
theorem sM_isFeast {sg D : MS} (hI : inp sg D) (hS : stOk D) {t d : Int32} {post : Int32 → Prop} (h : post (b2 (pFeast D t d))) : wM_isFeast sg t d post := by
  unfold wM_isFeast
  obtain ⟨hF, hF4⟩ := hS.2.2.1
  refine loop0 (F := fun n i (_ : Unit) => lM_isFeast_2 sg t d post n i) (tn (D 0 31)) (fun k _ => pFeast D t d = anyI (fun k => decide (D 27 (3 * k) = t ∧ ¬ d < D 27 (3 * k + 1) ∧ ¬ D 27 (3 * k + 2) < d)) (tn (D 0 31) - k) k) () rfl (fun n k s hk hs kk => ?_)
  show lM_isFeast_2 sg t d post (n + 1) (nI k)
  unfold lM_isFeast_2 jM_isFeast_52
  rw [hI.f rfl, hF, hI.1 27 rfl]
  by_cases hkN : k < tn (D 0 31)
  · rw [if_neg (nI_ge hkN (by omega))]
    rw [anyI_s hkN] at hs
    refine ⟨3 * k, by omega, ix3 k, ?_⟩
    have hn := kk () hkN
    rw [← nI_1] at hn
    by_cases h1 : D 27 (3 * k) = t
    · rw [if_pos h1]
      refine ⟨3 * k + 1, by omega, ix31 k, ?_⟩
      by_cases h2 : d < D 27 (3 * k + 1)
      · rw [if_pos h2]
        refine hn ?_
        rw [hs, if_neg (by simp [h2])]
      · rw [if_neg h2]
        refine ⟨3 * k + 2, by omega, ix32 k, ?_⟩
        by_cases h3 : D 27 (3 * k + 2) < d
        · rw [if_pos h3]
          refine hn ?_
          rw [hs, if_neg (by simp [h3])]
        · rw [if_neg h3]
          rw [if_pos (by simp [h1, h2, h3])] at hs
          rw [hs] at h
          exact h
    · rw [if_neg h1]
      refine hn ?_
      rw [hs, if_neg (by simp [h1])]
  · have ek : k = tn (D 0 31) := by omega
    rw [if_pos (nI_le (by omega) (by omega))]
    rw [ek, anyI_z] at hs
    rw [hs] at h
    exact h
/-- the model's rows of stops -/
def stops (sg D : MS) : Prop := ∀ j i, j < nJ D → i < stp D j → sg 38 (7 * j + i) = pT D j i ∧ sg 39 (7 * j + i) = pD D j i
theorem sM_townOn {sg D : MS} (hI : inp sg D) (hL : lndOk D) (hP : stops sg D) {j : Nat} (hj : j < nJ D) {d : Int32} {post : Int32 → Prop} (h : post (pAt D j d)) : wM_townOn sg (nI j) d post := by
  unfold wM_townOn
  obtain ⟨-, h9, h91, h97, -⟩ := hL.2.2.2.2.2.1 j hj
  have hJ5 := hL.2.1.2
  refine loop0 (F := fun n i (_ : Unit) => lM_townOn_2 sg (nI j) d post _ n i) (stp D j) (fun k _ => pAt D j d = firstI (fun i => decide (pD D j i = d)) (fun i => pT D j i) (-1) (stp D j - k) k) () rfl (fun n k s hk hs kk => ?_)
  show lM_townOn_2 sg (nI j) d post _ (n + 1) (nI k)
  unfold lM_townOn_2
  refine ⟨j, by omega, rfl, ?_⟩
  rw [hI.a rfl, h9]
  by_cases hkN : k < stp D j
  · rw [if_neg (nI_ge hkN (by omega))]
    refine ⟨7 * j + k, by omega, ix7 j k, ?_⟩
    obtain ⟨e1, e2⟩ := hP j k hj hkN
    rw [e2]
    rw [firstI_s hkN] at hs
    have hn := kk () hkN
    rw [← nI_1] at hn
    by_cases h1 : pD D j k = d
    · rw [if_pos h1]
      refine ⟨7 * j + k, by omega, ix7 j k, ?_⟩
      rw [e1]
      rw [if_pos (by simp [h1])] at hs
      rw [hs] at h
      exact h
    · rw [if_neg h1]
      refine hn ?_
      rw [hs, if_neg (by simp [h1])]
  · have ek : k = stp D j := by omega
    rw [if_pos (nI_le (by omega) (by omega))]
    rw [ek, firstI_z] at hs
    rw [hs] at h
    exact h
