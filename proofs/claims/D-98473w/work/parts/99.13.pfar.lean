/-! PURE: the ways between towns: measures against tellFar -/
set_option maxRecDepth 100000
def fw (ro : Nat → Nat → Nat) : Nat → Nat → Nat → Nat
  | 0, a, b => if a = b then 0 else if 0 < ro a b then ro a b else 100000
  | k + 1, a, b => min (fw ro k a b) (fw ro k a k + fw ro k k b)
def cnN (q : Nat → Bool) : Nat → Nat
  | 0 => 0
  | m + 1 => cnN q m + (if q m = true then 1 else 0)
theorem cnN_le {q : Nat → Bool} : ∀ m, cnN q m ≤ m
  | 0 => Nat.le_refl 0
  | m + 1 => by
    have := cnN_le (q := q) m
    show cnN q m + (if q m = true then 1 else 0) ≤ m + 1
    split <;> omega
theorem cnN_mono {q r : Nat → Bool} : ∀ m, (∀ i, i < m → q i = true → r i = true) → cnN q m ≤ cnN r m
  | 0, _ => Nat.le_refl 0
  | m + 1, h => by
    have := cnN_mono (q := q) (r := r) m (fun i hi => h i (by omega))
    have h1 := h m (by omega)
    show cnN q m + (if q m = true then 1 else 0) ≤ cnN r m + (if r m = true then 1 else 0)
    by_cases e : q m = true
    · rw [if_pos e, if_pos (h1 e)]; omega
    · rw [if_neg e]; split <;> omega
theorem cnN_two {p q r : Nat → Bool} : ∀ m, (∀ i, i < m → ¬ (p i = true ∧ q i = true)) → (∀ i, i < m → p i = true ∨ q i = true → r i = true) → cnN p m + cnN q m ≤ cnN r m
  | 0, _, _ => Nat.le_refl 0
  | m + 1, h, h2 => by
    have := cnN_two (p := p) (q := q) (r := r) m (fun i hi => h i (by omega)) (fun i hi => h2 i (by omega))
    have h1 := h m (by omega)
    have h3 := h2 m (by omega)
    show cnN p m + (if p m = true then 1 else 0) + (cnN q m + (if q m = true then 1 else 0)) ≤ cnN r m + (if r m = true then 1 else 0)
    by_cases e : p m = true
    · have e2 : ¬ q m = true := fun x => h1 ⟨e, x⟩
      rw [if_pos e, if_neg e2, if_pos (h3 (Or.inl e))]; omega
    · by_cases e2 : q m = true
      · rw [if_neg e, if_pos e2, if_pos (h3 (Or.inr e2))]; omega
      · rw [if_neg e, if_neg e2]; split <;> omega
section F
variable {ro : Nat → Nat → Nat}
theorem fw_d : ∀ k a, fw ro k a a = 0
  | 0, a => if_pos rfl
  | k + 1, a => by
    show min (fw ro k a a) _ = 0
    rw [fw_d k a]; exact Nat.zero_min _
theorem fw_row (k a : Nat) : fw ro (k + 1) a k = fw ro k a k := by
  show min (fw ro k a k) (fw ro k a k + fw ro k k k) = _
  rw [fw_d]; omega
theorem fw_col (k b : Nat) : fw ro (k + 1) k b = fw ro k k b := by
  show min (fw ro k k b) (fw ro k k k + fw ro k k b) = _
  rw [fw_d]; omega
theorem fw_le (hr : ∀ a b, ro a b ≤ 9) : ∀ k a b, fw ro k a b ≤ 100000
  | 0, a, b => by
    have := hr a b
    show (if a = b then 0 else if 0 < ro a b then ro a b else 100000) ≤ 100000
    split
    · omega
    · split <;> omega
  | k + 1, a, b => Nat.le_trans (Nat.min_le_left _ _) (fw_le hr k a b)
def fnB (ro : Nat → Nat → Nat) (k a b : Nat) : Bool := decide (fw ro k a b < 100000)
theorem fnB_iff {k a b : Nat} : fnB ro k a b = true ↔ fw ro k a b < 100000 := by unfold fnB; exact decide_eq_true_iff
theorem fin_s {k a b : Nat} : fw ro (k + 1) a b < 100000 → fw ro k a b < 100000 ∨ (fw ro k a k < 100000 ∧ fw ro k k b < 100000) := fun h => by
  have h' : min (fw ro k a b) (fw ro k a k + fw ro k k b) < 100000 := h
  omega
theorem fw_ok (hr : ∀ a b, ro a b ≤ 9) : ∀ k, k ≤ 9 → (∀ a b m, m < k → fw ro k a m < 100000 → fw ro k m b < 100000 → fw ro k a b < 100000) ∧ ∀ a b, fw ro k a b < 100000 → fw ro k a b ≤ 9 * (1 + cnN (fun m => fnB ro k a m && fnB ro k m b) k)
  | 0, _ => by
    refine ⟨fun a b m h => by omega, fun a b h => ?_⟩
    have := hr a b
    have e : fw ro 0 a b = if a = b then 0 else if 0 < ro a b then ro a b else 100000 := rfl
    rw [e] at h ⊢
    split
    · omega
    · split
      · omega
      · rw [if_neg (by assumption), if_neg (by assumption)] at h; omega
  | k + 1, hk9 => by
    obtain ⟨h1, h2⟩ := fw_ok hr k (by omega)
    have mono : ∀ a b, fw ro k a b < 100000 → fw ro (k + 1) a b < 100000 := fun a b h => Nat.lt_of_le_of_lt (Nat.min_le_left _ _) h
    have via0 : ∀ a b, fw ro k a k < 100000 → fw ro k k b < 100000 → fw ro (k + 1) a b ≤ fw ro k a k + fw ro k k b ∧ fw ro k a k + fw ro k k b < 100000 := fun a b q1 q2 => by
      have a1 := h2 a k q1
      have a2 := h2 k b q2
      have c1 := cnN_le (q := fun m => fnB ro k a m && fnB ro k m k) k
      have c2 := cnN_le (q := fun m => fnB ro k k m && fnB ro k m b) k
      exact ⟨Nat.min_le_right _ _, by omega⟩
    have via : ∀ a b, fw ro k a k < 100000 → fw ro k k b < 100000 → fw ro (k + 1) a b < 100000 := fun a b q1 q2 => by
      have := via0 a b q1 q2
      omega
    refine ⟨fun a b m hm q1 q2 => ?_, fun a b h => ?_⟩
    · by_cases em : m = k
      · subst em
        rw [fw_row] at q1
        rw [fw_col] at q2
        exact via a b q1 q2
      · have hmk : m < k := by omega
        rcases fin_s q1 with r1 | ⟨r1, r2⟩
        · rcases fin_s q2 with s1 | ⟨s1, s2'⟩
          · exact mono a b (h1 a b m hmk r1 s1)
          · exact via a b (h1 a k m hmk r1 s1) s2'
        · rcases fin_s q2 with s1 | ⟨s1, s2'⟩
          · exact via a b r1 (h1 k b m hmk r2 s1)
          · exact via a b r1 s2'
    · by_cases hf : fw ro k a b < 100000
      · have a1 := h2 a b hf
        have a2 := cnN_mono (q := fun m => fnB ro k a m && fnB ro k m b) (r := fun m => fnB ro (k + 1) a m && fnB ro (k + 1) m b) k (fun i hi q => by
          have q' := Bool.and_eq_true_iff.mp q
          exact Bool.and_eq_true_iff.mpr ⟨fnB_iff.mpr (mono _ _ (fnB_iff.mp q'.1)), fnB_iff.mpr (mono _ _ (fnB_iff.mp q'.2))⟩)
        have a3 : fw ro (k + 1) a b ≤ fw ro k a b := Nat.min_le_left _ _
        have a4 : cnN (fun m => fnB ro (k + 1) a m && fnB ro (k + 1) m b) k ≤ cnN (fun m => fnB ro (k + 1) a m && fnB ro (k + 1) m b) (k + 1) := Nat.le_add_right _ _
        omega
      · rcases fin_s h with q | ⟨q1, q2⟩
        · exact absurd q hf
        · have a1 := h2 a k q1
          have a2 := h2 k b q2
          obtain ⟨a3, -⟩ := via0 a b q1 q2
          have a4 := cnN_two (p := fun m => fnB ro k a m && fnB ro k m k) (q := fun m => fnB ro k k m && fnB ro k m b) (r := fun m => fnB ro (k + 1) a m && fnB ro (k + 1) m b) k (fun i hi q => by
            have x1 := Bool.and_eq_true_iff.mp q.1
            have x2 := Bool.and_eq_true_iff.mp q.2
            exact hf (h1 a b i hi (fnB_iff.mp x1.1) (fnB_iff.mp x2.2))) (fun i hi q => by
            rcases q with q | q
            · have x := Bool.and_eq_true_iff.mp q
              exact Bool.and_eq_true_iff.mpr ⟨fnB_iff.mpr (mono _ _ (fnB_iff.mp x.1)), fnB_iff.mpr (via i b (fnB_iff.mp x.2) q2)⟩
            · have x := Bool.and_eq_true_iff.mp q
              exact Bool.and_eq_true_iff.mpr ⟨fnB_iff.mpr (via a i q1 (fnB_iff.mp x.1)), fnB_iff.mpr (mono _ _ (fnB_iff.mp x.2))⟩)
          have a5 : cnN (fun m => fnB ro (k + 1) a m && fnB ro (k + 1) m b) (k + 1) = cnN (fun m => fnB ro (k + 1) a m && fnB ro (k + 1) m b) k + 1 := by
            show cnN _ k + (if (fnB ro (k + 1) a k && fnB ro (k + 1) k b) = true then 1 else 0) = _
            rw [if_pos (Bool.and_eq_true_iff.mpr ⟨fnB_iff.mpr (by rw [fw_row]; exact q1), fnB_iff.mpr (by rw [fw_col]; exact q2)⟩)]
          omega
theorem fw_90 (hr : ∀ a b, ro a b ≤ 9) {k : Nat} (hk : k ≤ 9) (a b : Nat) : fw ro k a b ≤ 90 ∨ fw ro k a b = 100000 := by
  have h1 := fw_le hr k a b
  by_cases h : fw ro k a b < 100000
  · have h2 := (fw_ok hr k hk).2 a b h
    have h3 := cnN_le (q := fun m => fnB ro k a m && fnB ro k m b) k
    omega
  · omega
/-- a table between two stages -/
def tbl (ro : Nat → Nat → Nat) (N : Nat) (en : Nat → Int32) (k A Bc : Nat) (Tb : Nat → Int32) : Prop := ∀ a b, a < N → b < N → Tb (9 * a + b) = en (if a < A ∨ (a = A ∧ b < Bc) then fw ro (k + 1) a b else fw ro k a b)
/-- what a table's numbers must do -/
def enOk (en : Nat → Int32) : Prop := ∀ c x y, (c ≤ 90 ∨ c = 100000) → (x ≤ 90 ∨ x = 100000) → (y ≤ 90 ∨ y = 100000) → (if en x + en y < en c then en x + en y else en c) = en (min c (x + y))
theorem tbl_step (hr : ∀ a b, ro a b ≤ 9) {N : Nat} (hN : N ≤ 9) {en : Nat → Int32} (he : enOk en) {k A Bc : Nat} {Tb : Nat → Int32} (hk : k < N) (hA : A < N) (hB : Bc < N) (h : tbl ro N en k A Bc Tb) : tbl ro N en k A (Bc + 1) (fun i => if i = 9 * A + Bc then (if Tb (9 * A + k) + Tb (9 * k + Bc) < Tb (9 * A + Bc) then Tb (9 * A + k) + Tb (9 * k + Bc) else Tb (9 * A + Bc)) else Tb i) := by
  have e1 : Tb (9 * A + k) = en (fw ro k A k) := by
    rw [h A k hA hk]
    split
    · rw [fw_row]
    · rfl
  have e2 : Tb (9 * k + Bc) = en (fw ro k k Bc) := by
    rw [h k Bc hk hB]
    split
    · rw [fw_col]
    · rfl
  have e3 : Tb (9 * A + Bc) = en (fw ro k A Bc) := by rw [h A Bc hA hB, if_neg (by omega)]
  intro a b ha hb
  by_cases q : 9 * a + b = 9 * A + Bc
  · have ea : a = A := by omega
    have eb : b = Bc := by omega
    subst ea eb
    show (if 9 * a + b = 9 * a + b then _ else _) = _
    rw [if_pos rfl, e1, e2, e3, he _ _ _ (fw_90 hr (by omega) a b) (fw_90 hr (by omega) a k) (fw_90 hr (by omega) k b), if_pos (by omega)]
    rfl
  · show (if 9 * a + b = 9 * A + Bc then _ else _) = _
    rw [if_neg q, h a b ha hb]
    by_cases q2 : a < A ∨ (a = A ∧ b < Bc)
    · rw [if_pos q2, if_pos (by omega)]
    · rw [if_neg q2, if_neg (by omega)]
theorem tbl_row {N : Nat} {en : Nat → Int32} {k A : Nat} {Tb : Nat → Int32} (h : tbl ro N en k A N Tb) : tbl ro N en k (A + 1) 0 Tb := by
  intro a b ha hb
  rw [h a b ha hb]
  by_cases q : a < A ∨ (a = A ∧ b < N)
  · rw [if_pos q, if_pos (by omega)]
  · rw [if_neg q, if_neg (by omega)]
theorem tbl_stage {N : Nat} {en : Nat → Int32} {k : Nat} {Tb : Nat → Int32} (h : tbl ro N en k N 0 Tb) : tbl ro N en (k + 1) 0 0 Tb := by
  intro a b ha hb
  rw [h a b ha hb, if_pos (Or.inl ha), if_neg (by omega)]
theorem enOk_M : enOk nI := by
  intro c x y hc hx hy
  rw [nI_add]
  by_cases h : x + y < c
  · rw [if_pos (nI_lt h (by omega)), Nat.min_eq_right (by omega)]
  · rw [if_neg (nI_nlt (by omega) (by omega)), Nat.min_eq_left (by omega)]
/-- the class's numbers -/
def clN (x : Nat) : Int32 := clF (nI x)
theorem clN_s {x : Nat} (h : x < 100000) : clN x = nI x := by unfold clN clF; rw [if_pos (show nI x < 100000 from nI_lt (b := 100000) h (by decide))]
theorem clN_i : clN 100000 = nI 9999 := by decide
theorem enOk_C : enOk clN := by
  intro c x y hc hx hy
  rcases hx with hx | hx
  · rcases hy with hy | hy
    · rw [clN_s (x := x) (by omega), clN_s (x := y) (by omega), nI_add]
      rcases hc with hc | hc
      · rw [clN_s (x := c) (by omega)]
        by_cases h : x + y < c
        · rw [if_pos (nI_lt h (by omega)), Nat.min_eq_right (by omega), clN_s (by omega)]
        · rw [if_neg (nI_nlt (by omega) (by omega)), Nat.min_eq_left (by omega), clN_s (by omega)]
      · rw [hc, clN_i, if_pos (nI_lt (by omega) (by decide)), Nat.min_eq_right (by omega), clN_s (by omega)]
    · rw [hy, clN_s (x := x) (by omega), clN_i, nI_add]
      rcases hc with hc | hc
      · rw [clN_s (x := c) (by omega), if_neg (nI_nlt (by omega) (by omega)), Nat.min_eq_left (by omega), clN_s (by omega)]
      · rw [hc, clN_i, if_neg (nI_nlt (by omega) (by omega)), Nat.min_eq_left (by omega), clN_i]
  · rw [hx, clN_i]
    rcases hy with hy | hy
    · rw [clN_s (x := y) (by omega), nI_add]
      rcases hc with hc | hc
      · rw [clN_s (x := c) (by omega), if_neg (nI_nlt (by omega) (by omega)), Nat.min_eq_left (by omega), clN_s (by omega)]
      · rw [hc, clN_i, if_neg (nI_nlt (by omega) (by omega)), Nat.min_eq_left (by omega), clN_i]
    · rw [hy, clN_i, nI_add]
      rcases hc with hc | hc
      · rw [clN_s (x := c) (by omega), if_neg (nI_nlt (by omega) (by omega)), Nat.min_eq_left (by omega), clN_s (by omega)]
      · rw [hc, clN_i, if_neg (nI_nlt (by omega) (by omega)), Nat.min_eq_left (by omega), clN_i]
end F
