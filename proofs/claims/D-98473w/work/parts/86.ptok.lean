/-! PURE: a text's tokens: where they begin and end, of what sort they are -/
set_option maxRecDepth 100000
def tRun (q : Nat → Bool) : Nat → Nat → Nat
  | 0, p => p
  | m + 1, p => if q p = true then tRun q m (p + 1) else p
theorem tRun_ge {q : Nat → Bool} : ∀ (m p : Nat), p ≤ tRun q m p
  | 0, p => Nat.le_refl p
  | m + 1, p => by
    unfold tRun
    split
    · exact Nat.le_trans (Nat.le_succ p) (tRun_ge m (p + 1))
    · exact Nat.le_refl p
theorem tRun_le {q : Nat → Bool} : ∀ (m p : Nat), tRun q m p ≤ p + m
  | 0, p => Nat.le_refl p
  | m + 1, p => by
    unfold tRun
    split
    · have := tRun_le (q := q) m (p + 1); omega
    · omega
theorem tRun_in {q : Nat → Bool} : ∀ (m p i : Nat), p ≤ i → i < tRun q m p → q i = true
  | 0, p, i, h1, h2 => absurd h2 (by show ¬ i < p; omega)
  | m + 1, p, i, h1, h2 => by
    unfold tRun at h2
    by_cases hq : q p = true
    · rw [if_pos hq] at h2
      by_cases e : i = p
      · rw [e]; exact hq
      · exact tRun_in m (p + 1) i (by omega) h2
    · rw [if_neg hq] at h2
      omega
theorem tRun_out {q : Nat → Bool} {n : Nat} (hq : ∀ i, q i = true → i < n) : ∀ (m p : Nat), p + m = n → q (tRun q m p) = false
  | 0, p, h => by
    show q p = false
    cases e : q p with
    | false => rfl
    | true => have := hq p e; omega
  | m + 1, p, h => by
    unfold tRun
    by_cases e : q p = true
    · rw [if_pos e]
      exact tRun_out hq m (p + 1) (by omega)
    · rw [if_neg e]
      simpa using e
/-- a step of a tRun to n -/
theorem tRun_t {q : Nat → Bool} {n p : Nat} (hp : p < n) (h : q p = true) : tRun q (n - p) p = tRun q (n - (p + 1)) (p + 1) := by
  obtain ⟨m, rfl⟩ : ∃ m, n = p + 1 + m := ⟨n - p - 1, by omega⟩
  rw [show p + 1 + m - p = m + 1 by omega, show p + 1 + m - (p + 1) = m by omega]
  show (if q p = true then tRun q m (p + 1) else p) = _
  rw [if_pos h]
theorem tRun_f {q : Nat → Bool} {n p : Nat} (h : q p = false) : tRun q (n - p) p = p := by
  cases e : n - p with
  | zero => rfl
  | succ m =>
    show (if q p = true then tRun q m (p + 1) else p) = _
    rw [if_neg (by rw [h]; decide)]
def tLt (c : Nat) : Bool := decide (97 ≤ c ∧ c ≤ 122)
def tDg (c : Nat) : Bool := decide (48 ≤ c ∧ c ≤ 57)
def tSn (c : Nat) : Bool := decide (c = 59 ∨ c = 40 ∨ c = 41 ∨ c = 43 ∨ c = 45 ∨ c = 42 ∨ c = 47 ∨ c = 60 ∨ c = 61)
def tqW (b : Nat → Nat) (n i : Nat) : Bool := decide (i < n ∧ (b i = 32 ∨ b i = 10))
def tqL (b : Nat → Nat) (n i : Nat) : Bool := decide (i < n) && tLt (b i)
def tqD (b : Nat → Nat) (n i : Nat) : Bool := decide (i < n) && tDg (b i)
/-- where the next token begins -/
def tSkp (b : Nat → Nat) (n p : Nat) : Nat := tRun (tqW b n) (n - p) p
/-- its sort: 0 none, 1 a word, 2 a number, 3 a sign, 4 bad -/
def tKin (b : Nat → Nat) (n p : Nat) : Nat := if n ≤ p then 0 else if tLt (b p) = true then 1 else if tDg (b p) = true then 2 else if tSn (b p) = true then 3 else 4
/-- where it ends -/
def tEn (b : Nat → Nat) (n p : Nat) : Nat := if n ≤ p then p else if tLt (b p) = true then tRun (tqL b n) (n - p) p else if tDg (b p) = true then tRun (tqD b n) (n - p) p else p + 1
def tNx (b : Nat → Nat) (n p : Nat) : Nat := tSkp b n (tEn b n p)
def tVlN (b : Nat → Nat) (p : Nat) : Nat → Nat
  | 0 => 0
  | k + 1 => 10 * tVlN b p k + (b (p + k) - 48)
def tVl (b : Nat → Nat) (n p : Nat) : Nat := tVlN b p (tEn b n p - p)
def tWrd (b : Nat → Nat) (n p : Nat) : List Nat := (List.range (tEn b n p - p)).map fun k => b (p + k)
/-- whether the token at p is the word or sign s -/
def tIs (b : Nat → Nat) (n p : Nat) (s : List Nat) : Bool := decide ((tKin b n p = 1 ∨ tKin b n p = 3) ∧ tWrd b n p = s)
section TK
variable {b : Nat → Nat} {n p : Nat}
theorem t9skp_ge : p ≤ tSkp b n p := tRun_ge _ _
theorem t9skp_le (h : p ≤ n) : tSkp b n p ≤ n := by
  have := tRun_le (q := tqW b n) (n - p) p
  unfold tSkp
  omega
theorem t9en_ge : p ≤ tEn b n p := by
  unfold tEn
  split
  · exact Nat.le_refl _
  · split
    · exact tRun_ge _ _
    · split
      · exact tRun_ge _ _
      · exact Nat.le_succ _
theorem t9en_le (h : p ≤ n) : tEn b n p ≤ n := by
  unfold tEn
  split
  · exact h
  · split
    · have := tRun_le (q := tqL b n) (n - p) p; omega
    · split
      · have := tRun_le (q := tqD b n) (n - p) p; omega
      · omega
theorem t9kin_lt : tKin b n p < 5 := by
  unfold tKin
  split
  · decide
  · split
    · decide
    · split
      · decide
      · split <;> decide
theorem t9kin_0 : tKin b n p = 0 ↔ n ≤ p := by
  unfold tKin
  by_cases h : n ≤ p
  · rw [if_pos h]; exact ⟨fun _ => h, fun _ => rfl⟩
  · rw [if_neg h]
    refine ⟨fun q => ?_, fun q => absurd q h⟩
    split at q
    · cases q
    · split at q
      · cases q
      · split at q <;> cases q
theorem t9kin_1 : tKin b n p = 1 ↔ p < n ∧ tLt (b p) = true := by
  unfold tKin
  by_cases h : n ≤ p
  · rw [if_pos h]; exact ⟨fun q => (by cases q), fun q => (by omega)⟩
  · rw [if_neg h]
    by_cases h1 : tLt (b p) = true
    · rw [if_pos h1]; exact ⟨fun _ => ⟨by omega, h1⟩, fun _ => rfl⟩
    · rw [if_neg h1]
      refine ⟨fun q => ?_, fun q => absurd q.2 h1⟩
      split at q
      · cases q
      · split at q <;> cases q
theorem t9kin_2 : tKin b n p = 2 ↔ p < n ∧ tDg (b p) = true := by
  unfold tKin
  by_cases h : n ≤ p
  · rw [if_pos h]; exact ⟨fun q => (by cases q), fun q => (by omega)⟩
  · rw [if_neg h]
    by_cases h1 : tLt (b p) = true
    · rw [if_pos h1]
      refine ⟨fun q => (by cases q), fun q => ?_⟩
      have e1 := of_decide_eq_true h1
      have e2 := of_decide_eq_true q.2
      omega
    · rw [if_neg h1]
      by_cases h2 : tDg (b p) = true
      · rw [if_pos h2]; exact ⟨fun _ => ⟨by omega, h2⟩, fun _ => rfl⟩
      · rw [if_neg h2]
        refine ⟨fun q => ?_, fun q => absurd q.2 h2⟩
        split at q <;> cases q
theorem t9sn_n {c : Nat} (h : tSn c = true) : tLt c = false ∧ tDg c = false ∧ c < 128 := by
  have e := of_decide_eq_true h
  rcases e with e | e | e | e | e | e | e | e | e <;> subst e <;> decide
theorem t9kin_3 : tKin b n p = 3 ↔ p < n ∧ tSn (b p) = true := by
  unfold tKin
  by_cases h : n ≤ p
  · rw [if_pos h]; exact ⟨fun q => (by cases q), fun q => (by omega)⟩
  · rw [if_neg h]
    by_cases h3 : tSn (b p) = true
    · obtain ⟨e1, e2, -⟩ := t9sn_n h3
      rw [if_neg (by rw [e1]; decide), if_neg (by rw [e2]; decide), if_pos h3]
      exact ⟨fun _ => ⟨by omega, h3⟩, fun _ => rfl⟩
    · refine ⟨fun q => ?_, fun q => absurd q.2 h3⟩
      rw [if_neg h3] at q
      split at q
      · cases q
      · split at q <;> cases q
theorem t9en_0 (h : n ≤ p) : tEn b n p = p := by unfold tEn; rw [if_pos h]
theorem t9en_1 (h : tKin b n p = 1) : tEn b n p = tRun (tqL b n) (n - p) p := by
  obtain ⟨h1, h2⟩ := t9kin_1.mp h
  unfold tEn; rw [if_neg (by omega), if_pos h2]
theorem t9en_2 (h : tKin b n p = 2) : tEn b n p = tRun (tqD b n) (n - p) p := by
  obtain ⟨h1, h2⟩ := t9kin_2.mp h
  unfold tEn
  rw [if_neg (by omega), if_neg (fun q => ?_), if_pos h2]
  have e1 := of_decide_eq_true q
  have e2 := of_decide_eq_true h2
  omega
theorem t9en_s (h0 : p < n) (h1 : tKin b n p ≠ 1) (h2 : tKin b n p ≠ 2) : tEn b n p = p + 1 := by
  unfold tEn
  rw [if_neg (by omega), if_neg (fun q => h1 (t9kin_1.mpr ⟨h0, q⟩)), if_neg (fun q => h2 (t9kin_2.mpr ⟨h0, q⟩))]
theorem t9en_gt (h : p < n) : p < tEn b n p := by
  by_cases h1 : tKin b n p = 1
  · rw [t9en_1 h1, tRun_t h (by unfold tqL; rw [(t9kin_1.mp h1).2, decide_eq_true h]; rfl)]
    exact Nat.lt_of_lt_of_le (Nat.lt_succ_self p) (tRun_ge _ _)
  · by_cases h2 : tKin b n p = 2
    · rw [t9en_2 h2, tRun_t h (by unfold tqD; rw [(t9kin_2.mp h2).2, decide_eq_true h]; rfl)]
      exact Nat.lt_of_lt_of_le (Nat.lt_succ_self p) (tRun_ge _ _)
    · rw [t9en_s h h1 h2]; exact Nat.lt_succ_self p
theorem t9nx_gt (h : p < n) : p < tNx b n p := Nat.lt_of_lt_of_le (t9en_gt h) t9skp_ge
theorem t9nx_le (h : p ≤ n) : tNx b n p ≤ n := t9skp_le (t9en_le h)
theorem t9lt_k (h : tKin b n p ≠ 0) : p < n := by
  rcases Nat.lt_or_ge p n with q | q
  · exact q
  · exact absurd (t9kin_0.mpr q) h
/-- the letters of a word -/
theorem t9en_lt (h : tKin b n p = 1) {i : Nat} (h1 : p ≤ i) (h2 : i < tEn b n p) : tLt (b i) = true := by
  rw [t9en_1 h] at h2
  have := tRun_in _ _ _ h1 h2
  unfold tqL at this
  exact (Bool.and_eq_true_iff.mp this).2
theorem t9en_dg (h : tKin b n p = 2) {i : Nat} (h1 : p ≤ i) (h2 : i < tEn b n p) : tDg (b i) = true := by
  rw [t9en_2 h] at h2
  have := tRun_in _ _ _ h1 h2
  unfold tqD at this
  exact (Bool.and_eq_true_iff.mp this).2
theorem t9wrd_len : (tWrd b n p).length = tEn b n p - p := by simp [tWrd]
theorem t9wrd_get {k : Nat} (h : k < tEn b n p - p) : (tWrd b n p).getD k 0 = b (p + k) := by
  unfold tWrd
  rw [List.getD_eq_getElem?_getD, List.getElem?_map, List.getElem?_range h]
  rfl
theorem t9wrd_3 (h : tKin b n p = 3) : tWrd b n p = [b p] := by
  obtain ⟨h1, h2⟩ := t9kin_3.mp h
  have : tEn b n p = p + 1 := t9en_s h1 (by rw [h]; decide) (by rw [h]; decide)
  unfold tWrd
  rw [this, show p + 1 - p = 1 by omega]
  rfl
theorem t9tis_iff {s : List Nat} : tIs b n p s = true ↔ (tKin b n p = 1 ∨ tKin b n p = 3) ∧ tWrd b n p = s := by unfold tIs; exact decide_eq_true_iff
theorem t9tis_f {s : List Nat} (h : ¬ ((tKin b n p = 1 ∨ tKin b n p = 3) ∧ tWrd b n p = s)) : tIs b n p s = false := by unfold tIs; exact decide_eq_false h
theorem t9tis_sg {c : Nat} (h : tLt c = false) : tIs b n p [c] = true ↔ tKin b n p = 3 ∧ b p = c := by
  rw [t9tis_iff]
  constructor
  · rintro ⟨h1 | h1, h2⟩
    · exfalso
      have hp := t9en_gt (b := b) (t9kin_1.mp h1).1
      have := t9wrd_get (b := b) (n := n) (p := p) (k := 0) (by omega)
      rw [h2] at this
      have e : c = b p := this
      rw [e, (t9kin_1.mp h1).2] at h
      cases h
    · rw [t9wrd_3 h1] at h2
      exact ⟨h1, by injection h2⟩
  · rintro ⟨h1, rfl⟩
    exact ⟨Or.inr h1, t9wrd_3 h1⟩
theorem t9tis_wd {c : Nat} {s : List Nat} (h : tLt c = true) : tIs b n p (c :: s) = true ↔ tKin b n p = 1 ∧ tWrd b n p = c :: s := by
  rw [t9tis_iff]
  constructor
  · rintro ⟨h1 | h1, h2⟩
    · exact ⟨h1, h2⟩
    · exfalso
      rw [t9wrd_3 h1] at h2
      injection h2 with e _
      have := (t9sn_n (t9kin_3.mp h1).2).1
      rw [e, h] at this
      cases this
  · rintro ⟨h1, h2⟩
    exact ⟨Or.inl h1, h2⟩
theorem t9tis_k {s : List Nat} (h : tIs b n p s = true) : tKin b n p ≠ 0 := by
  rcases (t9tis_iff.mp h).1 with q | q <;> (rw [q]; decide)
/-- two words aren't both there -/
theorem t9tis_ne {s t : List Nat} (h : tIs b n p s = true) (hst : s ≠ t) : tIs b n p t = false := t9tis_f (fun q => hst ((t9tis_iff.mp h).2.symm.trans q.2))
theorem t9vlN_lt : ∀ k, (∀ i, i < k → tDg (b (p + i)) = true) → tVlN b p k < 10 ^ k
  | 0, _ => by show (0 : Nat) < 1; decide
  | k + 1, h => by
    have h1 := t9vlN_lt k (fun i hi => h i (by omega))
    have h2 := of_decide_eq_true (h k (by omega))
    show 10 * tVlN b p k + (b (p + k) - 48) < 10 ^ (k + 1)
    rw [Nat.pow_succ]
    omega
/-- what a number's token shows, to be between lo and hi: 0 well, 1 no number, 2 too long or too much -/
def tNum (b : Nat → Nat) (n p lo hi : Nat) : Nat := if tKin b n p ≠ 2 then 1 else if 4 < tEn b n p - p ∨ tVl b n p < lo ∨ hi < tVl b n p then 2 else 0
/-- the number of one of so many -/
def tOf (b : Nat → Nat) (n p m : Nat) : Nat := if tKin b n p ≠ 2 then 1 else if 4 < tEn b n p - p then 2 else if m ≤ tVl b n p then 3 else 0
theorem t9vl_lt (h : tKin b n p = 2) (h4 : tEn b n p - p ≤ 4) : tVl b n p < 10000 := by
  have h1 := t9vlN_lt (b := b) (p := p) (tEn b n p - p) (fun i hi => t9en_dg h (by omega) (by omega))
  have h2 : (10 : Nat) ^ (tEn b n p - p) ≤ 10 ^ 4 := Nat.pow_le_pow_right (by decide) h4
  unfold tVl
  omega
end TK
