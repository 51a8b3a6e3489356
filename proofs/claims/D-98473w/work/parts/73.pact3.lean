/-! PURE: start, inn, word, feast, flood -/
set_option maxRecDepth 100000
/-- the state at a is the model's -/
def rwX (V : w_V) (a n : Nat) (s : MS) : Prop := (∀ j, j < n → V a 1 j = s 7 j) ∧ V a 0 4 = s 0 29 ∧ V a 0 5 = s 0 30 ∧ V a 0 6 = s 0 31 ∧ V a 0 7 = s 0 32 ∧ (∀ k, k < 3 * tn (s 0 30) → V a 2 k = s 26 k) ∧ (∀ k, k < 3 * tn (s 0 31) → V a 3 k = s 27 k) ∧ (∀ k, k < 3 * tn (s 0 32) → V a 4 k = s 28 k) ∧ V a 0 8 = 0 ∧ V a 0 9 = 0 ∧ V a 0 10 = 0 ∧ V a 0 11 = -1
def rwO (nt nj : Nat) (s : MS) : Prop := (∀ j, j < nj → ∃ d, s 7 j = nI d ∧ d ≤ 60) ∧ (s 0 30 = nI (tn (s 0 30)) ∧ tn (s 0 30) ≤ 4) ∧ (s 0 31 = nI (tn (s 0 31)) ∧ tn (s 0 31) ≤ 4) ∧ (s 0 32 = nI (tn (s 0 32)) ∧ tn (s 0 32) ≤ 4) ∧
  (∀ k, k < tn (s 0 30) → ∃ t d, s 26 (3 * k + 1) = nI t ∧ t < nt ∧ s 26 (3 * k + 2) = nI d ∧ d ≤ 99) ∧ (∀ k, k < tn (s 0 32) → ∃ t w, s 28 (3 * k) = nI t ∧ t < nt ∧ s 28 (3 * k + 2) = nI w ∧ w ≤ 20) ∧ ∃ m, s 0 29 = nI m ∧ m < 512
theorem rw_of {V : w_V} {a n nt : Nat} {s : MS} (hn : n ≤ 5) (h : rwX V a n s) (ho : rwO nt n s) : rowX V a n (pk s) ∧ rowOk nt n (pk s) := by
  obtain ⟨h1, h2, h3, h4, h5, h6, h7, h8, h9⟩ := h
  obtain ⟨o1, o2, o3, o4, o5, o6, o7⟩ := ho
  unfold rowX rowOk
  rw [pk_5, pk_6, pk_7, pk_8]
  refine ⟨⟨fun j hj => by rw [pk_d (by omega)]; exact h1 j hj, h2, h3, h4, h5, fun k hk => by rw [pk_w (by omega)]; exact h6 k hk, fun k hk => by rw [pk_f (by omega)]; exact h7 k hk, fun k hk => by rw [pk_l]; exact h8 k hk, h9⟩, fun j hj => by rw [pk_d (by omega)]; exact o1 j hj, o2, o3, o4, fun k hk => ?_, fun k hk => ?_, o7⟩
  · rw [pk_w (by omega), pk_w (by omega)]; exact o5 k hk
  · rw [pk_l, pk_l]; exact o6 k hk
theorem rw_to {V : w_V} {a n nt : Nat} {s : MS} (hn : n ≤ 5) (h : rowX V a n (pk s)) (ho : rowOk nt n (pk s)) : rwX V a n s ∧ rwO nt n s := by
  obtain ⟨h1, h2, h3, h4, h5, h6, h7, h8, h9⟩ := h
  obtain ⟨o1, o2, o3, o4, o5, o6, o7⟩ := ho
  rw [pk_5] at h2 o7
  rw [pk_6] at h3 h6 o2 o5
  rw [pk_7] at h4 h7 o3
  rw [pk_8] at h5 h8 o4 o6
  refine ⟨⟨fun j hj => by rw [← pk_d (sg := s) (by omega)]; exact h1 j hj, h2, h3, h4, h5, fun k hk => by rw [← pk_w (sg := s) (by omega)]; exact h6 k hk, fun k hk => by rw [← pk_f (sg := s) (by omega)]; exact h7 k hk, fun k hk => by rw [← pk_l (sg := s)]; exact h8 k hk, h9⟩, fun j hj => by rw [← pk_d (sg := s) (by omega)]; exact o1 j hj, o2, o3, o4, fun k hk => ?_, fun k hk => ?_, o7⟩
  · have := o5 k hk
    rw [pk_w (by omega), pk_w (by omega)] at this
    exact this
  · have := o6 k hk
    rw [pk_l, pk_l] at this
    exact this
theorem inn_xor : ∀ m, m < 512 → ∀ k, k < 9 → nI m ^^^ ((1 : Int32) <<< (nI k &&& 31)) = nI (m ^^^ 2 ^ k) ∧ m ^^^ 2 ^ k < 512 := by decide +kernel
section RW
variable {V : w_V} {a n nt : Nat} {s : MS}
theorem rwX.day {j : Nat} {x : Int32} (h : rwX V a n s) : rwX (up3 V a 1 j x) a n (s2 s 7 j x) := by
  obtain ⟨h1, h2, h3⟩ := h
  unfold rwX
  rw [up3_a, s2_rowN (show (0 : Nat) ≠ 1 by decide), s2_rowN (show (2 : Nat) ≠ 1 by decide), s2_rowN (show (3 : Nat) ≠ 1 by decide), s2_rowN (show (4 : Nat) ≠ 1 by decide), s2_rowN (show (0 : Nat) ≠ 7 by decide), s2_rowN (show (26 : Nat) ≠ 7 by decide), s2_rowN (show (27 : Nat) ≠ 7 by decide), s2_rowN (show (28 : Nat) ≠ 7 by decide)]
  refine ⟨fun i hi => ?_, h2, h3⟩
  by_cases e : i = j
  · subst e; rw [s2_s, s2_s]
  · rw [s2_i e, s2_i e]; exact h1 i hi
theorem rwO.day {j d : Nat} (h : rwO nt n s) (hd : d ≤ 60) : rwO nt n (s2 s 7 j (nI d)) := by
  obtain ⟨h1, h2⟩ := h
  unfold rwO
  rw [s2_rowN (show (0 : Nat) ≠ 7 by decide), s2_rowN (show (26 : Nat) ≠ 7 by decide), s2_rowN (show (28 : Nat) ≠ 7 by decide)]
  refine ⟨fun i hi => ?_, h2⟩
  by_cases e : i = j
  · subst e; exact ⟨d, s2_s, hd⟩
  · rw [s2_i e]; exact h1 i hi
theorem rwX.inn {x : Int32} (h : rwX V a n s) : rwX (up3 V a 0 4 x) a n (s2 s 0 29 x) := by
  obtain ⟨h1, h2, h3⟩ := h
  unfold rwX
  rw [up3_a, s2_rowN (show (1 : Nat) ≠ 0 by decide), s2_rowN (show (2 : Nat) ≠ 0 by decide), s2_rowN (show (3 : Nat) ≠ 0 by decide), s2_rowN (show (4 : Nat) ≠ 0 by decide), s2_rowN (show (7 : Nat) ≠ 0 by decide), s2_rowN (show (26 : Nat) ≠ 0 by decide), s2_rowN (show (27 : Nat) ≠ 0 by decide), s2_rowN (show (28 : Nat) ≠ 0 by decide), s2_s, s2_s, s2_i (show (5 : Nat) ≠ 4 by decide), s2_i (show (6 : Nat) ≠ 4 by decide), s2_i (show (7 : Nat) ≠ 4 by decide), s2_i (show (8 : Nat) ≠ 4 by decide), s2_i (show (9 : Nat) ≠ 4 by decide), s2_i (show (10 : Nat) ≠ 4 by decide), s2_i (show (11 : Nat) ≠ 4 by decide), s2_i (show (30 : Nat) ≠ 29 by decide), s2_i (show (31 : Nat) ≠ 29 by decide), s2_i (show (32 : Nat) ≠ 29 by decide)]
  exact ⟨h1, rfl, h3⟩
theorem rwO.inn {m : Nat} (h : rwO nt n s) (hm : m < 512) : rwO nt n (s2 s 0 29 (nI m)) := by
  obtain ⟨h1, h2, h3, h4, h5, h6, h7⟩ := h
  unfold rwO
  rw [s2_rowN (show (7 : Nat) ≠ 0 by decide), s2_rowN (show (26 : Nat) ≠ 0 by decide), s2_rowN (show (28 : Nat) ≠ 0 by decide), s2_i (show (30 : Nat) ≠ 29 by decide), s2_i (show (31 : Nat) ≠ 29 by decide), s2_i (show (32 : Nat) ≠ 29 by decide), s2_s]
  exact ⟨h1, h2, h3, h4, h5, h6, m, rfl, hm⟩
theorem tn_s {x : Int32} (h : x = nI (tn x)) (h2 : tn x ≤ 4) : tn (x + 1) = tn x + 1 := by
  rw [h, nI_1, tn_nI (by omega), tn_nI (by omega)]
theorem cnt_ok {x : Int32} (h : x = nI (tn x)) (h2 : tn x ≤ 3) : x + 1 = nI (tn (x + 1)) ∧ tn (x + 1) ≤ 4 := by
  rw [tn_s h (by omega)]
  refine ⟨?_, by omega⟩
  rw [← nI_1, ← h]
/-- one more row of three, at both: r the class's row, c its count; q the model's, d its count -/
theorem rwX.word {x y z : Int32} {V1 V2 : w_V} (h : rwX V a n s) (ho : rwO nt n s) (e1 : V1 a = put3 (V a) 2 (tn (s 0 30)) x y z) (e2 : V2 a = s2 (V1 a) 0 5 (V1 a 0 5 + 1)) : rwX V2 a n (s2 (put3 s 26 (tn (s 0 30)) x y z) 0 30 (s 0 30 + 1)) := by
  obtain ⟨h1, h2, h3, h4, h5, h6, h7, h8, h9⟩ := h
  obtain ⟨o1, o2⟩ := ho.2.1
  unfold rwX
  rw [e2, s2_rowN (show (1 : Nat) ≠ 0 by decide), s2_rowN (show (2 : Nat) ≠ 0 by decide), s2_rowN (show (3 : Nat) ≠ 0 by decide), s2_rowN (show (4 : Nat) ≠ 0 by decide), s2_rowN (show (7 : Nat) ≠ 0 by decide), s2_rowN (show (26 : Nat) ≠ 0 by decide), s2_rowN (show (27 : Nat) ≠ 0 by decide), s2_rowN (show (28 : Nat) ≠ 0 by decide), s2_s, s2_s, s2_i (show (4 : Nat) ≠ 5 by decide), s2_i (show (6 : Nat) ≠ 5 by decide), s2_i (show (7 : Nat) ≠ 5 by decide), s2_i (show (8 : Nat) ≠ 5 by decide), s2_i (show (9 : Nat) ≠ 5 by decide), s2_i (show (10 : Nat) ≠ 5 by decide), s2_i (show (11 : Nat) ≠ 5 by decide), s2_i (show (29 : Nat) ≠ 30 by decide), s2_i (show (31 : Nat) ≠ 30 by decide), s2_i (show (32 : Nat) ≠ 30 by decide)]
  rw [e1, put3_n (show (0 : Nat) ≠ 2 by decide), put3_n (show (1 : Nat) ≠ 2 by decide), put3_n (show (3 : Nat) ≠ 2 by decide), put3_n (show (4 : Nat) ≠ 2 by decide), put3_n (show (0 : Nat) ≠ 26 by decide), put3_n (show (7 : Nat) ≠ 26 by decide), put3_n (show (27 : Nat) ≠ 26 by decide), put3_n (show (28 : Nat) ≠ 26 by decide), tn_s o1 o2]
  exact ⟨h1, h2, by rw [h3], h4, h5, fun k hk => put3_e h6 hk, h7, h8, h9⟩
theorem rwO.word {x : Int32} {u v : Nat} (h : rwO nt n s) (hw : tn (s 0 30) ≤ 3) (hu : u < nt) (hv : v ≤ 99) : rwO nt n (s2 (put3 s 26 (tn (s 0 30)) x (nI u) (nI v)) 0 30 (s 0 30 + 1)) := by
  obtain ⟨h1, h2, h3, h4, h5, h6, h7⟩ := h
  unfold rwO
  rw [s2_rowN (show (7 : Nat) ≠ 0 by decide), s2_rowN (show (26 : Nat) ≠ 0 by decide), s2_rowN (show (28 : Nat) ≠ 0 by decide), s2_s, s2_i (show (29 : Nat) ≠ 30 by decide), s2_i (show (31 : Nat) ≠ 30 by decide), s2_i (show (32 : Nat) ≠ 30 by decide), put3_n (show (0 : Nat) ≠ 26 by decide), put3_n (show (7 : Nat) ≠ 26 by decide), put3_n (show (28 : Nat) ≠ 26 by decide)]
  refine ⟨h1, cnt_ok h2.1 hw, h3, h4, fun k hk => ?_, h6, h7⟩
  rw [tn_s h2.1 (by omega)] at hk
  by_cases e : k = tn (s 0 30)
  · subst e; exact ⟨u, v, put3_1, hu, put3_2, hv⟩
  · rw [put3_i (by omega), put3_i (by omega)]; exact h5 k (by omega)
theorem rwX.feast {x y z : Int32} {V1 V2 : w_V} (h : rwX V a n s) (ho : rwO nt n s) (e1 : V1 a = put3 (V a) 3 (tn (s 0 31)) x y z) (e2 : V2 a = s2 (V1 a) 0 6 (V1 a 0 6 + 1)) : rwX V2 a n (s2 (put3 s 27 (tn (s 0 31)) x y z) 0 31 (s 0 31 + 1)) := by
  obtain ⟨h1, h2, h3, h4, h5, h6, h7, h8, h9⟩ := h
  obtain ⟨o1, o2⟩ := ho.2.2.1
  unfold rwX
  rw [e2, s2_rowN (show (1 : Nat) ≠ 0 by decide), s2_rowN (show (2 : Nat) ≠ 0 by decide), s2_rowN (show (3 : Nat) ≠ 0 by decide), s2_rowN (show (4 : Nat) ≠ 0 by decide), s2_rowN (show (7 : Nat) ≠ 0 by decide), s2_rowN (show (26 : Nat) ≠ 0 by decide), s2_rowN (show (27 : Nat) ≠ 0 by decide), s2_rowN (show (28 : Nat) ≠ 0 by decide), s2_s, s2_s, s2_i (show (4 : Nat) ≠ 6 by decide), s2_i (show (5 : Nat) ≠ 6 by decide), s2_i (show (7 : Nat) ≠ 6 by decide), s2_i (show (8 : Nat) ≠ 6 by decide), s2_i (show (9 : Nat) ≠ 6 by decide), s2_i (show (10 : Nat) ≠ 6 by decide), s2_i (show (11 : Nat) ≠ 6 by decide), s2_i (show (29 : Nat) ≠ 31 by decide), s2_i (show (30 : Nat) ≠ 31 by decide), s2_i (show (32 : Nat) ≠ 31 by decide)]
  rw [e1, put3_n (show (0 : Nat) ≠ 3 by decide), put3_n (show (1 : Nat) ≠ 3 by decide), put3_n (show (2 : Nat) ≠ 3 by decide), put3_n (show (4 : Nat) ≠ 3 by decide), put3_n (show (0 : Nat) ≠ 27 by decide), put3_n (show (7 : Nat) ≠ 27 by decide), put3_n (show (26 : Nat) ≠ 27 by decide), put3_n (show (28 : Nat) ≠ 27 by decide), tn_s o1 o2]
  exact ⟨h1, h2, h3, by rw [h4], h5, h6, fun k hk => put3_e h7 hk, h8, h9⟩
theorem rwO.feast {x y z : Int32} (h : rwO nt n s) (hw : tn (s 0 31) ≤ 3) : rwO nt n (s2 (put3 s 27 (tn (s 0 31)) x y z) 0 31 (s 0 31 + 1)) := by
  obtain ⟨h1, h2, h3, h4, h5, h6, h7⟩ := h
  unfold rwO
  rw [s2_rowN (show (7 : Nat) ≠ 0 by decide), s2_rowN (show (26 : Nat) ≠ 0 by decide), s2_rowN (show (28 : Nat) ≠ 0 by decide), s2_s, s2_i (show (29 : Nat) ≠ 31 by decide), s2_i (show (30 : Nat) ≠ 31 by decide), s2_i (show (32 : Nat) ≠ 31 by decide), put3_n (show (0 : Nat) ≠ 27 by decide), put3_n (show (7 : Nat) ≠ 27 by decide), put3_n (show (26 : Nat) ≠ 27 by decide), put3_n (show (28 : Nat) ≠ 27 by decide)]
  exact ⟨h1, h2, cnt_ok h3.1 hw, h4, h5, h6, h7⟩
theorem rwX.flood {x y z : Int32} {V1 V2 : w_V} (h : rwX V a n s) (ho : rwO nt n s) (e1 : V1 a = put3 (V a) 4 (tn (s 0 32)) x y z) (e2 : V2 a = s2 (V1 a) 0 7 (V1 a 0 7 + 1)) : rwX V2 a n (s2 (put3 s 28 (tn (s 0 32)) x y z) 0 32 (s 0 32 + 1)) := by
  obtain ⟨h1, h2, h3, h4, h5, h6, h7, h8, h9⟩ := h
  obtain ⟨o1, o2⟩ := ho.2.2.2.1
  unfold rwX
  rw [e2, s2_rowN (show (1 : Nat) ≠ 0 by decide), s2_rowN (show (2 : Nat) ≠ 0 by decide), s2_rowN (show (3 : Nat) ≠ 0 by decide), s2_rowN (show (4 : Nat) ≠ 0 by decide), s2_rowN (show (7 : Nat) ≠ 0 by decide), s2_rowN (show (26 : Nat) ≠ 0 by decide), s2_rowN (show (27 : Nat) ≠ 0 by decide), s2_rowN (show (28 : Nat) ≠ 0 by decide), s2_s, s2_s, s2_i (show (4 : Nat) ≠ 7 by decide), s2_i (show (5 : Nat) ≠ 7 by decide), s2_i (show (6 : Nat) ≠ 7 by decide), s2_i (show (8 : Nat) ≠ 7 by decide), s2_i (show (9 : Nat) ≠ 7 by decide), s2_i (show (10 : Nat) ≠ 7 by decide), s2_i (show (11 : Nat) ≠ 7 by decide), s2_i (show (29 : Nat) ≠ 32 by decide), s2_i (show (30 : Nat) ≠ 32 by decide), s2_i (show (31 : Nat) ≠ 32 by decide)]
  rw [e1, put3_n (show (0 : Nat) ≠ 4 by decide), put3_n (show (1 : Nat) ≠ 4 by decide), put3_n (show (2 : Nat) ≠ 4 by decide), put3_n (show (3 : Nat) ≠ 4 by decide), put3_n (show (0 : Nat) ≠ 28 by decide), put3_n (show (7 : Nat) ≠ 28 by decide), put3_n (show (26 : Nat) ≠ 28 by decide), put3_n (show (27 : Nat) ≠ 28 by decide), tn_s o1 o2]
  exact ⟨h1, h2, h3, h4, by rw [h5], h6, h7, fun k hk => put3_e h8 hk, h9⟩
theorem rwO.flood {y : Int32} {u v : Nat} (h : rwO nt n s) (hw : tn (s 0 32) ≤ 3) (hu : u < nt) (hv : v ≤ 20) : rwO nt n (s2 (put3 s 28 (tn (s 0 32)) (nI u) y (nI v)) 0 32 (s 0 32 + 1)) := by
  obtain ⟨h1, h2, h3, h4, h5, h6, h7⟩ := h
  unfold rwO
  rw [s2_rowN (show (7 : Nat) ≠ 0 by decide), s2_rowN (show (26 : Nat) ≠ 0 by decide), s2_rowN (show (28 : Nat) ≠ 0 by decide), s2_s, s2_i (show (29 : Nat) ≠ 32 by decide), s2_i (show (30 : Nat) ≠ 32 by decide), s2_i (show (31 : Nat) ≠ 32 by decide), put3_n (show (0 : Nat) ≠ 28 by decide), put3_n (show (7 : Nat) ≠ 28 by decide), put3_n (show (26 : Nat) ≠ 28 by decide)]
  refine ⟨h1, h2, h3, cnt_ok h4.1 hw, h5, fun k hk => ?_, h7⟩
  rw [tn_s h4.1 (by omega)] at hk
  by_cases e : k = tn (s 0 32)
  · subst e; exact ⟨u, v, put3_0, hu, put3_2, hv⟩
  · rw [put3_i (by omega), put3_i (by omega)]; exact h6 k (by omega)
end RW
