/-! PURE: image, restore -/
set_option maxRecDepth 100000
def uB (A : Nat → Nat) : Nat → Nat := fun i => if i = 0 then A 2 else A (99 + i)
def uI (A : Nat → Nat) : Nat → Nat := fun i => if i = 0 then A 13 else A (199 + i)
section IM
variable {ad : Nat → Nat} {T L : Nat → Nat} {V : w_V} {P : w_P} {t : Nat} {A : Nat → Nat} {sg : MS} {lw : (Nat → Int32) → Int32}
theorem uB_s {k : Nat} : uB A (k + 1) = A (100 + k) := by
  unfold uB
  rw [if_neg (by omega), show 99 + (k + 1) = 100 + k by omega]
theorem uI_s {k : Nat} : uI A (k + 1) = A (200 + k) := by
  unfold uI
  rw [if_neg (by omega), show 199 + (k + 1) = 200 + k by omega]
theorem uB_ix {i : Nat} (h : i ≤ 40) : ∃ j, stI j ∧ uB A i = A j ∧ (j = 2 ∨ (100 ≤ j ∧ j < 140)) ∧ (i = 0 ↔ j = 2) ∧ (i ≠ 0 → j = 99 + i) := by
  cases i with
  | zero => exact ⟨2, stI2, rfl, Or.inl rfl, by simp, fun h => absurd rfl h⟩
  | succ k => exact ⟨100 + k, stIa (by omega), uB_s, Or.inr ⟨by omega, by omega⟩, by omega, fun _ => by omega⟩
theorem uI_ix {i : Nat} (h : i ≤ 40) : ∃ j, stI j ∧ uI A i = A j ∧ (j = 13 ∨ (200 ≤ j ∧ j < 240)) ∧ (i = 0 ↔ j = 13) ∧ (i ≠ 0 → j = 199 + i) := by
  cases i with
  | zero => exact ⟨13, stI13, rfl, Or.inl rfl, by simp, fun h => absurd rfl h⟩
  | succ k => exact ⟨200 + k, stIb (by omega), uI_s, Or.inr ⟨by omega, by omega⟩, by omega, fun _ => by omega⟩
theorem bkB (hb : bxP T L P t A) : bkP T L P (A 0) (A 11) (A 12) (uB A) := by
  obtain ⟨z1, z2, z3, z4, z5, z6, z7, z8, z9, z10, z11⟩ := hb
  exact ⟨z2.1, z2.2.1, z2.2.2, z6.1, z6.2.1, z6.2.2.1, z6.2.2.2, fun k hk => by rw [uB_s]; exact (z9 k hk).1, fun i hi => by
    obtain ⟨j, j1, j2, -⟩ := uB_ix (A := A) hi
    rw [j2]; exact z10 j j1⟩
theorem bkI (hb : bxP T L P t A) : bkP T L P (A 1) (A 14) (A 15) (uI A) := by
  obtain ⟨z1, z2, z3, z4, z5, z6, z7, z8, z9, z10, z11⟩ := hb
  exact ⟨z3.1, z3.2.1, z3.2.2, z7.1, z7.2.1, z7.2.2.1, z7.2.2.2, fun k hk => by rw [uI_s]; exact (z9 k hk).2, fun i hi => by
    obtain ⟨j, j1, j2, -⟩ := uI_ix (A := A) hi
    rw [j2]; exact z10 j j1⟩
theorem uBI (hb : bxP T L P t A) {i j : Nat} (hi : i ≤ 40) (hj : j ≤ 40) : uB A i ≠ uI A j := by
  obtain ⟨a, a1, a2, a3, -⟩ := uB_ix (A := A) hi
  obtain ⟨b, b1, b2', b3, -⟩ := uI_ix (A := A) hj
  rw [a2, b2']
  exact bx_ne hb a1 b1 (by omega)
theorem uB_in (hb : bxP T L P t A) {i j : Nat} (hi : i ≤ 40) (hj : j ≤ 40) (e : uB A i = uB A j) : i = j := by
  obtain ⟨a, a1, a2, a3, a4, a5⟩ := uB_ix (A := A) hi
  obtain ⟨b, b1, b2', b3, b4, b5⟩ := uB_ix (A := A) hj
  rw [a2, b2'] at e
  have := hb.2.2.2.2.2.2.2.2.2.2 a b a1 b1 e
  omega
theorem uI_in (hb : bxP T L P t A) {i j : Nat} (hi : i ≤ 40) (hj : j ≤ 40) (e : uI A i = uI A j) : i = j := by
  obtain ⟨a, a1, a2, a3, a4, a5⟩ := uI_ix (A := A) hi
  obtain ⟨b, b1, b2', b3, b4, b5⟩ := uI_ix (A := A) hj
  rw [a2, b2'] at e
  have := hb.2.2.2.2.2.2.2.2.2.2 a b a1 b1 e
  omega
def imM (sg s9 : MS) : Prop := (∀ q, q ≠ 0 → q ≠ 58 → q ≠ 59 → q ≠ 60 → q ≠ 61 → q ≠ 62 → q ≠ 63 → s9 q = sg q) ∧ (∀ j, j ≠ 2 → j ≠ 54 → j ≠ 55 → j ≠ 56 → s9 0 j = sg 0 j) ∧ s9 0 54 = 1 ∧ s9 0 55 = sg 0 33 ∧ s9 0 56 = sg 0 34 ∧ (∀ i, i < 45 → s9 58 i = pk sg i) ∧ (∀ i, i < 1800 → s9 59 i = sg 29 i) ∧ (∀ i, i < 8 → s9 60 i = sg 51 i ∧ s9 61 i = sg 52 i ∧ s9 62 i = sg 53 i) ∧ ∀ i, i < 3 → s9 63 i = sg 13 i
theorem qM_image {post : MS → Prop} (hp : ∀ s9, imM sg s9 → post s9) : wM_image sg post := by
  unfold wM_image
  obtain ⟨s0, es⟩ : ∃ s0, s0 = s2 (s2 (s2 (s2 sg 0 2 0) 0 54 1) 0 55 ((s2 (s2 sg 0 2 0) 0 54 1) 0 33)) 0 56 ((s2 (s2 (s2 sg 0 2 0) 0 54 1) 0 55 ((s2 (s2 sg 0 2 0) 0 54 1) 0 33)) 0 34) := ⟨_, rfl⟩
  rw [← es]
  have r0 : ∀ q, q ≠ 0 → s0 q = sg q := fun q hq => by rw [es, s2_rowN hq, s2_rowN hq, s2_rowN hq, s2_rowN hq]
  have f0 : ∀ j, j ≠ 2 → j ≠ 54 → j ≠ 55 → j ≠ 56 → s0 0 j = sg 0 j := fun j a b c d => by rw [es, s2_i d, s2_i c, s2_i b, s2_i a]
  have g0 : s0 0 54 = 1 ∧ s0 0 55 = sg 0 33 ∧ s0 0 56 = sg 0 34 := by rw [es]; exact ⟨rfl, rfl, rfl⟩
  refine sM_pack (p := 0) (by decide) (by decide) (Or.inr rfl) (fun s1 p1 p2 _ => sM_be (by decide) (by decide) (by decide) (fun s2' q1 q2 => sM_be (by decide) (by decide) (by decide) (fun s3 a1 a2 => sM_be (by decide) (by decide) (by decide) (fun s4 b1 b2' => sM_be (by decide) (by decide) (by decide) (fun s5 c1 c2 => sM_be (by decide) (by decide) (by decide) (fun s6 d1 d2 => hp s6 ?_))))))
  have ep : pk s0 = pk sg := by
    unfold pk
    rw [r0 7 (by decide), r0 26 (by decide), r0 27 (by decide), r0 28 (by decide), f0 29 (by decide) (by decide) (by decide) (by decide), f0 30 (by decide) (by decide) (by decide) (by decide), f0 31 (by decide) (by decide) (by decide) (by decide), f0 32 (by decide) (by decide) (by decide) (by decide)]
  have z : s6 0 = s0 0 := by rw [d1 0 (by decide), c1 0 (by decide), b1 0 (by decide), a1 0 (by decide), q1 0 (by decide), p1 0 (by decide)]
  refine ⟨fun q h0 h58 h59 h60 h61 h62 h63 => ?_, fun j a b c d => by rw [z]; exact f0 j a b c d, by rw [z]; exact g0.1, by rw [z]; exact g0.2.1, by rw [z]; exact g0.2.2, fun i hi => ?_, fun i hi => ?_, fun i hi => ⟨?_, ?_, ?_⟩, fun i hi => ?_⟩
  · rw [d1 q h63, c1 q h62, b1 q h61, a1 q h60, q1 q h59, p1 q h58]; exact r0 q h0
  · rw [d1 58 (by decide), c1 58 (by decide), b1 58 (by decide), a1 58 (by decide), q1 58 (by decide), ← ep, ← p2 i hi, Nat.zero_add]
  · rw [d1 59 (by decide), c1 59 (by decide), b1 59 (by decide), a1 59 (by decide), q2 i hi, p1 29 (by decide), r0 29 (by decide)]
  · rw [d1 60 (by decide), c1 60 (by decide), b1 60 (by decide), a2 i hi, q1 51 (by decide), p1 51 (by decide), r0 51 (by decide)]
  · rw [d1 61 (by decide), c1 61 (by decide), b2' i hi, a1 52 (by decide), q1 52 (by decide), p1 52 (by decide), r0 52 (by decide)]
  · rw [d1 62 (by decide), c2 i hi, b1 53 (by decide), a1 53 (by decide), q1 53 (by decide), p1 53 (by decide), r0 53 (by decide)]
  · rw [d2 i hi, c1 13 (by decide), b1 13 (by decide), a1 13 (by decide), q1 13 (by decide), p1 13 (by decide), r0 13 (by decide)]
end IM
