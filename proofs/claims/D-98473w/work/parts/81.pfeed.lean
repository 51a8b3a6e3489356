/-! PURE: feed -/
set_option maxRecDepth 100000
theorem byte_and (y : Int32) : vp_nar .byte y.toInt8.toInt32 &&& 255 = y &&& 255 := by
  rw [vp_nar_byte]
  apply Int32.toBitVec_inj.mp
  apply BitVec.eq_of_getLsbD_eq
  intro i hi
  simp only [Int32.toBitVec_and, BitVec.getLsbD_and]
  by_cases h8 : i < 8
  · have e : (y.toInt8.toInt32.toInt8.toInt32).toBitVec.getLsbD i = y.toBitVec.getLsbD i := by
      simp [BitVec.getElem_signExtend, hi, h8]
    rw [e]
  · have e : (255 : Int32).toBitVec.getLsbD i = false := by
      have : i = 8 ∨ i = 9 ∨ i = 10 ∨ i = 11 ∨ i = 12 ∨ i = 13 ∨ i = 14 ∨ i = 15 ∨ i = 16 ∨ i = 17 ∨ i = 18 ∨ i = 19 ∨ i = 20 ∨ i = 21 ∨ i = 22 ∨ i = 23 ∨ i = 24 ∨ i = 25 ∨ i = 26 ∨ i = 27 ∨ i = 28 ∨ i = 29 ∨ i = 30 ∨ i = 31 := by omega
      rcases this with h | h | h | h | h | h | h | h | h | h | h | h | h | h | h | h | h | h | h | h | h | h | h | h <;> subst h <;> decide
    rw [e, Bool.and_false, Bool.and_false]
/-- byte j of x, the highest first -/
def byt (x : Int32) (j : Nat) : Int32 := (x >>> (nI (24 - 8 * j) &&& 31)) &&& 255
section FD
variable {ad : Nat → Nat} {T L : Nat → Nat} {V : w_V} {P : w_P} {t : Nat} {A : Nat → Nat} {sg : MS} {lw : (Nat → Int32) → Int32}
/-- one byte more on the tape at t -/
def tpX (V V9 : w_V) (t n m : Nat) (f : Nat → Int32) : Prop := (∀ a, a ≠ t → V9 a = V a) ∧ (∀ k i, k ≠ 8 → ¬ (k = 0 ∧ i = 8) → V9 t k i = V t k i) ∧ V9 t 0 8 = nI (n + m) ∧ (∀ i, i < n → V9 t 8 i = V t 8 i) ∧ ∀ j, j < m → V9 t 8 (n + j) &&& 255 = f j
theorem sX_lay1 {V V1 V2 : w_V} {n m : Nat} {f : Nat → Int32} (h : tpX V V1 t n m f) {y : Int32} (hy : y &&& 255 = f m) (e : V2 = up3 (up3 V1 t 8 (n + m) (vp_nar .byte y.toInt8.toInt32)) t 0 8 (up3 V1 t 8 (n + m) (vp_nar .byte y.toInt8.toInt32) t 0 8 + 1)) : tpX V V2 t n (m + 1) f := by
  obtain ⟨h1, h2, h3, h4, h5⟩ := h
  have e2 : V2 t = s2 (s2 (V1 t) 8 (n + m) (vp_nar .byte y.toInt8.toInt32)) 0 8 (nI (n + m + 1)) := by
    rw [e, up3_a, up3_a, s2_rowN (show (0 : Nat) ≠ 8 by decide), h3, nI_1]
  refine ⟨fun a ha => by rw [e, up3_n ha, up3_n ha]; exact h1 a ha, fun k i hk hq => ?_, by rw [e2, s2_s]; rfl, fun i hi => ?_, fun j hj => ?_⟩
  · rw [e2]
    have : s2 (s2 (V1 t) 8 (n + m) (vp_nar .byte y.toInt8.toInt32)) 0 8 (nI (n + m + 1)) k i = s2 (V1 t) 8 (n + m) (vp_nar .byte y.toInt8.toInt32) k i := if_neg hq
    rw [this, s2_k hk]
    exact h2 k i hk hq
  · rw [e2, s2_k (by decide), s2_i (by omega)]; exact h4 i hi
  · rw [e2, s2_k (by decide)]
    by_cases ej : j = m
    · subst ej; rw [s2_s, byte_and]; exact hy
    · rw [s2_i (by omega)]; exact h5 j (by omega)
theorem sX_lay {V0 : w_V} {n m : Nat} {f : Nat → Int32} (h : tpX V0 V t n m f) (hn : n + m + 4 ≤ 600) {x : Int32} (hf : ∀ j, j < 4 → byt x j = f (m + j)) {post : w_V → Prop} (hp : ∀ V9 : w_V, tpX V0 V9 t n (m + 4) f → post V9) : wX1_lay ad T L V P t x post := by
  unfold wX1_lay
  refine ⟨5, ?_⟩
  unfold lX1_lay_3
  rw [if_neg (by decide)]
  refine ⟨n + m, by omega, h.2.2.1, fun V1 e1 V2 e2 => ?_⟩
  have t1 := sX_lay1 (V2 := V2) h (y := x >>> ((24 : Int32) &&& 31)) (hf 0 (by decide)) (by rw [e2, e1])
  unfold lX1_lay_3
  rw [if_neg (by decide)]
  refine ⟨n + (m + 1), by omega, t1.2.2.1, fun V3 e3 V4 e4 => ?_⟩
  have t2 := sX_lay1 (V2 := V4) t1 (y := x >>> ((24 + -8 : Int32) &&& 31)) (hf 1 (by decide)) (by rw [e4, e3])
  unfold lX1_lay_3
  rw [if_neg (by decide)]
  refine ⟨n + (m + 1 + 1), by omega, t2.2.2.1, fun V5 e5 V6 e6 => ?_⟩
  have t3 := sX_lay1 (V2 := V6) t2 (y := x >>> ((24 + -8 + -8 : Int32) &&& 31)) (hf 2 (by decide)) (by rw [e6, e5])
  unfold lX1_lay_3
  rw [if_neg (by decide)]
  refine ⟨n + (m + 1 + 1 + 1), by omega, t3.2.2.1, fun V7 e7 V8 e8 => ?_⟩
  have t4 := sX_lay1 (V2 := V8) t3 (y := x >>> ((24 + -8 + -8 + -8 : Int32) &&& 31)) (hf 3 (by decide)) (by rw [e8, e7])
  unfold lX1_lay_3
  rw [if_pos (by decide)]
  exact hp V8 t4
end FD
