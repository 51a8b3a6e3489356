/-! PURE: the law's world; a question's call joined -/
set_option maxRecDepth 100000
/-- the law's world: the class's box against the model, at x and mb; the row of answers at o -/
def RR (E : w_E) (z : Nat) (T L : Nat → Nat) (V : w_V) (P : w_P) (x mb o : Nat) (A : Nat → Nat) (lw : (Nat → Int32) → Int32) : Prop := bxP T L P x A ∧ cR E.2.2.2.2 T L V P x A (V mb) lw ∧ mOk E T L P mb ∧ T o = 3003 ∧ 0 < L o ∧ L o < 2147483648 ∧ frs z T
section RQ
variable {E : w_E} {z : Nat} {T L : Nat → Nat} {V : w_V} {P : w_P} {x mb o : Nat} {A : Nat → Nat} {lw : (Nat → Int32) → Int32}
theorem frs.m {z2 : Nat} (h : frs z T) (hz : z ≤ z2) : frs z2 T := fun a ha => Nat.lt_of_lt_of_le (h a ha) hz
theorem mOk.p {P9 : w_P} (h : mOk E T L P mb) (hP : ∀ b, T b ≠ 2004 → P9 b = P b) : mOk E T L P9 mb := by
  obtain ⟨h1, ⟨a, a1, a2, a3, a4, a5⟩, b, b1, b2', b3, b4, b5⟩ := h
  have e := hP mb (by rw [h1]; decide)
  have ea := hP a (by rw [a2]; decide)
  have eb := hP b (by rw [b2']; decide)
  exact ⟨h1, ⟨a, by rw [e]; exact a1, a2, a3, a4, by rw [ea]; exact a5⟩, b, by rw [e]; exact b1, b2', b3, b4, by rw [eb]; exact b5⟩
/-- the world after a call: the class's heap V9, the model's numbers s9, what is written at o -/
theorem RR.fin {z2 : Nat} {V9 W : w_V} {P9 : w_P} {A' : Nat → Nat} {s9 : MS} (h : RR E z T L V P x mb o A lw) (hz : z ≤ z2) (hb : bxP T L P9 x A') (hc : cR E.2.2.2.2 T L V9 P9 x A' s9 lw) (hP : ∀ b, T b ≠ 2004 → P9 b = P b) (hW : ∀ b, b ≠ mb → b ≠ o → W b = V9 b) (hm : W mb = s9) : RR E z2 T L W P9 x mb o A' lw := by
  obtain ⟨h1, h2, h3, h4, h5, h6, h7⟩ := h
  refine ⟨hb, ?_, h3.p hP, h4, h5, h6, h7.m hz⟩
  rw [hm]
  exact hc.w hb (fun a q1 q2 _ => hW a (fun e => q1 (by rw [e]; exact h3.1)) (fun e => q2 (by rw [e]; exact h4)))
/-- a question answered at both -/
theorem RR.q {z2 : Nat} {V9 W : w_V} {s9 : MS} (h : RR E z T L V P x mb o A lw) (hz : z ≤ z2) (hc : cfr V V9 x A) (hm : mfr (V mb) s9) (hW : ∀ b, b ≠ mb → b ≠ o → W b = V9 b) (hw : W mb = s9) : RR E z2 T L W P x mb o A lw := h.fin hz h.1 ((h.2.1.fr h.1 hc).m hm) (fun _ _ => rfl) hW hw
theorem RR.mo (h : RR E z T L V P x mb o A lw) : mb ≠ o := T_ne h.2.2.1.1 h.2.2.2.1 (by decide)
/-- the model stands as it stood, after the class's question -/
theorem RR.mb9 {V9 : w_V} (h : RR E z T L V P x mb o A lw) (hc : cfr V V9 x A) : V9 mb = V mb := hc.k h.1 h.2.1.vw h.2.2.1.1 (by decide)
theorem q_count (h : RR E z T L V P x mb o A lw) {U : Nat} (hU : 100 ≤ U) {p : Int32} {post : Nat → Nat → (Nat → Nat) → (Nat → Nat) → w_V → w_P → Prop} (hp : ∀ (U2 z2 : Nat) (W : w_V), U ≤ U2 + 100 → RR E z2 T L W P x mb o A lw → W mb 0 14 = V mb 0 14 → post U2 z2 T L W P) : wL_count E U z T L V P x mb o p post := by
  have hmo := h.mo
  unfold wL_count wX0_count
  refine ⟨1, U - 1, by omega, 0, rfl, qX_count h.2.1 h.1 (fun hx => ⟨rfl, fun z2 hz => ⟨h.1.1.1, h.2.2.2.1, h.2.2.2.2.1, h.2.2.2.2.2.1, h.2.2.1, ?_⟩⟩) (fun k1 k2 V9 hc => ⟨h.2.2.2.2.1, h.2.2.2.2.2.1, fun V8 e8 => ⟨h.1.1.1, h.2.2.2.1, h.2.2.2.2.1, h.2.2.2.2.2.1, h.2.2.1, ?_⟩⟩)⟩
  · exact qM_count0 hx (fun b s9 g1 g2 => ⟨g2, fun q => absurd q (by decide), hp _ _ _ (by omega) (h.q hz (cfr.rf _ _ _) g1 (fun b q _ => up1_n q) up1_s) (by rw [up1_s]; exact g1.2.1 14 (by decide) (by decide) (by decide) (by decide) (by decide) (by decide))⟩)
  · have em : V8 mb = V mb := by rw [e8, up3_n hmo]; exact h.mb9 hc
    rw [em]
    refine qM_count h.2.1 ⟨k1, k2⟩ (fun s9 g1 g2 => ⟨g2, fun _ => ?_, hp _ _ _ (by omega) (h.q (Nat.le_refl _) hc g1 (fun b q1 q2 => by rw [up1_n q1, e8, up3_n q2]) up1_s) (by rw [up1_s]; exact g1.2.1 14 (by decide) (by decide) (by decide) (by decide) (by decide) (by decide))⟩)
    rw [up1_n hmo.symm, e8, up3_a, s2_s]
end RQ
