/-! PURE: the law's other calls joined -/
set_option maxRecDepth 100000
section RS
variable {E : w_E} {z : Nat} {T L : Nat → Nat} {V : w_V} {P : w_P} {x mb o : Nat} {A : Nat → Nat} {lw : (Nat → Int32) → Int32}
theorem q_innY (h : RR E z T L V P x mb o A lw) {U : Nat} (hU : 100 ≤ U) {p1 y : Int32} (hy : y = 0 ∨ y = 1) {post : Nat → Nat → (Nat → Nat) → (Nat → Nat) → w_V → w_P → Prop} (hp : ∀ (U2 z2 : Nat) (W : w_V) (P2 : w_P) (A2 : Nat → Nat), U ≤ U2 + 100 → RR E z2 T L W P2 x mb o A2 lw → W mb 0 14 = V mb 0 14 → post U2 z2 T L W P2) : ∃ c1 U2 : Nat, U = c1 + U2 ∧ wX0_inn E.2.2.2.2 c1 z T L V P x p1 y o (fun (r : Int32) (z : Nat) (T L : Nat → Nat) (V1 : w_V) (P1 : w_P) => T x = 2 ∧ T o = 3003 ∧ 0 < L o ∧ L o < 2147483648 ∧ mOk E T L P1 mb ∧ wM_inn (V1 mb) p1 y (fun (b9 : Int32) (s9 : MS) => s9 0 2 = r ∧ (r = 0 → (up1 V1 mb s9) o 0 0 = (if b9 = 0 then 0 else 1)) ∧ post U2 z T L (up1 V1 mb s9) P1)) := by
  have hmo := h.mo
  unfold wX0_inn
  refine ⟨1, U - 1, by omega, 0, rfl, qX_inn h.c0 h.1 hy (hp := fun k hk' ek hn V9 P9 A' hb9 eA ha hk => ?_) (hr := fun k hk' ek hn => ?_) (h0 := fun hx => ⟨rfl, fun z2 hz => ⟨h.1.1.1, h.2.2.2.1, h.2.2.2.2.1, h.2.2.2.2.2.1, h.2.2.1, qM_inn0 h.2.1 hx (fun b s9 g1 g2 => ⟨g2, fun q => absurd q (by decide), hp _ _ _ _ _ (by omega) (h.q hz (cfr.rf _ _ _) g1 (fun b q _ => up1_n q) up1_s) (by rw [up1_s]; exact g1.2.1 14 (by decide) (by decide) (by decide) (by decide) (by decide) (by decide))⟩)⟩⟩)⟩
  · subst ek
    refine ⟨h.2.2.2.2.1, h.2.2.2.2.2.1, ?_⟩
    rw [if_neg (show ¬ (1 : Int32) = 0 by decide)]
    refine fun V8 e8 => ⟨h.1.1.1, h.2.2.2.1, h.2.2.2.2.1, h.2.2.2.2.2.1, h.2.2.1.p ha.2, ?_⟩
    have em : V8 mb = V mb := by rw [e8, up3_n hmo]; exact ha.1 mb (by rw [h.2.2.1.1]; decide) (by rw [h.2.2.1.1]; decide) (T_ne h.2.2.1.1 h.1.2.1.1 (by decide))
    rw [em]
    refine qM_inn h.2.1 hk' hy hn (fun s9 a a1 a2 hkp => ⟨?_, fun _ => ?_, hp _ _ _ _ _ (by omega) (by rw [e8]; exact h.act (Nat.le_refl _) hb9 (hk s9 a a1 a2 hkp) ha.2) ?_⟩)
    · rw [s2_i (by decide), hkp.2.1 2 (by decide), s2_s]
    · rw [up1_n hmo.symm, e8, up3_a, s2_s]; rfl
    · rw [up1_s, s2_i (by decide), hkp.2.1 14 (by decide), s2_i (by decide)]
  · subst ek
    refine ⟨h.2.2.2.2.1, h.2.2.2.2.2.1, ?_⟩
    rw [if_pos (show (0 : Int32) = 0 from rfl)]
    refine fun V8 e8 => ⟨h.1.1.1, h.2.2.2.1, h.2.2.2.2.1, h.2.2.2.2.2.1, h.2.2.1, ?_⟩
    have em : V8 mb = V mb := by rw [e8, up3_n hmo, up3_n (T_ne h.2.2.1.1 h.1.2.1.1 (by decide))]
    rw [em]
    refine qM_innR h.2.1 hk' hy hn ⟨?_, fun _ => ?_, hp _ _ _ _ _ (by omega) (by rw [e8]; exact h.act (Nat.le_refl _) h.1 ((h.c0.refuse h.1 (i := 1)).resolve_right (by decide)) (fun _ _ => rfl)) ?_⟩
    · rw [s2_k (by decide), s2_s]
    · rw [up1_n hmo.symm, e8, up3_a, s2_s]; rfl
    · rw [up1_s, s2_k (by decide), s2_i (by decide)]
theorem q_inn (h : RR E z T L V P x mb o A lw) {U : Nat} (hU : 100 ≤ U) {p1 p2 : Int32} {post : Nat → Nat → (Nat → Nat) → (Nat → Nat) → w_V → w_P → Prop} (hp : ∀ (U2 z2 : Nat) (W : w_V) (P2 : w_P) (A2 : Nat → Nat), U ≤ U2 + 100 → RR E z2 T L W P2 x mb o A2 lw → W mb 0 14 = V mb 0 14 → post U2 z2 T L W P2) : wL_inn E U z T L V P x mb o p1 p2 post := ⟨fun _ => q_innY h hU (Or.inl rfl) hp, fun _ => q_innY h hU (Or.inr rfl) hp⟩
theorem q_seeY (h : RR E z T L V P x mb o A lw) {U : Nat} (hU : 100 ≤ U) {p1 p2 y : Int32} (hy : y = 0 ∨ y = 1) {post : Nat → Nat → (Nat → Nat) → (Nat → Nat) → w_V → w_P → Prop} (hp : ∀ (U2 z2 : Nat) (W : w_V), U ≤ U2 + 100 → RR E z2 T L W P x mb o A lw → W mb 0 14 = V mb 0 14 → post U2 z2 T L W P) : ∃ c1 U2 : Nat, U = c1 + U2 ∧ wX0_see E.2.2.2.2 c1 z T L V P x p1 p2 y o (fun (r : Int32) (z : Nat) (T L : Nat → Nat) (V1 : w_V) (P1 : w_P) => T x = 2 ∧ T o = 3003 ∧ 0 < L o ∧ L o < 2147483648 ∧ mOk E T L P1 mb ∧ wM_see (V1 mb) p1 p2 y (fun (b9 : Int32) (s9 : MS) => s9 0 2 = r ∧ (r = 0 → (up1 V1 mb s9) o 0 0 = b9) ∧ post U2 z T L (up1 V1 mb s9) P1)) := by
  have hmo := h.mo
  have hmA : mb ≠ A 0 := T_ne h.2.2.1.1 h.1.2.1.1 (by decide)
  unfold wX0_see
  refine ⟨2, U - 2, by omega, 0, rfl, qX_see h.c0 h.1 hy (hp := fun c j n hcc ec hj ej hn hn8 V9 hV hcR => ?_) (hr := fun c j hcc ec hj ej hn => ?_) (h0 := fun hx => ⟨rfl, fun z2 hz => ⟨h.1.1.1, h.2.2.2.1, h.2.2.2.2.1, h.2.2.2.2.2.1, h.2.2.1, qM_see0 h.2.1 hx (fun b s9 g1 g2 => ⟨g2, fun q => absurd q (by decide), hp _ _ _ (by omega) (h.q hz (cfr.rf _ _ _) g1 (fun b q _ => up1_n q) up1_s) (by rw [up1_s]; exact g1.2.1 14 (by decide) (by decide) (by decide) (by decide) (by decide) (by decide))⟩)⟩⟩)⟩
  · subst ec ej
    refine ⟨h.2.2.2.2.1, h.2.2.2.2.2.1, fun V8 e8 => ⟨h.1.1.1, h.2.2.2.1, h.2.2.2.2.1, h.2.2.2.2.2.1, h.2.2.1, ?_⟩⟩
    have em : V8 mb = V mb := by rw [e8, up3_n hmo]; exact hV mb hmA
    rw [em]
    refine qM_see h.2.1 hcc hj hy hn hn8 ⟨?_, fun _ => ?_, hp _ _ _ (by omega) (by rw [e8]; exact h.act (Nat.le_refl _) h.1 hcR (fun _ _ => rfl)) ?_⟩
    · unfold seeM; rw [s2_i (by decide), s2_k (by decide), s2_k (by decide), s2_k (by decide), s2_s]
    · rw [up1_n hmo.symm, e8, up3_a, s2_s]
    · rw [up1_s]; unfold seeM; rw [s2_i (by decide), s2_k (by decide), s2_k (by decide), s2_k (by decide), s2_i (by decide)]
  · subst ec ej
    refine ⟨h.2.2.2.2.1, h.2.2.2.2.2.1, fun V8 e8 => ⟨h.1.1.1, h.2.2.2.1, h.2.2.2.2.1, h.2.2.2.2.2.1, h.2.2.1, ?_⟩⟩
    have em : V8 mb = V mb := by rw [e8, up3_n hmo, up3_n hmA]
    rw [em]
    refine qM_seeR h.2.1 hcc hj hn ⟨?_, fun _ => ?_, hp _ _ _ (by omega) (by rw [e8]; exact h.act (Nat.le_refl _) h.1 ((h.c0.refuse h.1 (i := 2)).resolve_right (by decide)) (fun _ _ => rfl)) ?_⟩
    · rw [s2_k (by decide), s2_s]
    · rw [up1_n hmo.symm, e8, up3_a, s2_s]
    · rw [up1_s, s2_k (by decide), s2_i (by decide)]
theorem q_see (h : RR E z T L V P x mb o A lw) {U : Nat} (hU : 100 ≤ U) {p1 p2 p3 : Int32} {post : Nat → Nat → (Nat → Nat) → (Nat → Nat) → w_V → w_P → Prop} (hp : ∀ (U2 z2 : Nat) (W : w_V), U ≤ U2 + 100 → RR E z2 T L W P x mb o A lw → W mb 0 14 = V mb 0 14 → post U2 z2 T L W P) : wL_see E U z T L V P x mb o p1 p2 p3 post := ⟨fun _ => q_seeY h hU (Or.inl rfl) hp, fun _ => q_seeY h hU (Or.inr rfl) hp⟩
section P2
variable {U : Nat} {post : Nat → Nat → (Nat → Nat) → (Nat → Nat) → w_V → w_P → Prop}
theorem q_fault (h : RR E z T L V P x mb o A lw) (hp : ∀ (W : w_V), RR E z T L W P x mb o A lw → W mb 0 14 = V mb 0 14 → post U z T L W P) : wL_fault E U z T L V P x mb o post := by
  unfold wL_fault
  refine qX_fault h.2.1 (qM_fault ⟨rfl, hp _ (h.act0 (Nat.le_refl _) h.c0) ?_⟩)
  rw [up1_s, s2_i (by decide)]
theorem q_undo (h : RR E z T L V P x mb o A lw) (hp : ∀ (W : w_V), RR E z T L W P x mb o A lw → W mb 0 14 = V mb 0 14 → post U z T L W P) : wL_undo E U z T L V P x mb o post := by
  have hmA : mb ≠ A 0 := T_ne h.2.2.1.1 h.1.2.1.1 (by decide)
  have hmA2 : mb ≠ A 2 := T_ne h.2.2.1.1 (bx_st h.1 stI2) (by decide)
  unfold wL_undo
  refine qX_undo h.2.1 h.1 (fun h0 => qM_undo0 h0 ⟨rfl, hp _ (h.act0 (Nat.le_refl _) h.c0) ?_⟩) (fun a ha ha2 V9 hV hcR => ?_)
  · rw [up1_s, s2_i (by decide)]
  · rw [hV mb hmA hmA2]
    refine qM_undo h.2.1 ha ha2 (fun s9 hs => ⟨rfl, hp _ (h.act0 (Nat.le_refl _) (hcR s9 hs)) ?_⟩)
    rw [up1_s]; exact hs.2.1 14 (by decide) (by decide) (by decide) (by decide) (by decide) (by decide)
theorem q_forget (h : RR E z T L V P x mb o A lw) (hp : ∀ (W : w_V), RR E z T L W P x mb o A lw → W mb 0 14 = V mb 0 14 → post U z T L W P) : wL_forget E U z T L V P x mb o post := by
  have hmA : mb ≠ A 0 := T_ne h.2.2.1.1 h.1.2.1.1 (by decide)
  obtain ⟨s0, q1, q2, -⟩ := h.2.1.2.2.1.2.2.1
  unfold wL_forget
  refine qX_forget h.c0 h.1 (fun h0 => qM_forget0 (sg := V mb) h0 ⟨rfl, hp _ (h.act0 (Nat.le_refl _) h.c0) ?_⟩) (fun s hs V9 hV hcR => ?_)
  · rw [up1_s, s2_i (by decide)]
  · rw [hV mb hmA]
    have hs1 : V mb 0 34 = nI (s + 1) := hs
    obtain ⟨s1, w1, w2, -⟩ := hcR.2.2.1.2.2.1
    have w3 : nI s = nI s1 := by rw [← w1, s2_s]
    rw [w3] at hcR ⊢
    rw [nI_succ, w3, nI_1] at hs1
    refine qM_forget hs1 (by omega) ⟨rfl, hp _ (h.act0 (Nat.le_refl _) hcR) ?_⟩
    · rw [up1_s, s2_i (by decide), s2_i (by decide)]
theorem q_image (h : RR E z T L V P x mb o A lw) (hp : ∀ (W : w_V), RR E z T L W P x mb o A lw → W mb 0 14 = V mb 0 14 → post U z T L W P) : wL_image E U z T L V P x mb o post := by
  unfold wL_image
  refine qX_image h.2.1 h.1 (fun V9 hV hcR => ?_)
  rw [hV mb (by rw [h.2.2.1.1]; decide) (by rw [h.2.2.1.1]; decide) (by rw [h.2.2.1.1]; decide)]
  refine qM_image (fun s9 hs => hp _ (h.act0 (Nat.le_refl _) (hcR s9 hs)) ?_)
  rw [up1_s]; exact hs.2.1 14 (by decide) (by decide) (by decide) (by decide)
theorem q_restore (h : RR E z T L V P x mb o A lw) (hp : ∀ (W : w_V), RR E z T L W P x mb o A lw → W mb 0 14 = V mb 0 14 → post U z T L W P) : wL_restore E U z T L V P x mb o post := by
  unfold wL_restore
  refine qX_restore h.2.1 h.1 (fun h0 => qM_restore0 h0 ⟨rfl, hp _ (h.act0 (Nat.le_refl _) h.c0) ?_⟩) (fun h0 V9 hV hcR => ?_)
  · rw [up1_s, s2_i (by decide)]
  · rw [hV mb (by rw [h.2.2.1.1]; decide) (by rw [h.2.2.1.1]; decide)]
    refine qM_restore h0 (fun s9 hs => ⟨rfl, hp _ (h.act0 (Nat.le_refl _) (hcR s9 hs)) ?_⟩)
    rw [up1_s]; exact hs.2.1 14 (by decide) (by decide) (by decide) (by decide) (by decide) (by decide) (by decide)
theorem q_feed (h : RR E z T L V P x mb o A lw) {p1 p2 p3 p4 p5 : Int32} {tp : Nat} (h14 : V mb 0 14 = nI tp) (htp : tp ≤ 600) (hp : ∀ (W : w_V) (tp2 : Nat), tp2 ≤ tp + 20 → tp2 ≤ 600 → RR E z T L W P x mb o A lw → W mb 0 14 = nI tp2 → post U z T L W P) : wL_feed E U z T L V P x mb o p1 p2 p3 p4 p5 post := by
  have hmx : mb ≠ x := T_ne h.2.2.1.1 h.1.1.1 (by decide)
  unfold wL_feed
  refine qX_feed h.c0 (fun ⟨n, h1, h2, h3⟩ => qM_feed0 (sg := V mb) (n := n) h1 h2 h3 ⟨rfl, hp _ tp (by omega) htp (h.act0 (Nat.le_refl _) h.c0) ?_⟩) (fun n h1 h2 V9 hV => ?_)
  · rw [up1_s, s2_i (by decide)]; exact h14
  · rw [hV.1 mb hmx]
    have h1' : V mb 0 14 = nI n := h1
    have en : n = tp := by rw [h14] at h1'; exact ((nI_eq (by omega) (by omega)).mp h1').symm
    refine qM_feed h1' h2 (fun s9 hs => ⟨rfl, hp _ (n + 20) (by omega) (by omega) (h.act0 (Nat.le_refl _) (h.c0.fed h.1 h1 (by omega) hV hs)) ?_⟩)
    rw [up1_s]; exact hs.2.2.1
end P2
end RS
