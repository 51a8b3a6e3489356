/-! PURE: the law's questions joined (printed by gen/q84.py) -/
set_option maxRecDepth 100000
section RJ
variable {E : w_E} {z : Nat} {T L : Nat → Nat} {V : w_V} {P : w_P} {x mb o : Nat} {A : Nat → Nat} {lw : (Nat → Int32) → Int32}
theorem q_far (h : RR E z T L V P x mb o A lw) {U : Nat} (hU : 100 ≤ U) {p1 p2 p3 : Int32} {post : Nat → Nat → (Nat → Nat) → (Nat → Nat) → w_V → w_P → Prop} (hp : ∀ (U2 z2 : Nat) (W : w_V), U ≤ U2 + 100 → RR E z2 T L W P x mb o A lw → W mb 0 14 = V mb 0 14 → post U2 z2 T L W P) : wL_far E U z T L V P x mb o p1 p2 p3 post := by
  have hmo := h.mo
  unfold wL_far wX0_far
  refine ⟨3, U - 3, by omega, 0, rfl, qX_far h.2.1 h.1 (hp := fun a b ha hb ea eb k1 k2 => ?_) (h0 := fun hx => ⟨rfl, fun z2 hz => ⟨h.1.1.1, h.2.2.2.1, h.2.2.2.2.1, h.2.2.2.2.2.1, h.2.2.1, qM_far0 h.2.1 hx (fun b s9 g1 g2 => ⟨g2, fun q => absurd q (by decide), hp _ _ _ (by omega) (h.q hz (cfr.rf _ _ _) g1 (fun b q _ => up1_n q) up1_s) (by rw [up1_s]; exact g1.2.1 14 (by decide) (by decide) (by decide) (by decide) (by decide) (by decide))⟩)⟩⟩)⟩
  subst ea eb
  refine ⟨h.2.2.2.2.1, h.2.2.2.2.2.1, fun V8 e8 => ⟨h.1.1.1, h.2.2.2.1, h.2.2.2.2.1, h.2.2.2.2.2.1, h.2.2.1, ?_⟩⟩
  have hc := cfr.rf V x A
  have em : V8 mb = V mb := by rw [e8, up3_n hmo]
  rw [em]
  refine qM_far h.2.1 ha hb k1 k2 (fun s9 g1 g2 => ⟨g2, fun _ => ?_, hp _ _ _ (by omega) (h.q (Nat.le_refl _) hc g1 (fun b q1 q2 => by rw [up1_n q1, e8, up3_n q2]) up1_s) (by rw [up1_s]; exact g1.2.1 14 (by decide) (by decide) (by decide) (by decide) (by decide) (by decide))⟩)
  rw [up1_n hmo.symm, e8, up3_a, s2_s]
theorem q_judge (h : RR E z T L V P x mb o A lw) {U : Nat} (hU : 100 ≤ U) {p1 p2 : Int32} {post : Nat → Nat → (Nat → Nat) → (Nat → Nat) → w_V → w_P → Prop} (hp : ∀ (U2 z2 : Nat) (W : w_V), U ≤ U2 + 100 → RR E z2 T L W P x mb o A lw → W mb 0 14 = V mb 0 14 → post U2 z2 T L W P) : wL_judge E U z T L V P x mb o p1 p2 post := by
  have hmo := h.mo
  unfold wL_judge wX0_judge
  refine ⟨2, U - 2, by omega, 0, rfl, qX_judge h.2.1 h.1 (hp := fun j hj ej k1 k2 V9 hc => ?_) (h0 := fun hx => ⟨rfl, fun z2 hz => ⟨h.1.1.1, h.2.2.2.1, h.2.2.2.2.1, h.2.2.2.2.2.1, h.2.2.1, qM_judge0 h.2.1 hx (fun b s9 g1 g2 => ⟨g2, fun q => absurd q (by decide), hp _ _ _ (by omega) (h.q hz (cfr.rf _ _ _) g1 (fun b q _ => up1_n q) up1_s) (by rw [up1_s]; exact g1.2.1 14 (by decide) (by decide) (by decide) (by decide) (by decide) (by decide))⟩)⟩⟩)⟩
  subst ej
  refine ⟨h.2.2.2.2.1, h.2.2.2.2.2.1, fun V8 e8 => ⟨h.1.1.1, h.2.2.2.1, h.2.2.2.2.1, h.2.2.2.2.2.1, h.2.2.1, ?_⟩⟩
  have em : V8 mb = V mb := by rw [e8, up3_n hmo]; exact h.mb9 hc
  rw [em]
  refine qM_judge h.2.1 hj k1 k2 (fun s9 g1 g2 => ⟨g2, fun _ => ?_, hp _ _ _ (by omega) (h.q (Nat.le_refl _) hc g1 (fun b q1 q2 => by rw [up1_n q1, e8, up3_n q2]) up1_s) (by rw [up1_s]; exact g1.2.1 14 (by decide) (by decide) (by decide) (by decide) (by decide) (by decide))⟩)
  rw [up1_n hmo.symm, e8, up3_a, s2_s]
theorem q_stop (h : RR E z T L V P x mb o A lw) {U : Nat} (hU : 100 ≤ U) {p1 p2 p3 : Int32} {post : Nat → Nat → (Nat → Nat) → (Nat → Nat) → w_V → w_P → Prop} (hp : ∀ (U2 z2 : Nat) (W : w_V), U ≤ U2 + 100 → RR E z2 T L W P x mb o A lw → W mb 0 14 = V mb 0 14 → post U2 z2 T L W P) : wL_stop E U z T L V P x mb o p1 p2 p3 post := by
  have hmo := h.mo
  unfold wL_stop wX0_stop
  refine ⟨2, U - 2, by omega, 0, rfl, qX_stop h.2.1 h.1 (hp := fun j i hj ej hi ei k1 k2 V9 hc => ?_) (h0 := fun hx => ⟨rfl, fun z2 hz => ⟨h.1.1.1, h.2.2.2.1, h.2.2.2.2.1, h.2.2.2.2.2.1, h.2.2.1, qM_stop0 h.2.1 hx (fun b s9 g1 g2 => ⟨g2, fun q => absurd q (by decide), hp _ _ _ (by omega) (h.q hz (cfr.rf _ _ _) g1 (fun b q _ => up1_n q) up1_s) (by rw [up1_s]; exact g1.2.1 14 (by decide) (by decide) (by decide) (by decide) (by decide) (by decide))⟩)⟩⟩)⟩
  subst ej ei
  refine ⟨h.2.2.2.2.1, h.2.2.2.2.2.1, fun V8 e8 => ⟨h.1.1.1, h.2.2.2.1, h.2.2.2.2.1, h.2.2.2.2.2.1, h.2.2.1, ?_⟩⟩
  have em : V8 mb = V mb := by rw [e8, up3_n hmo]; exact h.mb9 hc
  rw [em]
  refine qM_stop h.2.1 hj hi k1 k2 (fun s9 g1 g2 => ⟨g2, fun _ => ?_, hp _ _ _ (by omega) (h.q (Nat.le_refl _) hc g1 (fun b q1 q2 => by rw [up1_n q1, e8, up3_n q2]) up1_s) (by rw [up1_s]; exact g1.2.1 14 (by decide) (by decide) (by decide) (by decide) (by decide) (by decide))⟩)
  rw [up1_n hmo.symm, e8, up3_a, s2_s]
theorem q_where (h : RR E z T L V P x mb o A lw) {U : Nat} (hU : 100 ≤ U) {p1 p2 : Int32} {post : Nat → Nat → (Nat → Nat) → (Nat → Nat) → w_V → w_P → Prop} (hp : ∀ (U2 z2 : Nat) (W : w_V), U ≤ U2 + 100 → RR E z2 T L W P x mb o A lw → W mb 0 14 = V mb 0 14 → post U2 z2 T L W P) : wL_where E U z T L V P x mb o p1 p2 post := by
  have hmo := h.mo
  unfold wL_where wX0_where
  refine ⟨1, U - 1, by omega, 0, rfl, qX_where h.2.1 h.1 (hp := fun j hj ej V9 hc => ?_) (h0 := fun hx => ⟨rfl, fun z2 hz => ⟨h.1.1.1, h.2.2.2.1, h.2.2.2.2.1, h.2.2.2.2.2.1, h.2.2.1, qM_where0 h.2.1 hx (fun b s9 g1 g2 => ⟨g2, fun q => absurd q (by decide), hp _ _ _ (by omega) (h.q hz (cfr.rf _ _ _) g1 (fun b q _ => up1_n q) up1_s) (by rw [up1_s]; exact g1.2.1 14 (by decide) (by decide) (by decide) (by decide) (by decide) (by decide))⟩)⟩⟩)⟩
  subst ej
  refine ⟨h.2.2.2.2.1, h.2.2.2.2.2.1, fun V8 e8 => ⟨h.1.1.1, h.2.2.2.1, h.2.2.2.2.1, h.2.2.2.2.2.1, h.2.2.1, ?_⟩⟩
  have em : V8 mb = V mb := by rw [e8, up3_n hmo]; exact h.mb9 hc
  rw [em]
  refine qM_where h.2.1 hj (fun s9 g1 g2 => ⟨g2, fun _ => ?_, hp _ _ _ (by omega) (h.q (Nat.le_refl _) hc g1 (fun b q1 q2 => by rw [up1_n q1, e8, up3_n q2]) up1_s) (by rw [up1_s]; exact g1.2.1 14 (by decide) (by decide) (by decide) (by decide) (by decide) (by decide))⟩)
  rw [up1_n hmo.symm, e8, up3_a, s2_s]
theorem q_proof (h : RR E z T L V P x mb o A lw) {U : Nat} (hU : 100 ≤ U) {p1 p2 : Int32} {post : Nat → Nat → (Nat → Nat) → (Nat → Nat) → w_V → w_P → Prop} (hp : ∀ (U2 z2 : Nat) (W : w_V), U ≤ U2 + 100 → RR E z2 T L W P x mb o A lw → W mb 0 14 = V mb 0 14 → post U2 z2 T L W P) : wL_proof E U z T L V P x mb o p1 p2 post := by
  have hmo := h.mo
  unfold wL_proof wX0_proof
  refine ⟨2, U - 2, by omega, 0, rfl, qX_proof h.2.1 h.1 (hp := fun c k hcc hk ec ek => ?_) (h0 := fun hx => ⟨rfl, fun z2 hz => ⟨h.1.1.1, h.2.2.2.1, h.2.2.2.2.1, h.2.2.2.2.2.1, h.2.2.1, qM_proof0 h.2.1 hx (fun b s9 g1 g2 => ⟨g2, fun q => absurd q (by decide), hp _ _ _ (by omega) (h.q hz (cfr.rf _ _ _) g1 (fun b q _ => up1_n q) up1_s) (by rw [up1_s]; exact g1.2.1 14 (by decide) (by decide) (by decide) (by decide) (by decide) (by decide))⟩)⟩⟩)⟩
  subst ec ek
  refine ⟨h.2.2.2.2.1, h.2.2.2.2.2.1, fun V8 e8 => ⟨h.1.1.1, h.2.2.2.1, h.2.2.2.2.1, h.2.2.2.2.2.1, h.2.2.1, ?_⟩⟩
  have hc := cfr.rf V x A
  have em : V8 mb = V mb := by rw [e8, up3_n hmo]
  rw [em]
  refine qM_proof h.2.1 hcc hk (fun s9 g1 g2 => ⟨g2, fun _ => ?_, hp _ _ _ (by omega) (h.q (Nat.le_refl _) hc g1 (fun b q1 q2 => by rw [up1_n q1, e8, up3_n q2]) up1_s) (by rw [up1_s]; exact g1.2.1 14 (by decide) (by decide) (by decide) (by decide) (by decide) (by decide))⟩)
  rw [up1_n hmo.symm, e8, up3_a, s2_s]
theorem q_said (h : RR E z T L V P x mb o A lw) {U : Nat} (hU : 100 ≤ U) {p1 p2 p3 : Int32} {post : Nat → Nat → (Nat → Nat) → (Nat → Nat) → w_V → w_P → Prop} (hp : ∀ (U2 z2 : Nat) (W : w_V), U ≤ U2 + 100 → RR E z2 T L W P x mb o A lw → W mb 0 14 = V mb 0 14 → post U2 z2 T L W P) : wL_said E U z T L V P x mb o p1 p2 p3 post := by
  have hmo := h.mo
  unfold wL_said wX0_said
  refine ⟨3, U - 3, by omega, 0, rfl, qX_said h.2.1 h.1 (hp := fun c j hcc hj ec ej k1 k2 V9 hc => ?_) (h0 := fun hx => ⟨rfl, fun z2 hz => ⟨h.1.1.1, h.2.2.2.1, h.2.2.2.2.1, h.2.2.2.2.2.1, h.2.2.1, qM_said0 h.2.1 hx (fun b s9 g1 g2 => ⟨g2, fun q => absurd q (by decide), hp _ _ _ (by omega) (h.q hz (cfr.rf _ _ _) g1 (fun b q _ => up1_n q) up1_s) (by rw [up1_s]; exact g1.2.1 14 (by decide) (by decide) (by decide) (by decide) (by decide) (by decide))⟩)⟩⟩)⟩
  subst ec ej
  refine ⟨h.2.2.2.2.1, h.2.2.2.2.2.1, fun V8 e8 => ⟨h.1.1.1, h.2.2.2.1, h.2.2.2.2.1, h.2.2.2.2.2.1, h.2.2.1, ?_⟩⟩
  have em : V8 mb = V mb := by rw [e8, up3_n hmo]; exact h.mb9 hc
  rw [em]
  refine qM_said h.2.1 hcc hj k1 k2 (fun s9 g1 g2 => ⟨g2, fun _ => ?_, hp _ _ _ (by omega) (h.q (Nat.le_refl _) hc g1 (fun b q1 q2 => by rw [up1_n q1, e8, up3_n q2]) up1_s) (by rw [up1_s]; exact g1.2.1 14 (by decide) (by decide) (by decide) (by decide) (by decide) (by decide))⟩)
  rw [up1_n hmo.symm, e8, up3_a, s2_s]
theorem q_met (h : RR E z T L V P x mb o A lw) {U : Nat} (hU : 100 ≤ U) {p1 p2 : Int32} {post : Nat → Nat → (Nat → Nat) → (Nat → Nat) → w_V → w_P → Prop} (hp : ∀ (U2 z2 : Nat) (W : w_V), U ≤ U2 + 100 → RR E z2 T L W P x mb o A lw → W mb 0 14 = V mb 0 14 → post U2 z2 T L W P) : wL_met E U z T L V P x mb o p1 p2 post := by
  have hmo := h.mo
  unfold wL_met wX0_met
  refine ⟨3, U - 3, by omega, 0, rfl, qX_met h.2.1 h.1 (hp := fun a b ha hb ea eb hab V9 hc => ?_) (h0 := fun hx => Or.inl ⟨rfl, fun z2 hz => ⟨h.1.1.1, h.2.2.2.1, h.2.2.2.2.1, h.2.2.2.2.2.1, h.2.2.1, qM_met0 h.2.1 hx (fun b s9 g1 g2 => ⟨g2, fun q => absurd q (by decide), hp _ _ _ (by omega) (h.q hz (cfr.rf _ _ _) g1 (fun b q _ => up1_n q) up1_s) (by rw [up1_s]; exact g1.2.1 14 (by decide) (by decide) (by decide) (by decide) (by decide) (by decide))⟩)⟩⟩) (h02 := fun a ha ea eb => Or.inr ⟨rfl, fun z2 hz => ⟨h.1.1.1, h.2.2.2.1, h.2.2.2.2.1, h.2.2.2.2.2.1, h.2.2.1, by subst ea eb; exact qM_met2 h.2.1 ha (fun b s9 g1 g2 => ⟨g2, fun q => absurd q (by decide), hp _ _ _ (by omega) (h.q hz (cfr.rf _ _ _) g1 (fun b q _ => up1_n q) up1_s) (by rw [up1_s]; exact g1.2.1 14 (by decide) (by decide) (by decide) (by decide) (by decide) (by decide))⟩)⟩⟩)⟩
  subst ea eb
  refine ⟨h.2.2.2.2.1, h.2.2.2.2.2.1, fun V8 e8 => ⟨h.1.1.1, h.2.2.2.1, h.2.2.2.2.1, h.2.2.2.2.2.1, h.2.2.1, ?_⟩⟩
  have em : V8 mb = V mb := by rw [e8, up3_n hmo]; exact h.mb9 hc
  rw [em]
  refine qM_met h.2.1 ha hb hab (fun s9 g1 g2 => ⟨g2, fun _ => ?_, hp _ _ _ (by omega) (h.q (Nat.le_refl _) hc g1 (fun b q1 q2 => by rw [up1_n q1, e8, up3_n q2]) up1_s) (by rw [up1_s]; exact g1.2.1 14 (by decide) (by decide) (by decide) (by decide) (by decide) (by decide))⟩)
  rw [up1_n hmo.symm, e8, up3_a, s2_s]
theorem q_guilty (h : RR E z T L V P x mb o A lw) {U : Nat} (hU : 100 ≤ U) {p1 p2 : Int32} {post : Nat → Nat → (Nat → Nat) → (Nat → Nat) → w_V → w_P → Prop} (hp : ∀ (U2 z2 : Nat) (W : w_V), U ≤ U2 + 100 → RR E z2 T L W P x mb o A lw → W mb 0 14 = V mb 0 14 → post U2 z2 T L W P) : wL_guilty E U z T L V P x mb o p1 p2 post := by
  have hmo := h.mo
  unfold wL_guilty wX0_guilty
  refine ⟨2, U - 2, by omega, 0, rfl, qX_guilty h.2.1 h.1 (hp := fun c hcc ec k1 k2 V9 hc => ?_) (h0 := fun hx => ⟨rfl, fun z2 hz => ⟨h.1.1.1, h.2.2.2.1, h.2.2.2.2.1, h.2.2.2.2.2.1, h.2.2.1, qM_guilty0 h.2.1 hx (fun b s9 g1 g2 => ⟨g2, fun q => absurd q (by decide), hp _ _ _ (by omega) (h.q hz (cfr.rf _ _ _) g1 (fun b q _ => up1_n q) up1_s) (by rw [up1_s]; exact g1.2.1 14 (by decide) (by decide) (by decide) (by decide) (by decide) (by decide))⟩)⟩⟩)⟩
  subst ec
  refine ⟨h.2.2.2.2.1, h.2.2.2.2.2.1, fun V8 e8 => ⟨h.1.1.1, h.2.2.2.1, h.2.2.2.2.1, h.2.2.2.2.2.1, h.2.2.1, ?_⟩⟩
  have em : V8 mb = V mb := by rw [e8, up3_n hmo]; exact h.mb9 hc
  rw [em]
  refine qM_guilty h.2.1 hcc k1 k2 (fun s9 g1 g2 => ⟨g2, fun _ => ?_, hp _ _ _ (by omega) (h.q (Nat.le_refl _) hc g1 (fun b q1 q2 => by rw [up1_n q1, e8, up3_n q2]) up1_s) (by rw [up1_s]; exact g1.2.1 14 (by decide) (by decide) (by decide) (by decide) (by decide) (by decide))⟩)
  rw [up1_n hmo.symm, e8, up3_a, s2_s]
theorem q_news (h : RR E z T L V P x mb o A lw) {U : Nat} (hU : 100 ≤ U) {p1 p2 : Int32} {post : Nat → Nat → (Nat → Nat) → (Nat → Nat) → w_V → w_P → Prop} (hp : ∀ (U2 z2 : Nat) (W : w_V), U ≤ U2 + 100 → RR E z2 T L W P x mb o A lw → W mb 0 14 = V mb 0 14 → post U2 z2 T L W P) : wL_news E U z T L V P x mb o p1 p2 post := by
  have hmo := h.mo
  unfold wL_news wX0_news
  refine ⟨2, U - 2, by omega, 0, rfl, qX_news h.2.1 h.1 (hp := fun c k hcc hk ec ek V9 hc => ?_) (h0 := fun hx => ⟨rfl, fun z2 hz => ⟨h.1.1.1, h.2.2.2.1, h.2.2.2.2.1, h.2.2.2.2.2.1, h.2.2.1, qM_news0 h.2.1 hx (fun b s9 g1 g2 => ⟨g2, fun q => absurd q (by decide), hp _ _ _ (by omega) (h.q hz (cfr.rf _ _ _) g1 (fun b q _ => up1_n q) up1_s) (by rw [up1_s]; exact g1.2.1 14 (by decide) (by decide) (by decide) (by decide) (by decide) (by decide))⟩)⟩⟩)⟩
  subst ec ek
  refine ⟨h.2.2.2.2.1, h.2.2.2.2.2.1, fun V8 e8 => ⟨h.1.1.1, h.2.2.2.1, h.2.2.2.2.1, h.2.2.2.2.2.1, h.2.2.1, ?_⟩⟩
  have em : V8 mb = V mb := by rw [e8, up3_n hmo]; exact h.mb9 hc
  rw [em]
  refine qM_news h.2.1 hcc hk (fun s9 g1 g2 => ⟨g2, fun _ => ?_, hp _ _ _ (by omega) (h.q (Nat.le_refl _) hc g1 (fun b q1 q2 => by rw [up1_n q1, e8, up3_n q2]) up1_s) (by rw [up1_s]; exact g1.2.1 14 (by decide) (by decide) (by decide) (by decide) (by decide) (by decide))⟩)
  rw [up1_n hmo.symm, e8, up3_a, s2_s]
theorem q_burn (h : RR E z T L V P x mb o A lw) {U : Nat} (hU : 100 ≤ U) {p1 : Int32} {post : Nat → Nat → (Nat → Nat) → (Nat → Nat) → w_V → w_P → Prop} (hp : ∀ (U2 z2 : Nat) (W : w_V), U ≤ U2 + 100 → RR E z2 T L W P x mb o A lw → W mb 0 14 = V mb 0 14 → post U2 z2 T L W P) : wL_burn E U z T L V P x mb o p1 post := by
  have hmo := h.mo
  unfold wL_burn wX0_burn
  refine ⟨1, U - 1, by omega, 0, rfl, qX_burn h.2.1 h.1 (hp := fun k1 k2 V9 hc => ?_) (h0 := fun hx => ⟨rfl, fun z2 hz => ⟨h.1.1.1, h.2.2.2.1, h.2.2.2.2.1, h.2.2.2.2.2.1, h.2.2.1, qM_burn0 hx (fun b s9 g1 g2 => ⟨g2, fun q => absurd q (by decide), hp _ _ _ (by omega) (h.q hz (cfr.rf _ _ _) g1 (fun b q _ => up1_n q) up1_s) (by rw [up1_s]; exact g1.2.1 14 (by decide) (by decide) (by decide) (by decide) (by decide) (by decide))⟩)⟩⟩)⟩
  refine ⟨h.2.2.2.2.1, h.2.2.2.2.2.1, fun V8 e8 => ⟨h.1.1.1, h.2.2.2.1, h.2.2.2.2.1, h.2.2.2.2.2.1, h.2.2.1, ?_⟩⟩
  have em : V8 mb = V mb := by rw [e8, up3_n hmo]; exact h.mb9 hc
  rw [em]
  refine qM_burn h.2.1 k1 k2 (fun s9 g1 g2 => ⟨g2, fun _ => ?_, hp _ _ _ (by omega) (h.q (Nat.le_refl _) hc g1 (fun b q1 q2 => by rw [up1_n q1, e8, up3_n q2]) up1_s) (by rw [up1_s]; exact g1.2.1 14 (by decide) (by decide) (by decide) (by decide) (by decide) (by decide))⟩)
  rw [up1_n hmo.symm, e8, up3_a, s2_s]
theorem q_when (h : RR E z T L V P x mb o A lw) {U : Nat} (hU : 100 ≤ U) {p1 p2 : Int32} {post : Nat → Nat → (Nat → Nat) → (Nat → Nat) → w_V → w_P → Prop} (hp : ∀ (U2 z2 : Nat) (W : w_V), U ≤ U2 + 100 → RR E z2 T L W P x mb o A lw → W mb 0 14 = V mb 0 14 → post U2 z2 T L W P) : wL_when E U z T L V P x mb o p1 p2 post := by
  have hmo := h.mo
  unfold wL_when wX0_when
  refine ⟨2, U - 2, by omega, 0, rfl, qX_when h.2.1 h.1 (hp := fun j hj ej k1 k2 V9 hc => ?_) (h0 := fun hx => ⟨rfl, fun z2 hz => ⟨h.1.1.1, h.2.2.2.1, h.2.2.2.2.1, h.2.2.2.2.2.1, h.2.2.1, qM_when0 h.2.1 hx (fun b s9 g1 g2 => ⟨g2, fun q => absurd q (by decide), hp _ _ _ (by omega) (h.q hz (cfr.rf _ _ _) g1 (fun b q _ => up1_n q) up1_s) (by rw [up1_s]; exact g1.2.1 14 (by decide) (by decide) (by decide) (by decide) (by decide) (by decide))⟩)⟩⟩)⟩
  subst ej
  refine ⟨h.2.2.2.2.1, h.2.2.2.2.2.1, fun V8 e8 => ⟨h.1.1.1, h.2.2.2.1, h.2.2.2.2.1, h.2.2.2.2.2.1, h.2.2.1, ?_⟩⟩
  have em : V8 mb = V mb := by rw [e8, up3_n hmo]; exact h.mb9 hc
  rw [em]
  refine qM_when h.2.1 hj k1 k2 (fun s9 g1 g2 => ⟨g2, fun _ => ?_, hp _ _ _ (by omega) (h.q (Nat.le_refl _) hc g1 (fun b q1 q2 => by rw [up1_n q1, e8, up3_n q2]) up1_s) (by rw [up1_s]; exact g1.2.1 14 (by decide) (by decide) (by decide) (by decide) (by decide) (by decide))⟩)
  rw [up1_n hmo.symm, e8, up3_a, s2_s]
theorem q_round (h : RR E z T L V P x mb o A lw) {U : Nat} (hU : 100 ≤ U) {p1 : Int32} {post : Nat → Nat → (Nat → Nat) → (Nat → Nat) → w_V → w_P → Prop} (hp : ∀ (U2 z2 : Nat) (W : w_V), U ≤ U2 + 100 → RR E z2 T L W P x mb o A lw → W mb 0 14 = V mb 0 14 → post U2 z2 T L W P) : wL_round E U z T L V P x mb o p1 post := by
  have hmo := h.mo
  unfold wL_round wX0_round
  refine ⟨1, U - 1, by omega, 0, rfl, qX_round h.2.1 h.1 (hp := fun j hj ej V9 hc => ?_) (h0 := fun hx => ⟨rfl, fun z2 hz => ⟨h.1.1.1, h.2.2.2.1, h.2.2.2.2.1, h.2.2.2.2.2.1, h.2.2.1, qM_round0 h.2.1 hx (fun b s9 g1 g2 => ⟨g2, fun q => absurd q (by decide), hp _ _ _ (by omega) (h.q hz (cfr.rf _ _ _) g1 (fun b q _ => up1_n q) up1_s) (by rw [up1_s]; exact g1.2.1 14 (by decide) (by decide) (by decide) (by decide) (by decide) (by decide))⟩)⟩⟩)⟩
  subst ej
  refine ⟨h.2.2.2.2.1, h.2.2.2.2.2.1, fun V8 e8 => ⟨h.1.1.1, h.2.2.2.1, h.2.2.2.2.1, h.2.2.2.2.2.1, h.2.2.1, ?_⟩⟩
  have em : V8 mb = V mb := by rw [e8, up3_n hmo]; exact h.mb9 hc
  rw [em]
  refine qM_round h.2.1 hj (fun s9 g1 g2 => ⟨g2, fun _ => ?_, hp _ _ _ (by omega) (h.q (Nat.le_refl _) hc g1 (fun b q1 q2 => by rw [up1_n q1, e8, up3_n q2]) up1_s) (by rw [up1_s]; exact g1.2.1 14 (by decide) (by decide) (by decide) (by decide) (by decide) (by decide))⟩)
  rw [up1_n hmo.symm, e8, up3_a, s2_s]
theorem q_free (h : RR E z T L V P x mb o A lw) {U : Nat} (hU : 100 ≤ U) {p1 p2 : Int32} {post : Nat → Nat → (Nat → Nat) → (Nat → Nat) → w_V → w_P → Prop} (hp : ∀ (U2 z2 : Nat) (W : w_V), U ≤ U2 + 100 → RR E z2 T L W P x mb o A lw → W mb 0 14 = V mb 0 14 → post U2 z2 T L W P) : wL_free E U z T L V P x mb o p1 p2 post := by
  have hmo := h.mo
  unfold wL_free wX0_free
  refine ⟨2, U - 2, by omega, 0, rfl, qX_free h.2.1 h.1 (hp := fun c hcc ec k1 k2 V9 hc => ?_) (h0 := fun hx => ⟨rfl, fun z2 hz => ⟨h.1.1.1, h.2.2.2.1, h.2.2.2.2.1, h.2.2.2.2.2.1, h.2.2.1, qM_free0 h.2.1 hx (fun b s9 g1 g2 => ⟨g2, fun q => absurd q (by decide), hp _ _ _ (by omega) (h.q hz (cfr.rf _ _ _) g1 (fun b q _ => up1_n q) up1_s) (by rw [up1_s]; exact g1.2.1 14 (by decide) (by decide) (by decide) (by decide) (by decide) (by decide))⟩)⟩⟩)⟩
  subst ec
  refine ⟨h.2.2.2.2.1, h.2.2.2.2.2.1, fun V8 e8 => ⟨h.1.1.1, h.2.2.2.1, h.2.2.2.2.1, h.2.2.2.2.2.1, h.2.2.1, ?_⟩⟩
  have em : V8 mb = V mb := by rw [e8, up3_n hmo]; exact h.mb9 hc
  rw [em]
  refine qM_free h.2.1 hcc k1 k2 (fun s9 g1 g2 => ⟨g2, fun _ => ?_, hp _ _ _ (by omega) (h.q (Nat.le_refl _) hc g1 (fun b q1 q2 => by rw [up1_n q1, e8, up3_n q2]) up1_s) (by rw [up1_s]; exact g1.2.1 14 (by decide) (by decide) (by decide) (by decide) (by decide) (by decide))⟩)
  rw [up1_n hmo.symm, e8, up3_a, s2_s]
theorem q_mercy (h : RR E z T L V P x mb o A lw) {U : Nat} (hU : 100 ≤ U) {p1 : Int32} {post : Nat → Nat → (Nat → Nat) → (Nat → Nat) → w_V → w_P → Prop} (hp : ∀ (U2 z2 : Nat) (W : w_V), U ≤ U2 + 100 → RR E z2 T L W P x mb o A lw → W mb 0 14 = V mb 0 14 → post U2 z2 T L W P) : wL_mercy E U z T L V P x mb o p1 post := by
  have hmo := h.mo
  unfold wL_mercy wX0_mercy
  refine ⟨1, U - 1, by omega, 0, rfl, qX_mercy h.2.1 h.1 (hp := fun c hcc ec V9 hc => ?_) (h0 := fun hx => ⟨rfl, fun z2 hz => ⟨h.1.1.1, h.2.2.2.1, h.2.2.2.2.1, h.2.2.2.2.2.1, h.2.2.1, qM_mercy0 h.2.1 hx (fun b s9 g1 g2 => ⟨g2, fun q => absurd q (by decide), hp _ _ _ (by omega) (h.q hz (cfr.rf _ _ _) g1 (fun b q _ => up1_n q) up1_s) (by rw [up1_s]; exact g1.2.1 14 (by decide) (by decide) (by decide) (by decide) (by decide) (by decide))⟩)⟩⟩)⟩
  subst ec
  refine ⟨h.2.2.2.2.1, h.2.2.2.2.2.1, fun V8 e8 => ⟨h.1.1.1, h.2.2.2.1, h.2.2.2.2.1, h.2.2.2.2.2.1, h.2.2.1, ?_⟩⟩
  have em : V8 mb = V mb := by rw [e8, up3_n hmo]; exact h.mb9 hc
  rw [em]
  refine qM_mercy h.2.1 hcc (fun s9 g1 g2 => ⟨g2, fun _ => ?_, hp _ _ _ (by omega) (h.q (Nat.le_refl _) hc g1 (fun b q1 q2 => by rw [up1_n q1, e8, up3_n q2]) up1_s) (by rw [up1_s]; exact g1.2.1 14 (by decide) (by decide) (by decide) (by decide) (by decide) (by decide))⟩)
  rw [up1_n hmo.symm, e8, up3_a, s2_s]
theorem q_deaf (h : RR E z T L V P x mb o A lw) {U : Nat} (hU : 100 ≤ U) {p1 : Int32} {post : Nat → Nat → (Nat → Nat) → (Nat → Nat) → w_V → w_P → Prop} (hp : ∀ (U2 z2 : Nat) (W : w_V), U ≤ U2 + 100 → RR E z2 T L W P x mb o A lw → W mb 0 14 = V mb 0 14 → post U2 z2 T L W P) : wL_deaf E U z T L V P x mb o p1 post := by
  have hmo := h.mo
  unfold wL_deaf wX0_deaf
  refine ⟨1, U - 1, by omega, 0, rfl, qX_deaf h.2.1 h.1 (hp := fun j hj ej V9 hc => ?_) (h0 := fun hx => ⟨rfl, fun z2 hz => ⟨h.1.1.1, h.2.2.2.1, h.2.2.2.2.1, h.2.2.2.2.2.1, h.2.2.1, qM_deaf0 h.2.1 hx (fun b s9 g1 g2 => ⟨g2, fun q => absurd q (by decide), hp _ _ _ (by omega) (h.q hz (cfr.rf _ _ _) g1 (fun b q _ => up1_n q) up1_s) (by rw [up1_s]; exact g1.2.1 14 (by decide) (by decide) (by decide) (by decide) (by decide) (by decide))⟩)⟩⟩)⟩
  subst ej
  refine ⟨h.2.2.2.2.1, h.2.2.2.2.2.1, fun V8 e8 => ⟨h.1.1.1, h.2.2.2.1, h.2.2.2.2.1, h.2.2.2.2.2.1, h.2.2.1, ?_⟩⟩
  have em : V8 mb = V mb := by rw [e8, up3_n hmo]; exact h.mb9 hc
  rw [em]
  refine qM_deaf h.2.1 hj (fun s9 g1 g2 => ⟨g2, fun _ => ?_, hp _ _ _ (by omega) (h.q (Nat.le_refl _) hc g1 (fun b q1 q2 => by rw [up1_n q1, e8, up3_n q2]) up1_s) (by rw [up1_s]; exact g1.2.1 14 (by decide) (by decide) (by decide) (by decide) (by decide) (by decide))⟩)
  rw [up1_n hmo.symm, e8, up3_a, s2_s]
theorem q_soonest (h : RR E z T L V P x mb o A lw) {U : Nat} (hU : 100 ≤ U) {p1 : Int32} {post : Nat → Nat → (Nat → Nat) → (Nat → Nat) → w_V → w_P → Prop} (hp : ∀ (U2 z2 : Nat) (W : w_V), U ≤ U2 + 100 → RR E z2 T L W P x mb o A lw → W mb 0 14 = V mb 0 14 → post U2 z2 T L W P) : wL_soonest E U z T L V P x mb o p1 post := by
  have hmo := h.mo
  unfold wL_soonest wX0_soonest
  refine ⟨1, U - 1, by omega, 0, rfl, qX_soonest h.2.1 h.1 (hp := fun k1 k2 V9 hc => ?_) (h0 := fun hx => ⟨rfl, fun z2 hz => ⟨h.1.1.1, h.2.2.2.1, h.2.2.2.2.1, h.2.2.2.2.2.1, h.2.2.1, qM_soonest0 hx (fun b s9 g1 g2 => ⟨g2, fun q => absurd q (by decide), hp _ _ _ (by omega) (h.q hz (cfr.rf _ _ _) g1 (fun b q _ => up1_n q) up1_s) (by rw [up1_s]; exact g1.2.1 14 (by decide) (by decide) (by decide) (by decide) (by decide) (by decide))⟩)⟩⟩)⟩
  refine ⟨h.2.2.2.2.1, h.2.2.2.2.2.1, fun V8 e8 => ⟨h.1.1.1, h.2.2.2.1, h.2.2.2.2.1, h.2.2.2.2.2.1, h.2.2.1, ?_⟩⟩
  have em : V8 mb = V mb := by rw [e8, up3_n hmo]; exact h.mb9 hc
  rw [em]
  refine qM_soonest h.2.1 k1 k2 (fun s9 g1 g2 => ⟨g2, fun _ => ?_, hp _ _ _ (by omega) (h.q (Nat.le_refl _) hc g1 (fun b q1 q2 => by rw [up1_n q1, e8, up3_n q2]) up1_s) (by rw [up1_s]; exact g1.2.1 14 (by decide) (by decide) (by decide) (by decide) (by decide) (by decide))⟩)
  rw [up1_n hmo.symm, e8, up3_a, s2_s]
theorem q_sent (h : RR E z T L V P x mb o A lw) {U : Nat} (hU : 100 ≤ U) {p1 p2 : Int32} {post : Nat → Nat → (Nat → Nat) → (Nat → Nat) → w_V → w_P → Prop} (hp : ∀ (U2 z2 : Nat) (W : w_V), U ≤ U2 + 100 → RR E z2 T L W P x mb o A lw → W mb 0 14 = V mb 0 14 → post U2 z2 T L W P) : wL_sent E U z T L V P x mb o p1 p2 post := by
  have hmo := h.mo
  unfold wL_sent wX0_sent
  refine ⟨2, U - 2, by omega, 0, rfl, qX_sent h.2.1 h.1 (hp := fun c hcc ec k1 k2 V9 hc => ?_) (h0 := fun hx => ⟨rfl, fun z2 hz => ⟨h.1.1.1, h.2.2.2.1, h.2.2.2.2.1, h.2.2.2.2.2.1, h.2.2.1, qM_sent0 h.2.1 hx (fun b s9 g1 g2 => ⟨g2, fun q => absurd q (by decide), hp _ _ _ (by omega) (h.q hz (cfr.rf _ _ _) g1 (fun b q _ => up1_n q) up1_s) (by rw [up1_s]; exact g1.2.1 14 (by decide) (by decide) (by decide) (by decide) (by decide) (by decide))⟩)⟩⟩)⟩
  subst ec
  refine ⟨h.2.2.2.2.1, h.2.2.2.2.2.1, fun V8 e8 => ⟨h.1.1.1, h.2.2.2.1, h.2.2.2.2.1, h.2.2.2.2.2.1, h.2.2.1, ?_⟩⟩
  have em : V8 mb = V mb := by rw [e8, up3_n hmo]; exact h.mb9 hc
  rw [em]
  refine qM_sent h.2.1 hcc k1 k2 (fun s9 g1 g2 => ⟨g2, fun _ => ?_, hp _ _ _ (by omega) (h.q (Nat.le_refl _) hc g1 (fun b q1 q2 => by rw [up1_n q1, e8, up3_n q2]) up1_s) (by rw [up1_s]; exact g1.2.1 14 (by decide) (by decide) (by decide) (by decide) (by decide) (by decide))⟩)
  rw [up1_n hmo.symm, e8, up3_a, s2_s]
theorem q_season (h : RR E z T L V P x mb o A lw) {U : Nat} (hU : 100 ≤ U) {p1 p2 p3 : Int32} {post : Nat → Nat → (Nat → Nat) → (Nat → Nat) → w_V → w_P → Prop} (hp : ∀ (U2 z2 : Nat) (W : w_V), U ≤ U2 + 100 → RR E z2 T L W P x mb o A lw → W mb 0 14 = V mb 0 14 → post U2 z2 T L W P) : wL_season E U z T L V P x mb o p1 p2 p3 post := by
  have hmo := h.mo
  unfold wL_season wX0_season
  refine ⟨2, U - 2, by omega, 0, rfl, qX_season h.2.1 h.1 (hp := fun N hN eN k1 k2 V9 hc => ?_) (h0 := fun hx => Or.inl ⟨rfl, fun z2 hz => ⟨h.1.1.1, h.2.2.2.1, h.2.2.2.2.1, h.2.2.2.2.2.1, h.2.2.1, qM_season0 hx (fun b s9 g1 g2 => ⟨g2, fun q => absurd q (by decide), hp _ _ _ (by omega) (h.q hz (cfr.rf _ _ _) g1 (fun b q _ => up1_n q) up1_s) (by rw [up1_s]; exact g1.2.1 14 (by decide) (by decide) (by decide) (by decide) (by decide) (by decide))⟩)⟩⟩) (h02 := fun k1 k2 hy => Or.inr ⟨rfl, fun z2 hz => ⟨h.1.1.1, h.2.2.2.1, h.2.2.2.2.1, h.2.2.2.2.2.1, h.2.2.1, qM_season2 k1 k2 hy (fun b s9 g1 g2 => ⟨g2, fun q => absurd q (by decide), hp _ _ _ (by omega) (h.q hz (cfr.rf _ _ _) g1 (fun b q _ => up1_n q) up1_s) (by rw [up1_s]; exact g1.2.1 14 (by decide) (by decide) (by decide) (by decide) (by decide) (by decide))⟩)⟩⟩)⟩
  subst eN
  refine ⟨h.2.2.2.2.1, h.2.2.2.2.2.1, fun V8 e8 => ⟨h.1.1.1, h.2.2.2.1, h.2.2.2.2.1, h.2.2.2.2.2.1, h.2.2.1, ?_⟩⟩
  have em : V8 mb = V mb := by rw [e8, up3_n hmo]; exact h.mb9 hc
  rw [em]
  refine qM_season h.2.1 hN k1 k2 (fun s9 g1 g2 => ⟨g2, fun _ => ?_, hp _ _ _ (by omega) (h.q (Nat.le_refl _) hc g1 (fun b q1 q2 => by rw [up1_n q1, e8, up3_n q2]) up1_s) (by rw [up1_s]; exact g1.2.1 14 (by decide) (by decide) (by decide) (by decide) (by decide) (by decide))⟩)
  rw [up1_n hmo.symm, e8, up3_a, s2_s]
end RJ
