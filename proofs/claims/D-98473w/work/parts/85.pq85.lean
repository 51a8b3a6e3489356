/-! PURE: the law's game and acts joined (printed by gen/q85.py) -/
set_option maxRecDepth 100000
section RK
variable {E : w_E} {z : Nat} {T L : Nat → Nat} {V : w_V} {P : w_P} {x mb o : Nat} {A : Nat → Nat} {lw : (Nat → Int32) → Int32}
theorem mOk.ext {T2 L2 : Nat → Nat} {P2 : w_P} (h : mOk E T L P mb) (hx : ∀ a, T a ≠ 0 → T2 a = T a ∧ L2 a = L a ∧ P2 a = P a) : mOk E T2 L2 P2 mb := by
  obtain ⟨h1, ⟨a, a1, a2, a3, a4, a5⟩, b, b1, b2', b3, b4, b5⟩ := h
  obtain ⟨e1, e2, e3⟩ := hx mb (ne0 h1)
  obtain ⟨f1, f2, f3⟩ := hx a (ne0 a2)
  obtain ⟨g1, g2, g3⟩ := hx b (ne0 b2')
  exact ⟨e1.trans h1, ⟨a, by rw [e3]; exact a1, f1.trans a2, f2.trans a3, a4, by rw [f3]; exact a5⟩, b, by rw [e3]; exact b1, g1.trans b2', g2.trans b3, b4, by rw [g3]; exact b5⟩
theorem RR.o0 (h : RR E z T L V P x mb o A lw) : T o ≠ 0 ∧ T x ≠ 0 ∧ T mb ≠ 0 := ⟨ne0 h.2.2.2.1, ne0 h.1.1.1, ne0 h.2.2.1.1⟩
theorem q_game (h : RR E z T L V P x mb o A lw) {U : Nat} (hU : 100 ≤ U) {p1 p2 : Int32} {post : Nat → Nat → (Nat → Nat) → (Nat → Nat) → w_V → w_P → Prop} (hp : ∀ (U2 z2 : Nat) (T2 L2 : Nat → Nat) (W : w_V) (P2 : w_P), U ≤ U2 + 100 → RR E z2 T2 L2 W P2 x mb o A lw → W mb 0 14 = V mb 0 14 → post U2 z2 T2 L2 W P2) : wL_game E U z T L V P x mb o p1 p2 post := by
  have hmo := h.mo
  unfold wL_game wX0_game
  refine ⟨3, U - 3, by omega, 3, 0, rfl, qX_game h.2.1 h.1 h.2.2.2.2.2.2 (fun c hcc ec k1 k2 z2 T2 L2 V9 P2 hz hf hx hV hc => ?_) (fun hx q z2 hz => ⟨rfl, h.1.1.1, h.2.2.2.1, h.2.2.2.2.1, h.2.2.2.2.2.1, h.2.2.1, qM_game0 h.2.1 hx (fun b s9 g1 g2 => ⟨g2, fun q => absurd q (by decide), hp _ _ _ _ _ _ (by omega) (h.q hz (cfr.rf _ _ _) g1 (fun b q _ => up1_n q) up1_s) (by rw [up1_s]; exact g1.2.1 14 (by decide) (by decide) (by decide) (by decide) (by decide) (by decide))⟩)⟩)⟩
  subst ec
  obtain ⟨n1, n2, n3⟩ := h.o0
  have to : T2 o = 3003 := (hx o n1).1.trans h.2.2.2.1
  have lo : L2 o = L o := (hx o n1).2.1
  refine ⟨to, by rw [lo]; exact h.2.2.2.2.1, by rw [lo]; exact h.2.2.2.2.2.1, fun V8 e8 => ⟨(hx x n2).1.trans h.1.1.1, to, by rw [lo]; exact h.2.2.2.2.1, by rw [lo]; exact h.2.2.2.2.2.1, h.2.2.1.ext hx, ?_⟩⟩
  have e9 : V9 mb = V mb := hV mb n3 (T_ne h.2.2.1.1 (bx_st h.1 stI3) (by decide)) (T_ne h.2.2.1.1 h.1.2.2.2.2.1.1 (by decide)) (T_ne h.2.2.1.1 h.2.1.vw (by decide)) (T_ne h.2.2.1.1 h.1.1.1 (by decide))
  have em : V8 mb = V mb := by rw [e8, up3_n hmo]; exact e9
  rw [em]
  refine qM_game h.2.1 hcc k1 k2 (fun s9 g1 g2 => ⟨g2, fun _ => ?_, hp _ _ _ _ _ _ (by omega) ?_ (by rw [up1_s]; exact g1.2.1 14 (by decide) (by decide) (by decide) (by decide) (by decide) (by decide))⟩)
  · rw [up1_n hmo.symm, e8, up3_a, s2_s]
  · have hb2 : bxP T2 L2 P2 x A := h.1.x (V := V) (V' := V) (fun a ha => ⟨(hx a ha).1, (hx a ha).2.1, rfl, (hx a ha).2.2⟩)
    refine ⟨hb2, ?_, h.2.2.1.ext hx, to, by rw [lo]; exact h.2.2.2.2.1, by rw [lo]; exact h.2.2.2.2.2.1, hf⟩
    rw [up1_s]
    refine (hc.m g1).w hb2 (fun a q1 q2 _ => ?_)
    rw [up1_n (fun e => q1 (by rw [e]; exact (hx mb n3).1.trans h.2.2.1.1)), e8, up3_n (fun e => q2 (by rw [e]; exact to))]
/-- the class's box, the model's code being told -/
theorem RR.c0 (h : RR E z T L V P x mb o A lw) : cR E.2.2.2.2 T L V P x A (s2 (V mb) 0 2 0) lw := h.2.1.m (mfr.code _ 0)
/-- the world after an act -/
theorem RR.act {z2 : Nat} {V9 : w_V} {P9 : w_P} {A' : Nat → Nat} {s9 : MS} {r : Int32} (h : RR E z T L V P x mb o A lw) (hz : z ≤ z2) (hb : bxP T L P9 x A') (hc : cR E.2.2.2.2 T L V9 P9 x A' s9 lw) (hP : ∀ b, T b ≠ 2004 → P9 b = P b) : RR E z2 T L (up1 (up3 V9 o 0 0 r) mb s9) P9 x mb o A' lw := h.fin hz hb hc hP (fun b q1 q2 => by rw [up1_n q1, up3_n q2]) up1_s
theorem RR.act0 {z2 : Nat} {V9 : w_V} {s9 : MS} (h : RR E z T L V P x mb o A lw) (hz : z ≤ z2) (hc : cR E.2.2.2.2 T L V9 P x A s9 lw) : RR E z2 T L (up1 V9 mb s9) P x mb o A lw := h.fin hz h.1 hc (fun _ _ => rfl) (fun b q1 _ => by rw [up1_n q1]) up1_s
theorem q_start (h : RR E z T L V P x mb o A lw) {U : Nat} (hU : 100 ≤ U) {p1 p2 : Int32} {post : Nat → Nat → (Nat → Nat) → (Nat → Nat) → w_V → w_P → Prop} (hp : ∀ (U2 z2 : Nat) (W : w_V) (P2 : w_P) (A2 : Nat → Nat), U ≤ U2 + 100 → RR E z2 T L W P2 x mb o A2 lw → W mb 0 14 = V mb 0 14 → post U2 z2 T L W P2) : wL_start E U z T L V P x mb o p1 p2 post := by
  have hmo := h.mo
  unfold wL_start wX0_start
  refine ⟨1, U - 1, by omega, 0, rfl, qX_start h.c0 h.1 (hp := fun j d hj ej hd ed V9 P9 A' hb9 eA ha hk => ?_) (hr := fun j hj ej hy => ?_) (h0 := fun hx => ⟨rfl, fun z2 hz => ⟨h.1.1.1, h.2.2.2.1, h.2.2.2.2.1, h.2.2.2.2.2.1, h.2.2.1, qM_start0 h.2.1 hx (fun b s9 g1 g2 => ⟨g2, fun q => absurd q (by decide), hp _ _ _ _ _ (by omega) (h.q hz (cfr.rf _ _ _) g1 (fun b q _ => up1_n q) up1_s) (by rw [up1_s]; exact g1.2.1 14 (by decide) (by decide) (by decide) (by decide) (by decide) (by decide))⟩)⟩⟩)⟩
  · subst ej ed
    refine ⟨h.2.2.2.2.1, h.2.2.2.2.2.1, fun V8 e8 => ⟨h.1.1.1, h.2.2.2.1, h.2.2.2.2.1, h.2.2.2.2.2.1, h.2.2.1.p ha.2, ?_⟩⟩
    have em : V8 mb = V mb := by rw [e8, up3_n hmo]; exact ha.1 mb (by rw [h.2.2.1.1]; decide) (by rw [h.2.2.1.1]; decide) (T_ne h.2.2.1.1 h.1.2.1.1 (by decide))
    rw [em]
    refine qM_start h.2.1 hj hd (fun s9 a a1 a2 hkp => ⟨?_, fun _ => ?_, hp _ _ _ _ _ (by omega) (by rw [e8]; exact h.act (Nat.le_refl _) hb9 (hk s9 a a1 a2 hkp) ha.2) ?_⟩)
    · rw [s2_k (by decide), hkp.2.1 2 (by decide), s2_s]
    · rw [up1_n hmo.symm, e8, up3_a, s2_s]; rfl
    · rw [up1_s]; rw [s2_k (by decide), hkp.2.1 14 (by decide), s2_i (by decide)]
  · subst ej
    refine ⟨h.2.2.2.2.1, h.2.2.2.2.2.1, fun V8 e8 => ⟨h.1.1.1, h.2.2.2.1, h.2.2.2.2.1, h.2.2.2.2.2.1, h.2.2.1, ?_⟩⟩
    have em : V8 mb = V mb := by rw [e8, up3_n hmo, up3_n (T_ne h.2.2.1.1 h.1.2.1.1 (by decide))]
    rw [em]
    refine qM_startR h.2.1 hj hy ⟨?_, fun _ => ?_, hp _ _ _ _ _ (by omega) (by rw [e8]; exact h.act (Nat.le_refl _) h.1 ((h.c0.refuse h.1 (i := 1)).resolve_right (by decide)) (fun _ _ => rfl)) ?_⟩
    · rw [s2_k (by decide), s2_s]
    · rw [up1_n hmo.symm, e8, up3_a, s2_s]
    · rw [up1_s, s2_k (by decide), s2_i (by decide)]
theorem q_word (h : RR E z T L V P x mb o A lw) {U : Nat} (hU : 100 ≤ U) {p1 p2 p3 : Int32} {post : Nat → Nat → (Nat → Nat) → (Nat → Nat) → w_V → w_P → Prop} (hp : ∀ (U2 z2 : Nat) (W : w_V) (P2 : w_P) (A2 : Nat → Nat), U ≤ U2 + 100 → RR E z2 T L W P2 x mb o A2 lw → W mb 0 14 = V mb 0 14 → post U2 z2 T L W P2) : wL_word E U z T L V P x mb o p1 p2 p3 post := by
  have hmo := h.mo
  unfold wL_word wX0_word
  refine ⟨2, U - 2, by omega, 0, rfl, qX_word h.c0 h.1 (hp := fun c k d hcc ec hk' ek hd ed h4 V9 P9 A' hb9 eA ha hk => ?_) (hr := fun c k hcc ec hk' ek hw => ?_) (h0 := fun hx => ⟨rfl, fun z2 hz => ⟨h.1.1.1, h.2.2.2.1, h.2.2.2.2.1, h.2.2.2.2.2.1, h.2.2.1, qM_word0 h.2.1 hx (fun b s9 g1 g2 => ⟨g2, fun q => absurd q (by decide), hp _ _ _ _ _ (by omega) (h.q hz (cfr.rf _ _ _) g1 (fun b q _ => up1_n q) up1_s) (by rw [up1_s]; exact g1.2.1 14 (by decide) (by decide) (by decide) (by decide) (by decide) (by decide))⟩)⟩⟩)⟩
  · subst ec ek ed
    refine ⟨h.2.2.2.2.1, h.2.2.2.2.2.1, fun V8 e8 => ⟨h.1.1.1, h.2.2.2.1, h.2.2.2.2.1, h.2.2.2.2.2.1, h.2.2.1.p ha.2, ?_⟩⟩
    have em : V8 mb = V mb := by rw [e8, up3_n hmo]; exact ha.1 mb (by rw [h.2.2.1.1]; decide) (by rw [h.2.2.1.1]; decide) (T_ne h.2.2.1.1 h.1.2.1.1 (by decide))
    rw [em]
    refine qM_word h.2.1 hcc hk' hd h4 (fun s9 a a1 a2 hkp => ⟨?_, fun _ => ?_, hp _ _ _ _ _ (by omega) (by rw [e8]; exact h.act (Nat.le_refl _) hb9 (hk s9 a a1 a2 hkp) ha.2) ?_⟩)
    · unfold wordM; rw [s2_i (by decide), put3_n (by decide), hkp.2.1 2 (by decide), s2_s]
    · rw [up1_n hmo.symm, e8, up3_a, s2_s]; rfl
    · rw [up1_s]; unfold wordM; rw [s2_i (by decide), put3_n (by decide), hkp.2.1 14 (by decide), s2_i (by decide)]
  · subst ec ek
    refine ⟨h.2.2.2.2.1, h.2.2.2.2.2.1, fun V8 e8 => ⟨h.1.1.1, h.2.2.2.1, h.2.2.2.2.1, h.2.2.2.2.2.1, h.2.2.1, ?_⟩⟩
    have em : V8 mb = V mb := by rw [e8, up3_n hmo, up3_n (T_ne h.2.2.1.1 h.1.2.1.1 (by decide))]
    rw [em]
    refine qM_wordR h.2.1 hcc hk' hw ⟨?_, fun _ => ?_, hp _ _ _ _ _ (by omega) (by rw [e8]; exact h.act (Nat.le_refl _) h.1 ((h.c0.refuse h.1 (i := 1)).resolve_right (by decide)) (fun _ _ => rfl)) ?_⟩
    · rw [s2_k (by decide), s2_s]
    · rw [up1_n hmo.symm, e8, up3_a, s2_s]
    · rw [up1_s, s2_k (by decide), s2_i (by decide)]
theorem q_feast (h : RR E z T L V P x mb o A lw) {U : Nat} (hU : 100 ≤ U) {p1 p2 p3 : Int32} {post : Nat → Nat → (Nat → Nat) → (Nat → Nat) → w_V → w_P → Prop} (hp : ∀ (U2 z2 : Nat) (W : w_V) (P2 : w_P) (A2 : Nat → Nat), U ≤ U2 + 100 → RR E z2 T L W P2 x mb o A2 lw → W mb 0 14 = V mb 0 14 → post U2 z2 T L W P2) : wL_feast E U z T L V P x mb o p1 p2 p3 post := by
  have hmo := h.mo
  unfold wL_feast wX0_feast
  refine ⟨1, U - 1, by omega, 0, rfl, qX_feast h.c0 h.1 (hp := fun k hk' ek hg V9 P9 A' hb9 eA ha hk => ?_) (hr := fun k hk' ek hg => ?_) (h0 := fun hx => ⟨rfl, fun z2 hz => ⟨h.1.1.1, h.2.2.2.1, h.2.2.2.2.1, h.2.2.2.2.2.1, h.2.2.1, qM_feast0 h.2.1 hx (fun b s9 g1 g2 => ⟨g2, fun q => absurd q (by decide), hp _ _ _ _ _ (by omega) (h.q hz (cfr.rf _ _ _) g1 (fun b q _ => up1_n q) up1_s) (by rw [up1_s]; exact g1.2.1 14 (by decide) (by decide) (by decide) (by decide) (by decide) (by decide))⟩)⟩⟩)⟩
  · subst ek
    refine ⟨h.2.2.2.2.1, h.2.2.2.2.2.1, fun V8 e8 => ⟨h.1.1.1, h.2.2.2.1, h.2.2.2.2.1, h.2.2.2.2.2.1, h.2.2.1.p ha.2, ?_⟩⟩
    have em : V8 mb = V mb := by rw [e8, up3_n hmo]; exact ha.1 mb (by rw [h.2.2.1.1]; decide) (by rw [h.2.2.1.1]; decide) (T_ne h.2.2.1.1 h.1.2.1.1 (by decide))
    rw [em]
    refine qM_feast h.2.1 hk' hg (fun s9 a a1 a2 hkp => ⟨?_, fun _ => ?_, hp _ _ _ _ _ (by omega) (by rw [e8]; exact h.act (Nat.le_refl _) hb9 (hk s9 a a1 a2 hkp) ha.2) ?_⟩)
    · unfold feastM; rw [s2_i (by decide), put3_n (by decide), hkp.2.1 2 (by decide), s2_s]
    · rw [up1_n hmo.symm, e8, up3_a, s2_s]; rfl
    · rw [up1_s]; unfold feastM; rw [s2_i (by decide), put3_n (by decide), hkp.2.1 14 (by decide), s2_i (by decide)]
  · subst ek
    refine ⟨h.2.2.2.2.1, h.2.2.2.2.2.1, fun V8 e8 => ⟨h.1.1.1, h.2.2.2.1, h.2.2.2.2.1, h.2.2.2.2.2.1, h.2.2.1, ?_⟩⟩
    have em : V8 mb = V mb := by rw [e8, up3_n hmo, up3_n (T_ne h.2.2.1.1 h.1.2.1.1 (by decide))]
    rw [em]
    refine qM_feastR h.2.1 hk' hg ⟨?_, fun _ => ?_, hp _ _ _ _ _ (by omega) (by rw [e8]; exact h.act (Nat.le_refl _) h.1 ((h.c0.refuse h.1 (i := 1)).resolve_right (by decide)) (fun _ _ => rfl)) ?_⟩
    · rw [s2_k (by decide), s2_s]
    · rw [up1_n hmo.symm, e8, up3_a, s2_s]
    · rw [up1_s, s2_k (by decide), s2_i (by decide)]
theorem q_flood (h : RR E z T L V P x mb o A lw) {U : Nat} (hU : 100 ≤ U) {p1 p2 p3 : Int32} {post : Nat → Nat → (Nat → Nat) → (Nat → Nat) → w_V → w_P → Prop} (hp : ∀ (U2 z2 : Nat) (W : w_V) (P2 : w_P) (A2 : Nat → Nat), U ≤ U2 + 100 → RR E z2 T L W P2 x mb o A2 lw → W mb 0 14 = V mb 0 14 → post U2 z2 T L W P2) : wL_flood E U z T L V P x mb o p1 p2 p3 post := by
  have hmo := h.mo
  unfold wL_flood wX0_flood
  refine ⟨1, U - 1, by omega, 0, rfl, qX_flood h.c0 h.1 (hp := fun k hk' ek hg V9 P9 A' hb9 eA ha hk => ?_) (hr := fun k hk' ek hg => ?_) (h0 := fun hx => ⟨rfl, fun z2 hz => ⟨h.1.1.1, h.2.2.2.1, h.2.2.2.2.1, h.2.2.2.2.2.1, h.2.2.1, qM_flood0 h.2.1 hx (fun b s9 g1 g2 => ⟨g2, fun q => absurd q (by decide), hp _ _ _ _ _ (by omega) (h.q hz (cfr.rf _ _ _) g1 (fun b q _ => up1_n q) up1_s) (by rw [up1_s]; exact g1.2.1 14 (by decide) (by decide) (by decide) (by decide) (by decide) (by decide))⟩)⟩⟩)⟩
  · subst ek
    refine ⟨h.2.2.2.2.1, h.2.2.2.2.2.1, fun V8 e8 => ⟨h.1.1.1, h.2.2.2.1, h.2.2.2.2.1, h.2.2.2.2.2.1, h.2.2.1.p ha.2, ?_⟩⟩
    have em : V8 mb = V mb := by rw [e8, up3_n hmo]; exact ha.1 mb (by rw [h.2.2.1.1]; decide) (by rw [h.2.2.1.1]; decide) (T_ne h.2.2.1.1 h.1.2.1.1 (by decide))
    rw [em]
    refine qM_flood h.2.1 hk' hg (fun s9 a a1 a2 hkp => ⟨?_, fun _ => ?_, hp _ _ _ _ _ (by omega) (by rw [e8]; exact h.act (Nat.le_refl _) hb9 (hk s9 a a1 a2 hkp) ha.2) ?_⟩)
    · unfold floodM; rw [s2_i (by decide), put3_n (by decide), hkp.2.1 2 (by decide), s2_s]
    · rw [up1_n hmo.symm, e8, up3_a, s2_s]; rfl
    · rw [up1_s]; unfold floodM; rw [s2_i (by decide), put3_n (by decide), hkp.2.1 14 (by decide), s2_i (by decide)]
  · subst ek
    refine ⟨h.2.2.2.2.1, h.2.2.2.2.2.1, fun V8 e8 => ⟨h.1.1.1, h.2.2.2.1, h.2.2.2.2.1, h.2.2.2.2.2.1, h.2.2.1, ?_⟩⟩
    have em : V8 mb = V mb := by rw [e8, up3_n hmo, up3_n (T_ne h.2.2.1.1 h.1.2.1.1 (by decide))]
    rw [em]
    refine qM_floodR h.2.1 hk' hg ⟨?_, fun _ => ?_, hp _ _ _ _ _ (by omega) (by rw [e8]; exact h.act (Nat.le_refl _) h.1 ((h.c0.refuse h.1 (i := 1)).resolve_right (by decide)) (fun _ _ => rfl)) ?_⟩
    · rw [s2_k (by decide), s2_s]
    · rw [up1_n hmo.symm, e8, up3_a, s2_s]
    · rw [up1_s, s2_k (by decide), s2_i (by decide)]
end RK
