/-! PURE: the law's land joined -/
set_option maxRecDepth 100000
theorem and255 (a : Int32) : ∃ m, m < 256 ∧ a &&& 255 = nI m := by
  refine ⟨(a &&& 255).toUInt32.toNat, ?_, ?_⟩
  · show ((a &&& 255).toUInt32).toNat < 256
    rw [Int32.toUInt32_and]
    rw [UInt32.toNat_and]
    exact Nat.lt_of_le_of_lt Nat.and_le_right (by decide)
  · show a &&& 255 = Int32.ofNat _
    rw [← UInt32.toInt32_ofNat', UInt32.ofNat_toNat]
    exact (Int32.toInt32_toUInt32 _).symm
section QL
variable {E : w_E} {z : Nat} {T L : Nat → Nat} {V : w_V} {P : w_P} {x mb o : Nat} {A : Nat → Nat} {lw : (Nat → Int32) → Int32}
theorem mOk.y {T2 L2 : Nat → Nat} {P2 : w_P} (h : mOk E T L P mb) (hx : ∀ a, T a ≠ 0 → T a ≠ 2 → T2 a = T a ∧ L2 a = L a ∧ P2 a = P a) : mOk E T2 L2 P2 mb := by
  obtain ⟨h1, ⟨a, a1, a2, a3, a4, a5⟩, b, b1, b2', b3, b4, b5⟩ := h
  obtain ⟨m1, m2, m3⟩ := hx mb (ne0 h1) (by rw [h1]; decide)
  obtain ⟨n1, n2, n3⟩ := hx a (ne0 a2) (by rw [a2]; decide)
  obtain ⟨o1, o2, o3⟩ := hx b (ne0 b2') (by rw [b2']; decide)
  exact ⟨m1.trans h1, ⟨a, by rw [m3]; exact a1, n1.trans a2, n2.trans a3, a4, by rw [n3]; exact a5⟩, b, by rw [m3]; exact b1, o1.trans b2', o2.trans b3, b4, by rw [o3]; exact b5⟩
/-- a land's reading, at both -/
theorem q_land (h : RR E z T L V P x mb o A lw) (hA : hAd E.2.2.2.2) {U tp : Nat} (h14 : V mb 0 14 = nI tp) (htp : tp ≤ 600) (hU : 300 + 30 * tp ≤ U) {p1 : Int32} {post : Nat → Nat → (Nat → Nat) → (Nat → Nat) → w_V → w_P → Prop}
    (hp : ∀ (U2 z2 : Nat) (T2 L2 : Nat → Nat) (W : w_V) (P2 : w_P) (A2 : Nat → Nat) (lw2 : (Nat → Int32) → Int32) (tp2 : Nat), tp2 ≤ tp → U + 30 * tp2 ≤ U2 + 300 + 30 * tp → RR E z2 T2 L2 W P2 x mb o A2 lw2 → W mb 0 14 = nI tp2 → post U2 z2 T2 L2 W P2) : wL_land E U z T L V P x mb o p1 post := by
  have hmo := h.mo
  obtain ⟨hb, hc, hm, ho1, ho2, ho3, hf⟩ := id h
  obtain ⟨nt, nt1, nt2, nt3, nt4⟩ := id hc.2.2.2.2.1
  have ent : nt = tp := by
    rw [h14] at nt1
    exact ((nI_eq (by omega) (by omega)).mp nt1).symm
  subst ent
  have hx2 := hb.1.1
  have hmx : mb ≠ x := T_ne hm.1 hx2 (by decide)
  have hox : o ≠ x := T_ne ho1 hx2 (by decide)
  have hmA : mb ≠ A 0 := T_ne hm.1 hb.2.1.1 (by decide)
  have hmA2 : mb ≠ A 2 := T_ne hm.1 (bx_st hb stI2) (by decide)
  unfold wL_land wX0_land
  by_cases hbad : p1 < 0 ∨ ¬ p1 ≤ V mb 0 14
  · refine ⟨1, U - 1, by omega, 1, 0, rfl, ?_⟩
    unfold wFX1_land
    have bad : ∀ Q1 : Int32 → Nat → (Nat → Nat) → (Nat → Nat) → w_V → w_P → Prop, jFX1_land_16 E.2.2.2.2 1 z T L V P x p1 Q1 (fun q En z T L V1 P1 => En = "java/lang/IllegalArgumentException" ∧ T x = 2 ∧ T o = 3003 ∧ 0 < L o ∧ L o < 2147483648 ∧ mOk E T L P1 mb ∧ wM_land (V1 mb) p1 (fun b9 s9 => s9 0 2 = 1 ∧ ((1 : Int32) = 0 → (up1 V1 mb s9) o 0 0 = b9) ∧ post (U - 1) z T L (up1 V1 mb s9) P1)) := fun Q1 => by
      unfold jFX1_land_16 jFX1_land_17 wX1_right
      refine ⟨0, rfl, ?_⟩
      rw [if_pos rfl]
      intro q z2 hz
      exact ⟨rfl, hx2, ho1, ho2, ho3, hm, qM_land0 hbad (fun b9 s9 g1 g2 => ⟨g2, fun e => absurd e (by decide), hp _ _ _ _ _ _ _ _ nt (Nat.le_refl _) (by omega) (h.q hz (cfr.rf _ _ _) g1 (fun b q _ => up1_n q) up1_s) (by rw [up1_s, g1.2.1 14 (by decide) (by decide) (by decide) (by decide) (by decide) (by decide)]; exact h14)⟩)⟩
    by_cases e1 : p1 < 0
    · rw [if_pos e1]
      exact bad _
    · rw [if_neg e1]
      have e2 : V x 0 8 < p1 := by
        rcases hbad with q | q
        · exact absurd q e1
        · rw [nt3, ← nt1]; exact Int32.not_le.mp q
      rw [if_pos e2]
      exact bad _
  · have e1 : ¬ p1 < 0 := fun q => hbad (Or.inl q)
    have e2 : ¬ V x 0 8 < p1 := fun q => hbad (Or.inr (fun q2 => by rw [nt1, ← nt3] at q2; exact Int32.not_lt.mpr q2 q))
    obtain ⟨n, en1, en2⟩ := nI_of e1
    subst en2
    have hn : n ≤ nt := by
      rw [nt3] at e2
      exact Nat.le_of_not_lt (fun q => e2 (nI_lt q (by omega)))
    -- the tape's bytes
    have hby : ∀ i, i < n → ∃ m, m < 256 ∧ V mb 14 i = nI m := fun i hi => by
      obtain ⟨m, m1, m2⟩ := and255 (V x 8 i)
      exact ⟨m, m1, by rw [← nt4 i (by omega)]; exact m2⟩
    obtain ⟨b, hbd⟩ : ∃ b : Nat → Nat, b = fun i => if i < n then tn (V mb 14 i) else 0 := ⟨_, rfl⟩
    have hbe : ∀ i, i < n → V mb 14 i = nI (b i) := fun i hi => by
      obtain ⟨m, m1, m2⟩ := hby i hi
      rw [hbd]
      show _ = nI (if i < n then tn (V mb 14 i) else 0)
      rw [if_pos hi, m2, tn_nI (by omega)]
    have ht : tOk b n := ⟨by omega, fun i => by
      rw [hbd]
      show (if i < n then tn (V mb 14 i) else 0) < 256
      by_cases hi : i < n
      · obtain ⟨m, m1, m2⟩ := hby i hi
        rw [if_pos hi, m2, tn_nI (by omega)]; exact m1
      · rw [if_neg hi]; decide⟩
    clear hbd hby
    refine ⟨200 + 30 * n, U - (200 + 30 * n), by omega, 200 + 30 * n, 0, rfl, ?_⟩
    unfold wFX1_land
    rw [if_neg e1, if_neg e2]
    unfold jFX1_land_17 wX1_right
    refine ⟨199 + 30 * n, by omega, ?_⟩
    rw [if_neg (by decide)]
    intro V4 e4 V5 e5
    have v5 : ∀ a, a ≠ x → V5 a = V a := fun a ha => by rw [e5, up3_n ha, e4, up3_n ha]
    have v5x : V5 x = s2 (s2 (V x) 0 8 0) 0 9 (-1) := by rw [e5, up3_a, e4, up3_a]
    refine ⟨198 + 30 * n, by omega, fun o6 z1 T1 L1 V1 P1 n1 => ?_⟩
    obtain ⟨x1, y1, -, -, -, -⟩ := ext.nw hf n1
    refine ⟨(x1.2.2 x (ne0 hx2)).1.trans hx2, 20, 178 + 30 * n, by omega, ?_⟩
    refine new9 hA ht hf n1 ⟨by decide, Or.inl ⟨1, 7, 450, by decide, hx2, rfl, rfl, rfl⟩⟩ hx2 (fun i hi => ?_) (Nat.le_refl _) (fun z2 T2 L2 V2 P2 x2 r2 g2 w2 => ?_)
    · rw [v5x, s2_rowN (by decide), s2_rowN (by decide), nt4 i (by omega)]; exact hbe i hi
    have t2 : T2 x = 2 := (x2.2.2 x (ne0 hx2)).1.trans hx2
    have hro : T2 o6 = 8 := r2.1.1
    refine ⟨hro, t2, 60 + 30 * n, 118, by omega, ?_⟩
    unfold wFX9_land
    refine ⟨59 + 30 * n, by omega, fun l z3 T3 L3 V3 P3 n3 => ?_⟩
    obtain ⟨x3, y3, -, -, -, -⟩ := ext.nw x2.1 n3
    refine ⟨(x3.2.2 o6 (ne0 hro)).1.trans hro, 20, 39 + 30 * n, by omega, ?_⟩
    refine new2 x2.1 n3 (Nat.le_refl _) (fun T4 L4 V4' P4 x4 l4 => ?_)
    have el : l = z2 := n3.1
    obtain ⟨⟨k1, k2, k3, k4, k5⟩, k6, ⟨k7, k8, k9, k10, k11⟩, ⟨k12, k13, k14, k15, k16⟩, ⟨k17, k18, k19, k20, k21⟩⟩ := l4
    have r4 := x4.2.2 o6 (ne0 hro)
    have x24 := x2.tr x4
    have z0 : ∀ a, z ≤ a → T a = 0 := fun a ha => hf.z0 ha
    have hzz := x2.2.1
    have hC : CL E.2.2.2.2 b n (T, L, V5, P) o6 (x + 450) x 8 l (l + 3) (l + 5) (l + 7) D0 (fun _ => 0) false false (tSkp b n 0) (z2 + 10) T4 L4 V4' P4 := by
      refine ⟨x4.1, r2.x (fun a ha => x4.2.2 a (by rcases ha with q | q | q | q <;> (rw [q]; decide))), x24.2.2, ⟨y1, z0 _ (by omega), z0 _ (by omega), z0 _ (by omega)⟩, by omega, ⟨by rw [r4.2.2.1]; exact g2, by rw [r4.2.2.1]; exact w2⟩, ⟨k1, k2, k3, k4, k5⟩, fun k _ => k6 k, ⟨k10, k11⟩, Or.inl ⟨k9, rfl⟩, l + 4, l + 6, z0 _ (by omega), z0 _ (by omega), by omega, ⟨k7, ⟨k12, k13, k14, k15, by rw [k16]; decide, by rw [k16]; decide⟩, fun j hj => absurd hj (Nat.not_lt_zero j)⟩, ⟨k8, ⟨k17, k18, k19, k20, by rw [k21]; decide, by rw [k21]; decide⟩, fun j hj => absurd hj (Nat.not_lt_zero j)⟩, ⟨by rw [k16]; decide, by rw [k16]; decide⟩, by rw [k21]; decide, by rw [k21]; decide⟩
    refine ⟨k1, r4.1.trans hro, n - tSkp b n 0 + 1, ?_⟩
    have hp0 : tSkp b n 0 ≤ n := t9skp_le (Nat.zero_le n)
    rcases land_all (ad := E.2.2.2.2) (b := b) (n := n) (B := (T, L, V5, P)) (r := o6) (tx := x + 450) (ax := x) (kx := 8) (l := l) (jl := l + 3) (cl := l + 5) (vw := l + 7) hA ht (n - tSkp b n 0 + 1) D0 (fun _ => 0) false false (tSkp b n 0) (by omega) hp0 D0_ok (fun _ => rfl) with ⟨D', lw', g', w', hD', hXc, hMc⟩ | ⟨k, pl, hk0, hpl, hXc, hMc⟩
    · refine hXc _ _ _ _ _ _ _ _ _ (by omega) hC (fun U5 z5 T5 L5 V6 P5 hz5 hC5 => ?_)
      obtain ⟨c1, -, c3, -, c5, -, ⟨c7, c7b, c7c, c7d, c7e⟩, c8, ⟨c9, c10⟩, c11, ja, ca, i1, i2, i3, i4, i5, -, -⟩ := hC5
      have hD1 := hD'.1
      have l0 : T l = 0 := z0 _ (by omega)
      have ol : ∀ a, T a ≠ 0 → a ≠ l := fun a ha e => ha (by rw [e]; exact l0)
      refine sX_measures (N := nT D') (ro := roN D') (roN_le hD1) hD1.1.2 (by rw [c7b]; exact hD1.1.1) (fun a b ha hb' => by rw [c8 _ (by omega)]; exact roN_e hD1 ha hb') (fun V7 f7 m7 => ?_)
      have t5 : T5 x = 2 := (c3 x (ne0 hx2)).1.trans hx2
      refine ⟨t5, c7, fun P32 e32 => ?_⟩
      have p32 : ∀ a, a ≠ x → P32 a = P5 a := fun a ha => by rw [e32, up2_n ha]
      have p5x : P5 x = P x := (c3 x (ne0 hx2)).2.2.2
      have s6 : T5 (A 2) = 6 := (c3 _ (ne0 (bx_st hb stI2))).1.trans (bx_st hb stI2)
      have s3 : T5 (A 3) = 6 := (c3 _ (ne0 (bx_st hb stI3))).1.trans (bx_st hb stI3)
      have s0 : T5 (A 0) = 5 := (c3 _ (ne0 hb.2.1.1)).1.trans hb.2.1.1
      have hxl : x ≠ l := ol x (ne0 hx2)
      refine ⟨A 2, by rw [e32, up2_a, if_neg (by decide), p5x]; exact hb.1.2.2.2.2.1, s6, l, by rw [e32, up2_a, if_pos rfl], c7, ?_⟩
      have hjl : jdL T5 L5 V7 P32 l (l + 3) ja D' := by
        refine i4.k (X := fun a => a = l ∨ a = x) (fun a _ => ⟨rfl, rfl, fun q => ⟨f7.1 a (fun e => q (Or.inl e)), p32 a (fun e => q (Or.inr e))⟩⟩) (by rw [p32 l hxl.symm]) (fun q => ?_) (fun q => ?_) (fun a ha q => ?_)
        · rcases q with q | q
          · omega
          · have := i4.2.1.1; rw [q, t5] at this; cases this
        · have q9 := i4.2.1.2.2.2.1
          rcases q with q | q
          · rw [q, c7] at q9; cases q9
          · rw [q, t5] at q9; cases q9
        · rcases q with q | q
          · rw [q, c7] at ha; rcases ha with w | w | w | w <;> cases w
          · rw [q, t5] at ha; rcases ha with w | w | w | w <;> cases w
      refine sX6_beg (D := D') hD1.2.1.2 hjl (by rw [f7.2 0 (by decide)]; exact c7e) (fun a ha e => ?_) c7 (fun V8 b1 b2' b3 b4 b5 b6 => ?_)
      · rw [e, s6] at ha; rcases ha with w | w | w | w | w <;> cases w
      refine ⟨117, rfl, fun tr z6 T6 L6 V9 P6 n6 => ?_⟩
      obtain ⟨x6, y6, -, -, -, -⟩ := ext.nw c1 n6
      have v6 := x6.2.2 x (ne0 t5)
      have tr5 : ∀ a, T5 a ≠ 0 → a ≠ tr := fun a ha e => ha (by rw [e]; exact y6)
      refine ⟨v6.1.trans t5, l, by rw [v6.2.2.2, e32, up2_a, if_pos rfl], (x6.2.2 l (ne0 c7)).1.trans c7, A 3, by rw [v6.2.2.2, e32, up2_a, if_neg (by decide), p5x]; exact hb.1.2.2.2.2.2.1, (x6.2.2 _ (ne0 s3)).1.trans s3, 20, 97, rfl, ?_⟩
      refine new7 c1 n6 c7 s3 (Nat.le_refl _) (fun T7 L7 V10 P7 x7 t7 p70 p71 => ?_)
      have v7 := x7.2.2 x (ne0 t5)
      refine ⟨t7, v7.1.trans t5, fun P65 e65 => ?_⟩
      have px : ∀ j, P65 x j = if j = 0 then some l else if j = 5 then some tr else P x j := fun j => by
        rw [e65, up2_a]
        by_cases j5 : j = 5
        · rw [if_pos j5, if_neg (by omega), if_pos j5]
        · rw [if_neg j5, v7.2.2.2, e32, up2_a]
          by_cases j0 : j = 0
          · rw [if_pos j0, if_pos j0]
          · rw [if_neg j0, if_neg j0, if_neg j5, p5x]
      have t70 : T7 (A 0) = 5 := (x7.2.2 _ (ne0 s0)).1.trans s0
      refine ⟨A 0, by rw [px]; exact hb.1.2.2.1, t70, fun V69 e69 => ⟨A 0, by rw [px]; exact hb.1.2.2.1, t70, fun V73 e73 V74 e74 => ?_⟩⟩
      have n0x : A 0 ≠ x := T_ne hb.2.1.1 hx2 (by decide)
      have n2x : A 2 ≠ x := T_ne (bx_st hb stI2) hx2 (by decide)
      have n20 : A 2 ≠ A 0 := T_ne (bx_st hb stI2) hb.2.1.1 (by decide)
      -- the heap at last
      have f74 : ∀ a, a ≠ x → a ≠ A 0 → V74 a = V10 a := fun a h1 h2 => by rw [e74, up3_n h1, e73, up3_n h2, e69, up3_n h2]
      have p65 : ∀ a, a ≠ x → P65 a = P7 a := fun a ha => by rw [e65, up2_n ha]
      have old : ∀ a, T a ≠ 0 → T5 a ≠ 0 ∧ V7 a = V5 a := fun a ha => ⟨by rw [(c3 a ha).1]; exact ha, by rw [f7.1 a (ol a ha)]; exact (c3 a ha).2.2.1⟩
      have hX : ∀ a, T a ≠ 0 → T7 a = T a ∧ L7 a = L a ∧ (a ≠ x → P65 a = P a) ∧ (a ≠ x → a ≠ A 0 → a ≠ A 2 → V74 a = V a) := fun a ha => by
        obtain ⟨q1, q2⟩ := old a ha
        obtain ⟨w1, w2, w3, w4⟩ := x7.2.2 a q1
        obtain ⟨u1, u2, u3, u4⟩ := c3 a ha
        exact ⟨w1.trans u1, w2.trans u2, fun hax => by rw [p65 a hax, w4, p32 a hax]; exact u4, fun h1 h2 h3 => by rw [f74 a h1 h2, w3, b1 a h3, q2, v5 a h1]⟩
      have vX : V74 x = s2 (s2 (s2 (V x) 0 8 0) 0 9 (-1)) 0 6 0 := by
        rw [e74, up3_a, e73, up3_n n0x.symm, e69, up3_n n0x.symm, v7.2.2.1, b1 x n2x.symm, (old x (ne0 hx2)).2, v5x]
      have vA : V74 (A 0) = s2 (s2 (V (A 0)) 0 6 0) 0 7 0 := by
        rw [e74, up3_n n0x, e73, up3_a, e69, up3_a, (x7.2.2 _ (ne0 s0)).2.2.1, b1 _ n20.symm, (old _ (ne0 hb.2.1.1)).2, v5 _ n0x]
      have vS : V74 (A 2) = V8 (A 2) := by rw [f74 _ n2x n20, (x7.2.2 _ (ne0 s6)).2.2.1]
      have vl : V74 l = V7 l := by
        rw [f74 l hxl.symm (ol _ (ne0 hb.2.1.1)).symm, (x7.2.2 l (ne0 c7)).2.2.1, b1 l (ol _ (ne0 (bx_st hb stI2))).symm]
      have pl' : P65 l = P5 l := by rw [p65 l hxl.symm, (x7.2.2 l (ne0 c7)).2.2.2, p32 l hxl.symm]
      have K : kfr (fun a => a = l ∨ T5 a = 2 ∨ T5 a = 5 ∨ T5 a = 6) T5 L5 V6 P5 T7 L7 V74 P65 := fun a ha => by
        obtain ⟨w1, w2, w3, w4⟩ := x7.2.2 a ha
        refine ⟨w1, w2, fun q => ?_⟩
        have h1 : a ≠ x := fun e => q (Or.inr (Or.inl (by rw [e]; exact t5)))
        have h2 : a ≠ A 0 := fun e => q (Or.inr (Or.inr (Or.inl (by rw [e]; exact s0))))
        have h3 : a ≠ A 2 := fun e => q (Or.inr (Or.inr (Or.inr (by rw [e]; exact s6))))
        exact ⟨by rw [f74 a h1 h2, w3, b1 a h3, f7.1 a (fun e => q (Or.inl e))], by rw [p65 a h1, w4, p32 a h1]⟩
      have nX : ∀ a t, T5 a = t → t ≠ 2 → t ≠ 3 → t ≠ 5 → t ≠ 6 → ¬ (a = l ∨ T5 a = 2 ∨ T5 a = 5 ∨ T5 a = 6) := fun a t q h2 h3 h5 h6 w => by
        rcases w with w | w | w | w
        · rw [w, c7] at q; exact h3 q.symm
        · exact h2 (q.symm.trans w)
        · exact h5 (q.symm.trans w)
        · exact h6 (q.symm.trans w)
      have i4' := i4.k K (by rw [pl']) (nX _ 16 i4.2.1.1 (by decide) (by decide) (by decide) (by decide)) (nX _ 2004 i4.2.1.2.2.2.1 (by decide) (by decide) (by decide) (by decide)) (fun a ha => by rcases ha with w | w | w | w <;> exact nX a _ w (by decide) (by decide) (by decide) (by decide))
      have i5' := i5.k K (by rw [pl']) (nX _ 16 i5.2.1.1 (by decide) (by decide) (by decide) (by decide)) (nX _ 2004 i5.2.1.2.2.2.1 (by decide) (by decide) (by decide) (by decide)) (fun a ha => nX a _ ha (by decide) (by decide) (by decide) (by decide))
      have c11' := c11.k K (fun a ha => by rcases ha with w | w | w | w <;> exact nX a _ w (by decide) (by decide) (by decide) (by decide))
      have hlnd : lndR E.2.2.2.2 T7 L7 V74 P65 l (l + 3) ja (l + 5) ca (l + 7) D' lw' := by
        refine ⟨⟨(x7.2.2 l (ne0 c7)).1.trans c7, ?_, ?_, ?_, ?_⟩, fun k hk => ?_, ⟨i4'.1, i4'.2.1, fun j hj => ?_⟩, i5', ⟨by rw [pl']; exact c9, (x7.2.2 _ (ne0 c10)).1.trans c10⟩, by rw [pl']; exact c11'⟩
        · rw [vl, f7.2 0 (by decide)]; exact c7b
        · rw [vl, f7.2 0 (by decide)]; exact c7c
        · rw [vl, f7.2 0 (by decide)]; exact c7d
        · rw [vl, f7.2 0 (by decide)]; exact c7e
        · rw [vl, f7.2 5 (by decide)]; exact c8 k hk
        · obtain ⟨a, q1, q2, -⟩ := i4'.2.2 j hj
          exact ⟨a, q1, q2⟩
      have t7o : T7 o = 3003 := (hX o (ne0 ho1)).1.trans ho1
      have l7o : L7 o = L o := (hX o (ne0 ho1)).2.1
      have m7o : mOk E T7 L7 P65 mb := hm.y (fun a ha h2 => ⟨(hX a ha).1, (hX a ha).2.1, (hX a ha).2.2.1 (fun e => h2 (by rw [e]; exact hx2))⟩)
      refine ⟨t7o, by rw [l7o]; exact ho2, by rw [l7o]; exact ho3, fun V99 e99 => ⟨(hX x (ne0 hx2)).1.trans hx2, t7o, by rw [l7o]; exact ho2, by rw [l7o]; exact ho3, m7o, ?_⟩⟩
      have em : V99 mb = V mb := by rw [e99, up3_n hmo]; exact (hX mb (ne0 hm.1)).2.2.2 hmx hmA hmA2
      rw [em]
      refine qM_landS (m := n - tSkp b n 0 + 1) ht h14 htp hn hbe (fun ke s hML hke => hMc (lst1 (V mb) n) s _ ke hML (fun s9 h9 => hke s9 (Or.inl ⟨D', h9, hD1, fun s' hs' => ?_⟩)))
      obtain ⟨R1, R2⟩ := cR_tkS (tr := tr) hc hb hs' hD' hX px ⟨by rw [vX, s2_s], by rw [vX]; rfl, by rw [vX]; rfl⟩ ⟨by rw [vA]; rfl, by rw [vA, s2_s], fun k hk => by rw [vA, s2_rowN hk, s2_rowN hk]⟩ ⟨fun j hj => by rw [vS]; exact b2' j hj, by rw [vS]; exact b3, fun j h1 h2 => by rw [vS]; exact b4 j h1 h2, by rw [vS]; exact b5⟩ ⟨t7, by rw [p65 tr (tr5 x (ne0 t5)).symm]; exact p70, by rw [p65 tr (tr5 x (ne0 t5)).symm]; exact p71⟩ hlnd (fun a b' ha hb' => by rw [vl]; exact m7 a b' ha hb') ⟨z0 _ (by omega), i1, z0 _ (by omega), i2⟩
      refine ⟨hs'.2.2.1.1, fun _ => by rw [up1_n hmo.symm, e99, up3_a, s2_s], hp _ _ _ _ _ _ _ lw' 0 (Nat.zero_le _) (by omega) ⟨R1, ?_, m7o, t7o, by rw [l7o]; exact ho2, by rw [l7o]; exact ho3, x7.1⟩ (by rw [up1_s]; exact hs'.2.2.1.2.1)⟩
      rw [up1_s]
      refine R2.w R1 (fun a h1 h2 _ => ?_)
      rw [up1_n (fun e => h1 (by rw [e]; exact m7o.1)), e99, up3_n (fun e => h2 (by rw [e]; exact t7o))]
    · refine hXc _ _ _ _ _ _ _ _ _ (by omega) hC (fun q z5 T5 L5 V6 P5 hf5 hz5 hx5 hq hq0 hq1 => ?_)
      replace hx5 : xt T L V5 P T5 L5 V6 P5 := hx5
      have t5 : T5 x = 2 := (hx5 x (ne0 hx2)).1.trans hx2
      have s0 : T5 (A 0) = 5 := (hx5 _ (ne0 hb.2.1.1)).1.trans hb.2.1.1
      have n0x : A 0 ≠ x := T_ne hb.2.1.1 hx2 (by decide)
      have nqx : q ≠ x := T_ne hq t5 (by decide)
      have nq0 : q ≠ A 0 := T_ne hq s0 (by decide)
      refine ⟨rfl, hq, t5, fun V82 e82 => ⟨A 0, by rw [(hx5 x (ne0 hx2)).2.2.2]; exact hb.1.2.2.1, s0, fun V86 e86 => ?_⟩⟩
      rw [hq1] at e82
      have t5o : T5 o = 3003 := (hx5 o (ne0 ho1)).1.trans ho1
      have l5o : L5 o = L o := (hx5 o (ne0 ho1)).2.1
      have m5o : mOk E T5 L5 P5 mb := hm.y (fun a ha _ => ⟨(hx5 a ha).1, (hx5 a ha).2.1, (hx5 a ha).2.2.2⟩)
      have f86 : ∀ a, a ≠ x → a ≠ A 0 → V86 a = V6 a := fun a h1 h2 => by rw [e86, up3_n h2, e82, up3_n h1]
      have vX : V86 x = s2 (s2 (s2 (V x) 0 8 0) 0 9 (-1)) 0 9 (nI pl) := by
        rw [e86, up3_n n0x.symm, e82, up3_a, (hx5 x (ne0 hx2)).2.2.1, v5x]
      have vA : V86 (A 0) = s2 (V (A 0)) 5 0 (V (A 0) 5 0 + 1) := by
        rw [e86, up3_a, e82, up3_n n0x, (hx5 _ (ne0 hb.2.1.1)).2.2.1, v5 _ n0x]
      have eq0 : V86 q 0 0 = k := by rw [f86 q nqx nq0]; exact hq0
      refine ⟨t5o, by rw [l5o]; exact ho2, by rw [l5o]; exact ho3, fun V99 e99 => ⟨t5, t5o, by rw [l5o]; exact ho2, by rw [l5o]; exact ho3, m5o, ?_⟩⟩
      have em : V99 mb = V mb := by rw [e99, up3_n hmo, f86 mb hmx hmA, (hx5 mb (ne0 hm.1)).2.2.1, v5 mb hmx]
      rw [em]
      refine qM_landS (m := n - tSkp b n 0 + 1) ht h14 htp hn hbe (fun ke s hML hke => hMc (lst1 (V mb) n) s _ ke hML (fun s9 h9 h10 h11 => hke s9 (Or.inr ⟨h9, k, pl, hk0, h10, h11, fun s' hs' => ?_⟩)))
      have R1 := bxP.x hx5 hb
      have Rc : cR E.2.2.2.2 T L (fun a => if a = x ∨ a = A 0 then V86 a else V a) P x A s' lw := by
        refine cR_tkF hc hb hs' (fun a h1 h2 => if_neg (fun w => by rcases w with w | w; exact h1 w; exact h2 w)) ?_ ?_ ?_ ?_
        · show (if x = x ∨ x = A 0 then V86 x else V x) 0 6 = _
          rw [if_pos (Or.inl rfl), vX]; rfl
        · show (if x = x ∨ x = A 0 then V86 x else V x) 0 8 = _
          rw [if_pos (Or.inl rfl), vX]; rfl
        · show (if x = x ∨ x = A 0 then V86 x else V x) 0 9 = _
          rw [if_pos (Or.inl rfl), vX, s2_s]
        · show (if A 0 = x ∨ A 0 = A 0 then V86 (A 0) else V (A 0)) = _
          rw [if_pos (Or.inr rfl), vA]
      have R2 : cR E.2.2.2.2 T5 L5 V86 P5 x A s' lw := by
        refine cR.x (fun a ha => ?_) hb Rc
        obtain ⟨u1, u2, u3, u4⟩ := hx5 a ha
        refine ⟨u1, u2, ?_, u4⟩
        show _ = if a = x ∨ a = A 0 then V86 a else V a
        by_cases w : a = x ∨ a = A 0
        · rw [if_pos w]
        · have h1 : a ≠ x := fun e => w (Or.inl e)
          rw [if_neg w, f86 a h1 (fun e => w (Or.inr e)), u3, v5 a h1]
      refine ⟨hs'.2.2.1.1, fun _ => by rw [up1_n hmo.symm, e99, up3_a, s2_s, eq0], hp _ _ _ _ _ _ _ lw 0 (Nat.zero_le _) (by omega) ⟨R1, ?_, m5o, t5o, by rw [l5o]; exact ho2, by rw [l5o]; exact ho3, hf5⟩ (by rw [up1_s]; exact hs'.2.2.1.2.1)⟩
      rw [up1_s]
      refine R2.w R1 (fun a h1 h2 _ => ?_)
      rw [up1_n (fun e => h1 (by rw [e]; exact m5o.1)), e99, up3_n (fun e => h2 (by rw [e]; exact t5o))]
end QL
