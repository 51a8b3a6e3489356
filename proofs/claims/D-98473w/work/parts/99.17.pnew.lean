/-! PURE: a new land, a new trial, a new reader; a state begins -/
set_option maxRecDepth 100000
section NN
variable {ad : Nat → Nat} {z : Nat} {T L : Nat → Nat} {V : w_V} {P : w_P} {z1 : Nat} {T1 L1 : Nat → Nat} {V1 : w_V} {P1 : w_P}
theorem new3 (hf : frs z T) {o U : Nat} (hn : nwH o z T L V P 54 0 z1 T1 L1 V1 P1) (hU : 2 ≤ U) {post : Nat → (Nat → Nat) → (Nat → Nat) → w_V → w_P → Prop}
    (kk : ∀ (T' L' : Nat → Nat) (V' : w_V) (P' : w_P), ext z T L V P (z + 3) T' L' V' P' → T' o = 4 → post (z + 3) T' L' V' P') : wFX3_init ad U z1 T1 L1 V1 P1 o post := by
  obtain ⟨m0, eo, v0, p0⟩ := mkg.b (c := 3) hf hn
  have ez : z1 = z + 1 := hn.2.1
  subst eo
  unfold wFX3_init
  refine ⟨1, U - 1, by omega, ?_⟩
  unfold wFX4_values
  refine ⟨0, rfl, ?_⟩
  intro o1 y1 T2 L2 V2 P2 e1 e2 e3 e4 e5 e6
  subst e1 e2 e3 e4 e5 e6
  have h0 : ∀ a, T1 a ≠ 0 → a ≠ o1 := fun a ha e => by have := m0.1.1 a ha; omega
  have x1 : ext o1 T1 L1 V1 P1 (o1 + 1) (up1 T1 o1 2006) (up1 L1 o1 5) (up1 V1 o1 fun _ _ => 0) (up1 P1 o1 fun i => some (ad i)) := by
    refine ⟨fun a ha => ?_, Nat.le_succ _, fun a ha => ⟨up1_n (h0 a ha), up1_n (h0 a ha), up1_n (h0 a ha), up1_n (h0 a ha)⟩⟩
    by_cases e : a = o1
    · omega
    · rw [up1_n e] at ha
      have := m0.1.1 a ha
      omega
  obtain ⟨m1, v1, p1⟩ := m0.grow x1 (k1 := 1) (by omega)
  refine ⟨m1.2.2.2.2.1, up1_s, 5, 1, U - 2, by rw [up1_s], by decide, by decide, by decide, by omega, fun o2 y2 T3 L3 V3 P3 n2 => ?_⟩
  obtain ⟨m2, v2, p2⟩ := m1.arr (j := 0) n2 (by decide) rfl (by decide)
  refine ⟨m2.2.2.2.2.1, fun P4 e4 => ?_⟩
  subst e4
  refine m2.seal (by decide) (fun T9 V9 s1 s2 s3 s4 s5 s6 => ?_)
  have ey : y2 = o + 3 := by have := m2.2.1; omega
  rw [ey] at s1 ⊢
  exact kk _ _ _ _ s1 s2
/-- a new land at l -/
def lnd2 (l : Nat) (T L : Nat → Nat) (V : w_V) (P : w_P) : Prop := (T l = 3 ∧ V l 0 0 = 0 ∧ V l 0 1 = 0 ∧ V l 0 2 = 10 ∧ V l 0 3 = 0) ∧ (∀ k, V l 5 k = 0) ∧ (P l 6 = some (l + 3) ∧ P l 7 = some (l + 5) ∧ P l 8 = none ∧ P l 9 = some (l + 7) ∧ T (l + 7) = 4) ∧ (T (l + 3) = 16 ∧ V (l + 3) 0 2 = 0 ∧ P (l + 3) 1 = some (l + 4) ∧ T (l + 4) = 2004 ∧ L (l + 4) = 1) ∧ (T (l + 5) = 16 ∧ V (l + 5) 0 2 = 0 ∧ P (l + 5) 1 = some (l + 6) ∧ T (l + 6) = 2004 ∧ L (l + 6) = 1)
theorem kfr.of {X : Nat → Prop} (h : xt T L V P T1 L1 V1 P1) : kfr X T L V P T1 L1 V1 P1 := fun a ha => ⟨(h a ha).1, (h a ha).2.1, fun _ => ⟨(h a ha).2.2.1, (h a ha).2.2.2⟩⟩
theorem ext.put2 {B : hpT} (h : ext B.1 B.2.1 B.2.2.1 B.2.2.2.1 B.2.2.2.2 z T L V P) {t j : Nat} {x : Option Nat} (ht : B.2.1 t = 0) : ext B.1 B.2.1 B.2.2.1 B.2.2.2.1 B.2.2.2.2 z T L V (up2 P t j x) := h.put ht (fun a ha => ⟨rfl, up2_n ha⟩)
theorem new2 (hf : frs z T) {o U : Nat} (hn : nwH o z T L V P 53 0 z1 T1 L1 V1 P1) (hU : 20 ≤ U) {post : Nat → (Nat → Nat) → (Nat → Nat) → w_V → w_P → Prop}
    (kk : ∀ (T' L' : Nat → Nat) (V' : w_V) (P' : w_P), ext z T L V P (z + 10) T' L' V' P' → lnd2 o T' L' V' P' → post (z + 10) T' L' V' P') : wFX2_init ad U z1 T1 L1 V1 P1 o post := by
  obtain ⟨m0, eo, v0, p0⟩ := mkg.b (c := 2) hf hn
  have ez : z1 = z + 1 := hn.2.1
  subst eo
  unfold wFX2_init
  intro W0 w0
  have m0' := m0.put (V1 := W0) (P1 := P1) (fun a ha => ⟨by rw [w0, up3_n ha], rfl⟩) (fun j hj => absurd hj List.not_mem_nil)
  refine ⟨U - 3, by omega, fun o1 y1 T2 L2 V2 P2 n1 => ?_⟩
  obtain ⟨m1, v1, p1⟩ := m0'.arr (j := 4) n1 (by decide) rfl (by decide)
  refine ⟨m1.2.2.2.2.1, fun P3 e3 => ?_⟩
  subst e3
  refine ⟨U - 6, by omega, fun o2 y2 T3 L3 V3 P3 n2 => ?_⟩
  obtain ⟨m2, v2, p2⟩ := m1.arr (j := 5) n2 (by decide) rfl (by decide)
  refine ⟨m2.2.2.2.2.1, fun P4 e4 => ?_⟩
  subst e4
  refine m2.seal (by decide) (fun T4 V4 s1 s2 s3 s4 s5 s6 => ?_)
  have ey2 : y2 = o + 3 := by have := m2.2.1; omega
  have hbo : T o = 0 := hf.z0 (Nat.le_refl _)
  have f0 : ∀ i, V4 o 0 i = if i = 2 then 10 else 0 := fun i => by
    rw [s3, v2, v1, w0, up3_a, v0]
    by_cases e : i = 2
    · rw [e, s2_s, if_pos rfl]
    · rw [s2_i e, if_neg e]
  have p8 : up2 P3 o 5 (some o2) o 8 = none := by rw [p2 8 (by decide), p1 8 (by decide), p0]
  refine ⟨U - 7, by omega, fun o3 y3 T5 L5 V5 P5 n3 => ?_⟩
  have eo3 : o3 = o + 3 := by have := n3.1; omega
  obtain ⟨x3, -⟩ := ext.nw s1.1 n3
  have t5 := x3.2.2 o (ne0 s2)
  refine ⟨t5.1.trans s2, 2, U - 9, by omega, ?_⟩
  refine new16 (N := 1) s1.1 n3 (by decide) (by decide) (Nat.le_refl _) (fun T6 L6 V6 P6 g1 g2 g3 g4 g5 g6 => ?_)
  obtain ⟨a1, a2, a3, a4⟩ := g1.2.2 o (ne0 s2)
  refine ⟨g2, a1.trans s2, fun P7 e7 => ⟨U - 10, by omega, fun o4 y4 T7 L7 V7 P8 n4 => ?_⟩⟩
  have E6 : ext o T L V P (y2 + 2) T6 L6 V6 P7 := by
    rw [e7]; exact ext.put2 (B := (o, T, L, V, P)) (s1.tr g1) hbo
  have eo4 : o4 = o + 5 := by have := n4.1; omega
  obtain ⟨x4, -⟩ := ext.nw E6.1 n4
  have t7 := x4.2.2 o (by rw [a1]; exact ne0 s2)
  refine ⟨(t7.1.trans a1).trans s2, 2, U - 12, by omega, ?_⟩
  refine new16 (N := 1) E6.1 n4 (by decide) (by decide) (Nat.le_refl _) (fun T8 L8 V8 P9 h1 h2 h3 h4 h5 h6 => ?_)
  obtain ⟨b1, b2', b3, b4⟩ := h1.2.2 o (by rw [a1]; exact ne0 s2)
  refine ⟨h2, (b1.trans a1).trans s2, fun P10 e10 => ⟨U - 13, by omega, fun o5 y5 T9 L9 V9 P11 n5 => ?_⟩⟩
  have E8 : ext o T L V P (y2 + 2 + 2) T8 L8 V8 P10 := by
    rw [e10]; exact ext.put2 (B := (o, T, L, V, P)) (E6.tr h1) hbo
  have eo5 : o5 = o + 7 := by have := n5.1; omega
  obtain ⟨x5, -⟩ := ext.nw E8.1 n5
  have t9 := x5.2.2 o (by rw [b1, a1]; exact ne0 s2)
  refine ⟨((t9.1.trans b1).trans a1).trans s2, 2, U - 15, by omega, ?_⟩
  refine new3 E8.1 n5 (Nat.le_refl _) (fun T10 L10 V10 P12 i1 i2 => ?_)
  obtain ⟨c1, c2, c3, c4⟩ := i1.2.2 o (by rw [b1, a1]; exact ne0 s2)
  refine ⟨i2, ((c1.trans b1).trans a1).trans s2, fun P13 e13 => ?_⟩
  have E10 : ext o T L V P (y2 + 2 + 2 + 3) T10 L10 V10 P13 := by
    rw [e13]; exact ext.put2 (B := (o, T, L, V, P)) (E8.tr i1) hbo
  have ez2 : y2 + 2 + 2 + 3 = o + 10 := by omega
  rw [ez2] at E10 ⊢
  have pe : ∀ j, P13 o j = if j = 9 then some o5 else if j = 7 then some o4 else if j = 6 then some o3 else up2 P3 o 5 (some o2) o j := fun j => by
    rw [e13, up2_a, c4, e10, up2_a, b4, e7, up2_a, a4]
  have ve : V10 o = V4 o := by rw [c3, b3, a3]
  have k6 : kfr (fun a => a = o) T6 L6 V6 P6 T10 L10 V10 P13 := by
    have q1 : kfr (fun a => a = o) T6 L6 V6 P6 T6 L6 V6 P7 := fun a _ => ⟨rfl, rfl, fun q => ⟨rfl, by rw [e7, up2_n q]⟩⟩
    have q2 : kfr (fun a => a = o) T8 L8 V8 P9 T8 L8 V8 P10 := fun a _ => ⟨rfl, rfl, fun q => ⟨rfl, by rw [e10, up2_n q]⟩⟩
    have q3 : kfr (fun a => a = o) T10 L10 V10 P12 T10 L10 V10 P13 := fun a _ => ⟨rfl, rfl, fun q => ⟨rfl, by rw [e13, up2_n q]⟩⟩
    exact (((q1.tr (.of h1.2.2)).tr q2).tr (.of i1.2.2)).tr q3
  have k8 : kfr (fun a => a = o) T8 L8 V8 P9 T10 L10 V10 P13 := by
    have q2 : kfr (fun a => a = o) T8 L8 V8 P9 T8 L8 V8 P10 := fun a _ => ⟨rfl, rfl, fun q => ⟨rfl, by rw [e10, up2_n q]⟩⟩
    have q3 : kfr (fun a => a = o) T10 L10 V10 P12 T10 L10 V10 P13 := fun a _ => ⟨rfl, rfl, fun q => ⟨rfl, by rw [e13, up2_n q]⟩⟩
    exact (q2.tr (.of i1.2.2)).tr q3
  have ea1 : y2 + 1 = o + 4 := by omega
  have ea2 : y2 + 2 + 1 = o + 6 := by omega
  rw [eo3] at g2 g3 g4
  rw [eo4] at h2 h3 h4
  rw [ea1] at g4 g5 g6
  rw [ea2] at h4 h5 h6
  obtain ⟨u1, u2, u3⟩ := k6 _ (ne0 g2)
  obtain ⟨w1, w2, w3⟩ := k6 _ (ne0 g5)
  obtain ⟨r1, r2, r3⟩ := k8 _ (ne0 h2)
  obtain ⟨y1', y2', y3'⟩ := k8 _ (ne0 h5)
  have u3' := u3 (by omega)
  have r3' := r3 (by omega)
  refine kk _ _ _ _ E10 ⟨⟨((c1.trans b1).trans a1).trans s2, ?_, ?_, ?_, ?_⟩, fun k => ?_, ⟨?_, ?_, ?_, ?_, ?_⟩, ⟨u1.trans g2, ?_, ?_, w1.trans g5, w2.trans g6⟩, ⟨r1.trans h2, ?_, ?_, y1'.trans h5, y2'.trans h6⟩⟩
  · rw [ve, f0]; rfl
  · rw [ve, f0]; rfl
  · rw [ve, f0]; rfl
  · rw [ve, f0]; rfl
  · rw [ve]; exact s4 4 _ rfl rfl k
  · rw [pe, ← eo3]; rfl
  · rw [pe, ← eo4]; rfl
  · rw [pe]; exact p8
  · rw [pe, ← eo5]; rfl
  · rw [← eo5]; exact i2
  · rw [u3'.1]; exact g3
  · rw [u3'.2]; exact g4
  · rw [r3'.1]; exact h3
  · rw [r3'.2]; exact h4
/-- a Trial -/
theorem new7 (hf : frs z T) {o U l s : Nat} (hn : nwH o z T L V P 57 0 z1 T1 L1 V1 P1) (hl : T l = 3) (hs : T s = 6) (hU : 20 ≤ U) {post : Nat → (Nat → Nat) → (Nat → Nat) → w_V → w_P → Prop}
    (kk : ∀ (T' L' : Nat → Nat) (V' : w_V) (P' : w_P), ext z T L V P (z + 10) T' L' V' P' → T' o = 7 → P' o 0 = some l → P' o 1 = some s → post (z + 10) T' L' V' P') : wFX7_init ad U z1 T1 L1 V1 P1 o l s post := by
  obtain ⟨m0, eo, v0, p0⟩ := mkg.b (c := 6) hf hn
  have ez : z1 = z + 1 := hn.2.1
  subst eo
  have hbo : T o = 0 := hf.z0 (Nat.le_refl _)
  unfold wFX7_init
  refine ⟨U - 2, by omega, fun o1 y1 S1 K1 W1 Q1 n1 => ?_⟩
  obtain ⟨m1, v1, p1⟩ := m0.arr (j := 2) n1 (by decide) rfl (by decide)
  refine ⟨m1.2.2.2.2.1, (m1.1.2.2 l (ne0 hl)).1.trans hl, (m1.1.2.2 s (ne0 hs)).1.trans hs, fun R1 e1 => ?_⟩
  subst e1
  refine ⟨U - 4, by omega, fun o2 y2 S2 K2 W2 Q2 n2 => ?_⟩
  obtain ⟨m2, v2, p2⟩ := m1.arr (j := 3) n2 (by decide) rfl (by decide)
  refine ⟨m2.2.2.2.2.1, (m2.1.2.2 l (ne0 hl)).1.trans hl, (m2.1.2.2 s (ne0 hs)).1.trans hs, fun R2 e2 => ?_⟩
  subst e2
  refine ⟨U - 5, by omega, fun o3 y3 S3 K3 W3 Q3 n3 => ?_⟩
  obtain ⟨m3, v3, p3⟩ := m2.arr (j := 4) n3 (by decide) rfl (by decide)
  refine ⟨m3.2.2.2.2.1, (m3.1.2.2 l (ne0 hl)).1.trans hl, (m3.1.2.2 s (ne0 hs)).1.trans hs, fun R3 e3 => ?_⟩
  subst e3
  refine ⟨U - 6, by omega, fun o4 y4 S4 K4 W4 Q4 n4 => ?_⟩
  obtain ⟨m4, v4, p4⟩ := m3.arr (j := 5) n4 (by decide) rfl (by decide)
  refine ⟨m4.2.2.2.2.1, (m4.1.2.2 l (ne0 hl)).1.trans hl, (m4.1.2.2 s (ne0 hs)).1.trans hs, fun R4 e4 => ?_⟩
  subst e4
  refine ⟨U - 7, by omega, fun o5 y5 S5 K5 W5 Q5 n5 => ?_⟩
  obtain ⟨m5, v5, p5⟩ := m4.arr (j := 6) n5 (by decide) rfl (by decide)
  refine ⟨m5.2.2.2.2.1, (m5.1.2.2 l (ne0 hl)).1.trans hl, (m5.1.2.2 s (ne0 hs)).1.trans hs, fun R5 e5 => ?_⟩
  subst e5
  refine ⟨U - 8, by omega, fun o6 y6 S6 K6 W6 Q6 n6 => ?_⟩
  obtain ⟨m6, v6, p6⟩ := m5.arr (j := 7) n6 (by decide) rfl (by decide)
  refine ⟨m6.2.2.2.2.1, (m6.1.2.2 l (ne0 hl)).1.trans hl, (m6.1.2.2 s (ne0 hs)).1.trans hs, fun R6 e6 => ?_⟩
  subst e6
  refine ⟨U - 9, by omega, fun o7 y7 S7 K7 W7 Q7 n7 => ?_⟩
  obtain ⟨m7, v7, p7⟩ := m6.arr (j := 8) n7 (by decide) rfl (by decide)
  refine ⟨m7.2.2.2.2.1, (m7.1.2.2 l (ne0 hl)).1.trans hl, (m7.1.2.2 s (ne0 hs)).1.trans hs, fun R7 e7 => ?_⟩
  subst e7
  refine ⟨U - 10, by omega, fun o8 y8 S8 K8 W8 Q8 n8 => ?_⟩
  obtain ⟨m8, v8, p8⟩ := m7.arr (j := 9) n8 (by decide) rfl (by decide)
  refine ⟨m8.2.2.2.2.1, (m8.1.2.2 l (ne0 hl)).1.trans hl, (m8.1.2.2 s (ne0 hs)).1.trans hs, fun R8 e8 => ?_⟩
  subst e8
  refine ⟨U - 11, by omega, fun o9 y9 S9 K9 W9 Q9 n9 => ?_⟩
  obtain ⟨m9, v9, p9⟩ := m8.arr (j := 10) n9 (by decide) rfl (by decide)
  refine ⟨m9.2.2.2.2.1, (m9.1.2.2 l (ne0 hl)).1.trans hl, (m9.1.2.2 s (ne0 hs)).1.trans hs, fun R9 e9 => ?_⟩
  subst e9
  refine m9.seal (by decide) (fun T9 V9 s1 s2 s3 s4 s5 s6 => ?_)
  have ey : y9 = o + 10 := by have := m9.2.1; omega
  rw [ey] at s1 ⊢
  refine ⟨(s1.2.2 l (ne0 hl)).1.trans hl, (s1.2.2 s (ne0 hs)).1.trans hs, fun R10 e10 R11 e11 => ?_⟩
  have E1 : ext o T L V P (o + 10) T9 K9 V9 R10 := by rw [e10]; exact ext.put2 (B := (o, T, L, V, P)) s1 hbo
  have E2 : ext o T L V P (o + 10) T9 K9 V9 R11 := by rw [e11]; exact ext.put2 (B := (o, T, L, V, P)) E1 hbo
  refine kk _ _ _ _ E2 s2 ?_ ?_
  · rw [e11, up2_a, if_neg (by decide), e10, up2_a, if_pos rfl]
  · rw [e11, up2_a, if_pos rfl]
/-- a state begins as the land says -/
theorem sX6_beg {b l jl ja : Nat} {D : MS} (hJ : nJ D ≤ 5) (hl : jdL T L V P l jl ja D) (h3 : V l 0 3 = D 4 1) (nb : ∀ a, (T a = 13 ∨ T a = 14 ∨ T a = 15 ∨ T a = 16 ∨ T a = 3) → a ≠ b) (hTl : T l = 3) {post : w_V → Prop}
    (kk : ∀ V', (∀ a, a ≠ b → V' a = V a) → (∀ j, j < nJ D → V' b 1 j = D 7 j) → V' b 0 4 = D 4 1 → (∀ j, 5 ≤ j → j < 11 → V' b 0 j = 0) → V' b 0 11 = -1 → (∀ k, 2 ≤ k → V' b k = V b k) → post V') : wX6_begins ad T L V P b l post := by
  obtain ⟨h1, h2, h4⟩ := hl
  have nlb : l ≠ b := nb l (by simp [hTl])
  have njl : jl ≠ b := nb jl (by simp [h2.1])
  unfold wX6_begins
  refine loop0 (F := fun n i s => lX6_begins_2 ad T L P b l post _ n i s) (nJ D) (fun k s => (∀ a, a ≠ b → s a = V a) ∧ (∀ j, j < k → s b 1 j = D 7 j) ∧ ∀ k, k ≠ 1 → s b k = V b k) V ⟨fun _ _ => rfl, fun j hj => absurd hj (by omega), fun _ _ => rfl⟩ (fun n k s hk hs kk1 => ?_)
  try dsimp only at kk1 ⊢
  unfold lX6_begins_2
  obtain ⟨f1, f2, f3⟩ := hs
  have hL2 : lstR T L s P jl ja (nJ D) := ⟨h2.1, by rw [f1 jl njl]; exact h2.2.1, h2.2.2⟩
  refine ⟨jl, h1, h2.1, ?_⟩
  unfold wJ2_size
  rw [hL2.2.1]
  dsimp only
  by_cases e : k < nJ D
  · rw [if_neg (nI_ge e (by omega))]
    refine ⟨jl, h1, h2.1, ?_⟩
    obtain ⟨a, a1, a2, a3⟩ := h4 k e
    refine sJ2_get hL2 e (by omega) a1 ?_
    have ha : T a = 13 ∨ T a = 14 ∨ T a = 15 := by
      rcases a2.1 with ⟨-, q⟩ | ⟨-, q⟩ | ⟨-, q⟩
      · exact Or.inl q
      · exact Or.inr (Or.inl q)
      · exact Or.inr (Or.inr q)
    have nab : a ≠ b := nb a (by rcases ha with q | q | q <;> simp [q])
    refine ⟨ha, k, by omega, rfl, fun V17 e17 => ?_⟩
    rw [nI_1 k]
    refine kk1 V17 e ⟨fun x hx => by rw [e17, up3_n hx]; exact f1 x hx, fun j hj => ?_, fun q hq => ?_⟩
    · rw [e17, up3_a]
      by_cases ej : j = k
      · subst ej
        rw [s2_s, f1 a nab]; exact a3
      · rw [s2_i ej]; exact f2 j (by omega)
    · rw [e17, up3_a, s2_rowN hq]; exact f3 q hq
  · have ek : k = nJ D := by omega
    subst ek
    rw [if_pos (nI_le (Nat.le_refl _) (by omega))]
    intro W1 w1 W2 w2 W3 w3 W4 w4 W5 w5 W6 w6 W7 w7 W8 w8
    have e8 : W8 b = s2 (s2 (s2 (s2 (s2 (s2 (s2 (s2 (s b) 0 4 (s l 0 3)) 0 5 0) 0 6 0) 0 7 0) 0 8 0) 0 9 0) 0 10 0) 0 11 (-1) := by
      rw [w8, up3_a, w7, up3_a, w6, up3_a, w5, up3_a, w4, up3_a, w3, up3_a, w2, up3_a, w1, up3_a]
    have eR : ∀ k, k ≠ 0 → W8 b k = s b k := fun k hk => by
      rw [e8, s2_rowN hk, s2_rowN hk, s2_rowN hk, s2_rowN hk, s2_rowN hk, s2_rowN hk, s2_rowN hk, s2_rowN hk]
    refine kk W8 (fun a ha => by rw [w8, up3_n ha, w7, up3_n ha, w6, up3_n ha, w5, up3_n ha, w4, up3_n ha, w3, up3_n ha, w2, up3_n ha, w1, up3_n ha]; exact f1 a ha) (fun j hj => by rw [eR 1 (by decide)]; exact f2 j hj) ?_ (fun j h1 h2 => ?_) ?_ (fun k hk => by rw [eR k (by omega)]; exact f3 k (by omega))
    · rw [e8, s2_i (by decide), s2_i (by decide), s2_i (by decide), s2_i (by decide), s2_i (by decide), s2_i (by decide), s2_i (by decide), s2_s, f1 l nlb]; exact h3
    · rw [e8]
      have hj : j = 5 ∨ j = 6 ∨ j = 7 ∨ j = 8 ∨ j = 9 ∨ j = 10 := by omega
      rcases hj with e | e | e | e | e | e <;> subst e <;> rfl
    · rw [e8, s2_s]
/-- a Reader, at its first token -/
theorem new9 {b : Nat → Nat} {n tx ax kx : Nat} (hA : hAd ad) (ht : tOk b n) (hf : frs z T) {o U : Nat} (hn : nwH o z T L V P 58 0 z1 T1 L1 V1 P1) (hh : hArr T L tx ax kx 600 1) (hT : T ax = 2) (hb : ∀ i, i < n → V ax kx i &&& 255 = nI (b i)) (hU : 20 ≤ U) {post : Nat → (Nat → Nat) → (Nat → Nat) → w_V → w_P → Prop}
    (kk : ∀ (z' : Nat) (T' L' : Nat → Nat) (V' : w_V) (P' : w_P), ext z T L V P z' T' L' V' P' → rdX ad b n T' L' V' P' o tx ax kx (tSkp b n 0) → V' o 9 0 = 0 → V' o 9 1 = 0 → post z' T' L' V' P') : wFX9_init ad U z1 T1 L1 V1 P1 o tx ax kx 600 (nI n) post := by
  obtain ⟨m0, eo, v0, p0⟩ := mkg.b (c := 7) hf hn
  have ez : z1 = z + 1 := hn.2.1
  subst eo
  have hbo : T o = 0 := hf.z0 (Nat.le_refl _)
  have nax : ax ≠ o := fun e => by rw [e, hbo] at hT; cases hT
  unfold wFX9_init
  intro s1 hs1 P3 e3
  have m0' := m0.put (V1 := V1) (P1 := P3) (fun a ha => ⟨rfl, by rw [e3, up2_n ha]⟩) (fun j hj => absurd hj List.not_mem_nil)
  refine ⟨U - 1, by omega, fun o1 y1 T2 L2 V2 P2 n1 => ?_⟩
  obtain ⟨m1, v1, p1⟩ := m0'.arr (j := 8) n1 (by decide) rfl (by decide)
  have x2 := m1.1.2.2 ax (ne0 hT)
  refine ⟨m1.2.2.2.2.1, hh.x x2.1 x2.2.1, fun P4 e4 => ?_⟩
  subst e4
  refine m1.seal (by decide) (fun T4 V4 s1 s2 s3 s4 s5 s6 => ?_)
  have x4 := s1.2.2 ax (ne0 hT)
  refine ⟨hh.x x4.1 x4.2.1, fun P5 e5 V5 e6 => ⟨U - 1, 0, by omega, ?_⟩⟩
  have E5 : ext o T L V P y1 T4 L2 V5 P5 := s1.put hbo (fun a ha => ⟨by rw [e6, up3_n ha], by rw [e5, up2_n ha]⟩)
  have x5 := E5.2.2 ax (ne0 hT)
  refine sX_go (q := 0) hA ht E5.1 ⟨s2, ?_, ?_, hh.x x5.1 x5.2.1, x5.1.trans hT, fun i hi => ?_⟩ ?_ (Nat.zero_le _) (by omega) (fun z' T' L' V' P' g1 g2 => ?_)
  · rw [e6, up3_a, s2_s]
  · rw [e5, up2_a, if_pos rfl]
  · rw [x5.2.2.1]; exact hb i hi
  · rw [e6, up3_a, s2_i (by decide), s3, v1, v0]; rfl
  · refine kk z' T' L' V' P' ⟨g1.1, Nat.le_trans E5.2.1 g1.2.1, fun a ha => ?_⟩ g2 ?_ ?_
    · have q := E5.2.2 a ha
      have hao : a ≠ o := fun e => ha (by rw [e]; exact hbo)
      obtain ⟨q1, q2, q3⟩ := g1.2.2.1 a (by rw [q.1]; exact ha)
      obtain ⟨q4, q5⟩ := q3 hao
      exact ⟨q1.trans q.1, q2.trans q.2.1, q4.trans q.2.2.1, q5.trans q.2.2.2⟩
    · rw [g1.2.2.2, e6, up3_a, s2_rowN (by decide)]; exact s4 8 _ rfl rfl 0
    · rw [g1.2.2.2, e6, up3_a, s2_rowN (by decide)]; exact s4 8 _ rfl rfl 1
end NN
