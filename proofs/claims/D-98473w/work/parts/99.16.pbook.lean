/-! PURE: a new list, a new book -/
set_option maxRecDepth 100000
section NB
variable {ad : Nat → Nat} {z : Nat} {T L : Nat → Nat} {V : w_V} {P : w_P} {z1 : Nat} {T1 L1 : Nat → Nat} {V1 : w_V} {P1 : w_P}
theorem new16 (hf : frs z T) {o U N : Nat} (hn : nwH o z T L V P 16 0 z1 T1 L1 V1 P1) (h0 : 0 < N) (hN : N ≤ 40) (hU : 2 ≤ U) {post : Nat → (Nat → Nat) → (Nat → Nat) → w_V → w_P → Prop}
    (kk : ∀ (T' L' : Nat → Nat) (V' : w_V) (P' : w_P), ext z T L V P (z + 2) T' L' V' P' → T' o = 16 → V' o 0 2 = 0 → P' o 1 = some (z + 1) → T' (z + 1) = 2004 → L' (z + 1) = N → post (z + 2) T' L' V' P') : wFJ2_init ad U z1 T1 L1 V1 P1 o (nI N) post := by
  obtain ⟨e1, n1, n2, n3, n4, n5⟩ := ext.nw hf hn
  have eo : o = z := hn.1
  have ez : z1 = z + 1 := hn.2.1
  unfold wFJ2_init
  refine ⟨0, U, (Nat.zero_add U).symm, ?_⟩
  unfold wFJ1_init
  refine ⟨0, 0, rfl, ?_⟩
  unfold wFJ0_init
  refine ⟨n2, fun V9 e9 => ⟨n2, ?_⟩⟩
  rw [if_neg (nI_nle h0 (by omega))]
  refine ⟨N, 2, U - 2, rfl, by omega, by decide, by omega, by omega, fun o2 y T2 L2 V2 P2 h2 => ?_⟩
  have e1' := e1.put (V2 := V9) (P2 := P1) n1 (fun a ha => ⟨by rw [e9, up3_n ha], rfl⟩)
  obtain ⟨e2, m1, m2, m3, m4, m5⟩ := ext.nw e1'.1 h2
  have eo2 : o2 = z1 := h2.1
  have ey : y = z + 2 := by have := h2.2.1; omega
  obtain ⟨a1, a2, a3, a4⟩ := e2.2.2 o (ne0 n2)
  refine ⟨a1.trans n2, fun P3 e3 => ?_⟩
  have hoo : o2 ≠ o := by omega
  have e4 := (e1'.tr e2).put (V2 := V2) (P2 := P3) n1 (fun a ha => ⟨rfl, by rw [e3, up2_n ha]⟩)
  rw [ey] at e4 ⊢
  refine kk _ _ _ _ e4 (a1.trans n2) ?_ ?_ ?_ ?_
  · rw [a3, e9, up3_a, s2_i (by decide), n4]
  · rw [e3, up2_a, if_pos rfl, eo2, ez]
  · rw [← ez, ← eo2]; exact m2
  · rw [← ez, ← eo2]; exact m3
/-- a list with room takes one more -/
theorem sX_add1 {U l ar m a : Nat} (h1 : T l = 16) (h2 : V l 0 2 = nI m) (h3 : P l 1 = some ar) (h4 : T ar = 2004) (hL : L ar = 40) (hm : m < 40) (ha : oT T a) {post : Int32 → Nat → (Nat → Nat) → (Nat → Nat) → w_V → w_P → Prop}
    (k : ∀ (V' : w_V), (∀ b, b ≠ l → V' b = V b) → V' l 0 2 = nI (m + 1) → post 1 z T L V' (up2 P ar m (some a))) : wFJ2_add ad U z T L V P l a post := by
  unfold wFJ2_add
  intro V1 e1
  have v2 : V1 l 0 2 = nI m := by rw [e1, up3_a, s2_i (by decide)]; exact h2
  have v1 : ∀ b, b ≠ l → V1 b = V b := fun b hb => by rw [e1, up3_n hb]
  refine ⟨ar, h3, h4, U, 0, rfl, ?_⟩
  rw [v2]
  unfold wFJ2_add_2
  rw [hL, if_neg (fun q => by have := (nI_eq (by omega) (by omega)).mp q; omega)]
  unfold jFJ2_add_2_11
  refine ⟨m, by omega, by omega, rfl, ha, fun P6 e6 V7 e7 => ?_⟩
  rw [e6]
  refine k V7 (fun b hb => by rw [e7, up3_n hb, v1 b hb]) ?_
  rw [e7, up3_a, s2_s, nI_1]
def zer (V : w_V) (a : Nat) : Prop := ∀ k i, k < 5 → V a k i = 0
/-- a new book at t, i states in its list -/
def bk5 (i t : Nat) (T L : Nat → Nat) (V : w_V) (P : w_P) : Prop := (T t = 5 ∧ P t 0 = some (t + 1) ∧ P t 1 = some (t + 6) ∧ ∀ k j, k < 7 → V t k j = 0) ∧ (T (t + 1) = 6 ∧ zer V (t + 1)) ∧ (T (t + 6) = 16 ∧ V (t + 6) 0 2 = nI i ∧ P (t + 6) 1 = some (t + 7)) ∧ (T (t + 7) = 2004 ∧ L (t + 7) = 40) ∧ ∀ k, k < i → P (t + 7) k = some (t + 12 + 5 * k) ∧ T (t + 12 + 5 * k) = 6 ∧ zer V (t + 12 + 5 * k)
theorem bk5.x {i t : Nat} (h : bk5 i t T L V P) (hx : xt T L V P T1 L1 V1 P1) : bk5 i t T1 L1 V1 P1 := by
  obtain ⟨⟨a1, a2, a3, a4⟩, ⟨b1, b2'⟩, ⟨c1, c2, c3⟩, ⟨d1, d2⟩, e⟩ := h
  obtain ⟨t1, t2, t3, t4⟩ := hx t (ne0 a1)
  obtain ⟨u1, u2, u3, u4⟩ := hx _ (ne0 b1)
  obtain ⟨v1, v2, v3, v4⟩ := hx _ (ne0 c1)
  obtain ⟨w1, w2, w3, w4⟩ := hx _ (ne0 d1)
  refine ⟨⟨t1.trans a1, by rw [t4]; exact a2, by rw [t4]; exact a3, fun k j hk => by rw [t3]; exact a4 k j hk⟩, ⟨u1.trans b1, fun k j hk => by rw [u3]; exact b2' k j hk⟩, ⟨v1.trans c1, by rw [v3]; exact c2, by rw [v4]; exact c3⟩, ⟨w1.trans d1, w2.trans d2⟩, fun k hk => ?_⟩
  obtain ⟨e1, e2, e3⟩ := e k hk
  obtain ⟨x1, x2, x3, x4⟩ := hx _ (ne0 e2)
  exact ⟨by rw [w4]; exact e1, x1.trans e2, fun q j hq => by rw [x3]; exact e3 q j hq⟩
theorem lX5 {B : hpT} {t : Nat} {post : Nat → (Nat → Nat) → (Nat → Nat) → w_V → w_P → Prop} (hB0 : ∀ a, t ≤ a → B.2.1 a = 0)
    (kk : ∀ (T' L' : Nat → Nat) (V' : w_V) (P' : w_P), ext B.1 B.2.1 B.2.2.1 B.2.2.2.1 B.2.2.2.2 (t + 212) T' L' V' P' → bk5 40 t T' L' V' P' → post (t + 212) T' L' V' P') : ∀ (m i U : Nat) (T L : Nat → Nat) (V : w_V) (P : w_P), i + m = 40 → 5 * m ≤ U → ext B.1 B.2.1 B.2.2.1 B.2.2.2.1 B.2.2.2.2 (t + 12 + 5 * i) T L V P → bk5 i t T L V P → lFX5_init_61 ad t post (m + 1) U (t + 12 + 5 * i) T L V P (nI i) := by
  intro m
  induction m with
  | zero =>
    intro i U T L V P hi hU he hb
    have e : i = 40 := by omega
    subst e
    unfold lFX5_init_61
    rw [if_pos (by decide)]
    exact kk T L V P he hb
  | succ m ih =>
    intro i U T L V P hi hU he hb
    obtain ⟨⟨a1, a2, a3, a4⟩, ⟨b1, b2'⟩, ⟨c1, c2, c3⟩, ⟨d1, d2⟩, e⟩ := id hb
    unfold lFX5_init_61
    rw [if_neg (show ¬ (40 : Int32) ≤ nI i from nI_ge (b := 40) (by omega) (by decide))]
    refine ⟨t + 6, a3, c1, U - 1, by omega, fun o y T1 L1 V1 P1 h1 => ?_⟩
    obtain ⟨x1, x2, x3, -, -, -⟩ := ext.nw he.1 h1
    have eo : o = t + 12 + 5 * i := h1.1
    refine ⟨(x1.2.2 _ (ne0 c1)).1.trans c1, (x1.2.2 _ (ne0 a1)).1.trans a1, 4, U - 5, by omega, ?_⟩
    refine new6 he.1 h1 (Nat.le_refl _) (fun T' L' V' P' y1 y2 y3 => ?_)
    have hb' := hb.x y1.2.2
    obtain ⟨⟨A1, A2, A3, A4⟩, ⟨B1, B2⟩, ⟨C1, C2, C3⟩, ⟨D1, D2⟩, E1⟩ := id hb'
    refine ⟨y2, C1, A1, 0, U - 5, (Nat.zero_add _).symm, ?_⟩
    refine sX_add1 (a := o) C1 C2 C3 D1 D2 (by omega) (by unfold oT; rw [y2]; simp) (fun V9 f1 f2 => ⟨A1, ?_⟩)
    rw [nI_1, show t + 12 + 5 * i + 5 = t + 12 + 5 * (i + 1) by omega]
    have e9 : ext B.1 B.2.1 B.2.2.1 B.2.2.2.1 B.2.2.2.2 (t + 12 + 5 * (i + 1)) T' L' V9 (up2 P' (t + 7) i (some o)) := by
      have q := he.tr y1
      rw [show t + 12 + 5 * i + 5 = t + 12 + 5 * (i + 1) by omega] at q
      have q2 := q.put (V2 := V9) (P2 := P') (hB0 (t + 6) (by omega)) (fun a ha => ⟨f1 a ha, rfl⟩)
      exact q2.put (hB0 (t + 7) (by omega)) (fun a ha => ⟨rfl, up2_n ha⟩)
    refine ih (i + 1) (U - 5) T' L' V9 _ (by omega) (by omega) e9 ⟨⟨A1, ?_, ?_, fun k j hk => ?_⟩, ⟨B1, fun k j hk => ?_⟩, ⟨C1, f2, ?_⟩, ⟨D1, D2⟩, fun k hk => ?_⟩
    · rw [up2_n (by omega)]; exact A2
    · rw [up2_n (by omega)]; exact A3
    · rw [f1 t (by omega)]; exact A4 k j hk
    · rw [f1 (t + 1) (by omega)]; exact B2 k j hk
    · rw [up2_n (by omega)]; exact C3
    · rw [up2_a]
      by_cases e : k = i
      · subst e
        rw [if_pos rfl, eo]
        rw [eo] at y2 y3
        exact ⟨rfl, y2, fun q j hq => by rw [f1 _ (by omega)]; exact y3 q j hq⟩
      · rw [if_neg e]
        obtain ⟨E2, E3, E4⟩ := E1 k (by omega)
        exact ⟨E2, E3, fun q j hq => by rw [f1 _ (by omega)]; exact E4 q j hq⟩
theorem kfr.tr {X : Nat → Prop} {T2 L2 : Nat → Nat} {V2 : w_V} {P2 : w_P} (h : kfr X T L V P T1 L1 V1 P1) (h2 : kfr X T1 L1 V1 P1 T2 L2 V2 P2) : kfr X T L V P T2 L2 V2 P2 := fun a ha => by
  obtain ⟨a1, a2, a3⟩ := h a ha
  obtain ⟨b1, b2', b3⟩ := h2 a (by rw [a1]; exact ha)
  exact ⟨b1.trans a1, b2'.trans a2, fun q => ⟨(b3 q).1.trans (a3 q).1, (b3 q).2.trans (a3 q).2⟩⟩
theorem mkg.arrk (hf : frs z T) {t o ty l j : Nat} {x : Option Nat} (hn : nwH o z T L V P ty l z1 T1 L1 V1 P1) : kfr (fun a => a = t) T L V P T1 L1 V1 (up2 P1 t j x) := fun a ha => by
  obtain ⟨e1, -⟩ := ext.nw hf hn
  obtain ⟨a1, a2, a3, a4⟩ := e1.2.2 a ha
  exact ⟨a1, a2, fun q => ⟨a3, by rw [up2_n q]; exact a4⟩⟩
theorem new5 (hf : frs z T) {o U : Nat} (hn : nwH o z T L V P 55 0 z1 T1 L1 V1 P1) (hU : 220 ≤ U) {post : Nat → (Nat → Nat) → (Nat → Nat) → w_V → w_P → Prop}
    (kk : ∀ (T' L' : Nat → Nat) (V' : w_V) (P' : w_P), ext z T L V P (z + 212) T' L' V' P' → bk5 40 o T' L' V' P' → post (z + 212) T' L' V' P') : wFX5_init ad U z1 T1 L1 V1 P1 o post := by
  obtain ⟨m0, eo, v0, p0⟩ := mkg.b (c := 4) hf hn
  have ez : z1 = z + 1 := hn.2.1
  subst eo
  unfold wFX5_init
  refine ⟨U - 1, by omega, fun o1 y1 T2 L2 V2 P2 n1 => ?_⟩
  have eo1 : o1 = z1 := n1.1
  obtain ⟨x1, -, -, -, -, -⟩ := ext.nw m0.1.1 n1
  refine ⟨(m0.grow x1 (k1 := 1) (by have := n1.2.1; omega)).1.2.2.2.2.1, 4, U - 5, by omega, ?_⟩
  refine new6 m0.1.1 n1 (Nat.le_refl _) (fun T3 L3 V3 P3 g1 g2 g3 => ?_)
  obtain ⟨m1, v1, p1⟩ := m0.grow g1 (k1 := 5) (by omega)
  refine ⟨g2, m1.2.2.2.2.1, fun P4 e4 => ⟨U - 6, by omega, fun o2 y2 T4 L4 V4 P5 n2 => ?_⟩⟩
  have m2 := m1.put (V1 := V3) (P1 := P4) (fun a ha => ⟨rfl, by rw [e4, up2_n ha]⟩) (fun j hj => absurd hj List.not_mem_nil)
  have q0 : P4 o 0 = some o1 := by rw [e4, up2_a, if_pos rfl]
  have eo2 : o2 = z1 + 5 := n2.1
  obtain ⟨x2, -, -, -, -, -⟩ := ext.nw m2.1.1 n2
  refine ⟨(m2.grow x2 (k1 := 6) (by have := n2.2.1; omega)).1.2.2.2.2.1, 2, U - 8, by omega, ?_⟩
  refine new16 (N := 40) m2.1.1 n2 (by decide) (by decide) (Nat.le_refl _) (fun T5 L5 V5 P6 h1 h2 h3 h4 h5 h6 => ?_)
  obtain ⟨m3, v3, p3⟩ := m2.grow h1 (k1 := 7) (by omega)
  refine ⟨h2, m3.2.2.2.2.1, fun P7 e7 => ⟨U - 9, by omega, fun o3 y3 T6 L6 V6 P8 n3 => ?_⟩⟩
  have m4 := m3.put (V1 := V5) (P1 := P7) (fun a ha => ⟨rfl, by rw [e7, up2_n ha]⟩) (fun j hj => absurd hj List.not_mem_nil)
  have q1 : P7 o 1 = some o2 := by rw [e7, up2_a, if_pos rfl]
  have q0' : P7 o 0 = some o1 := by rw [e7, up2_a, if_neg (by decide), p3, q0]
  obtain ⟨m5, v5, p5⟩ := m4.arr (j := 2) n3 (by decide) rfl (by decide)
  refine ⟨(m4.grow (ext.nw m4.1.1 n3).1 (k1 := 8) (by have := n3.2.1; omega)).1.2.2.2.2.1, fun P9 e9 => ?_⟩
  subst e9
  refine ⟨U - 10, by omega, fun o4 y4 T7 L7 V7 P10 n4 => ?_⟩
  obtain ⟨m6, v6, p6⟩ := m5.arr (j := 3) n4 (by decide) rfl (by decide)
  refine ⟨m6.2.2.2.2.1, fun P11 e11 => ?_⟩
  subst e11
  refine ⟨U - 11, by omega, fun o5 y5 T8 L8 V8 P12 n5 => ?_⟩
  obtain ⟨m7, v7, p7⟩ := m6.arr (j := 4) n5 (by decide) rfl (by decide)
  refine ⟨m7.2.2.2.2.1, fun P13 e13 => ?_⟩
  subst e13
  refine ⟨U - 12, by omega, fun o6 y6 T9 L9 V9 P14 n6 => ?_⟩
  obtain ⟨m8, v8, p8⟩ := m7.arr (j := 5) n6 (by decide) rfl (by decide)
  refine ⟨m8.2.2.2.2.1, fun P15 e15 => ?_⟩
  subst e15
  have k1 : kfr (fun a => a = o) T5 L5 V5 P7 T9 L9 V9 (up2 P14 o 5 (some o6)) := (((mkg.arrk m4.1.1 n3).tr (mkg.arrk m5.1.1 n4)).tr (mkg.arrk m6.1.1 n5)).tr (mkg.arrk m7.1.1 n6)
  have b1 : T5 o1 = 6 ∧ zer V5 o1 ∧ o1 ≠ o ∧ P7 o1 = P3 o1 := by
    obtain ⟨w1, w2, w3, w4⟩ := h1.2.2 o1 (ne0 g2)
    have ho : o1 ≠ o := by omega
    refine ⟨w1.trans g2, fun k i hk => by rw [w3]; exact g3 k i hk, ho, ?_⟩
    rw [e7, up2_n ho, w4, e4, up2_n ho]
  have ho2 : o2 ≠ o := by omega
  have ho3 : z1 + 5 + 1 ≠ o := by omega
  obtain ⟨i1, -, i3⟩ := k1 o1 (ne0 b1.1)
  obtain ⟨j1, -, j3⟩ := k1 o2 (ne0 h2)
  obtain ⟨u1, u2, u3⟩ := k1 (z1 + 5 + 1) (ne0 h5)
  have j5 := j3 ho2
  have eo3 : o2 = o + 6 := by omega
  have eo4 : z1 + 5 + 1 = o + 7 := by omega
  have eo5 : o1 = o + 1 := by omega
  have zero : ∀ i, V9 o 0 i = 0 := fun i => by rw [v8, v7, v6, v5, v3, v1, v0]
  have zr : V9 o = fun _ _ => 0 := by rw [v8, v7, v6, v5, v3, v1, v0]
  refine m8.seal (by decide) (fun T10 V10 s1 s2 s3 s4 s5 s6 => ?_)
  obtain ⟨s7, s8⟩ := s6 o1 b1.2.2.1 (by rw [i1, b1.1]; decide) (by rw [i1, b1.1]; decide)
  obtain ⟨s9, s10⟩ := s6 o2 ho2 (by rw [j1, h2]; decide) (by rw [j1, h2]; decide)
  obtain ⟨s11, s12⟩ := s6 (z1 + 5 + 1) ho3 (by rw [u1, h5]; decide) (by rw [u1, h5]; decide)
  have ey : y6 = o + 12 := by have := m8.2.1; omega
  rw [ey] at s1 ⊢
  have q0'' : ∀ j, j < 2 → up2 (P14) o 5 (some o6) o j = P7 o j := fun j hj => by
    rw [p8 j (by omega), p7 j (by omega), p6 j (by omega), p5 j (by omega)]
  refine ⟨41, lX5 (B := (o, T, L, V, P)) (t := o) (fun a ha => hf.z0 ha) kk 40 0 (U - 12) T10 L9 V10 _ (by omega) (by omega) s1 ⟨⟨s2, ?_, ?_, ?_⟩, ⟨?_, ?_⟩, ⟨?_, ?_, ?_⟩, ⟨?_, ?_⟩, fun k hk => absurd hk (by omega)⟩⟩
  · rw [q0'' 0 (by decide), q0', eo5]
  · rw [q0'' 1 (by decide), q1, eo3]
  · intro k j hk
    have hk' : k = 0 ∨ k = 1 ∨ k = 2 ∨ k = 3 ∨ k = 4 ∨ k = 5 ∨ k = 6 := by omega
    rcases hk' with e | e | e | e | e | e | e <;> subst e
    · rw [s3]; exact zero j
    · rw [s5 0 fR rfl (by decide), zr]
    · rw [s5 1 fR rfl (by decide), zr]
    · exact s4 2 _ rfl rfl j
    · exact s4 3 _ rfl rfl j
    · exact s4 4 _ rfl rfl j
    · exact s4 5 _ rfl rfl j
  · rw [← eo5, s7, i1]; exact b1.1
  · intro k i hk
    rw [← eo5, s8, (i3 b1.2.2.1).1]; exact b1.2.1 k i hk
  · rw [← eo3, s9, j1]; exact h2
  · rw [← eo3, s10, j5.1]; exact h3
  · rw [← eo3, j5.2, e7, up2_n ho2, ← eo4]; exact h4
  · rw [← eo4, s11, u1]; exact h5
  · rw [← eo4, u2]; exact h6
end NB
