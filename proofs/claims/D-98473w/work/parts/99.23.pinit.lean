/-! PURE: the class's box at first -/
set_option maxRecDepth 100000
section IN
variable {ad : Nat → Nat} {z : Nat} {T L : Nat → Nat} {V : w_V} {P : w_P} {z1 : Nat} {T1 L1 : Nat → Nat} {V1 : w_V} {P1 : w_P} {t : Nat}
/-- all stands but t and the int arrays -/
def kfs (t : Nat) (T L : Nat → Nat) (V : w_V) (P : w_P) (T' L' : Nat → Nat) (V' : w_V) (P' : w_P) : Prop := ∀ a, T a ≠ 0 → a ≠ t → ¬ (1000 ≤ T a ∧ T a < 1100) → T' a = T a ∧ L' a = L a ∧ V' a = V a ∧ P' a = P a
theorem kfs.tr {T2 L2 : Nat → Nat} {V2 : w_V} {P2 : w_P} (h : kfs t T L V P T1 L1 V1 P1) (h2 : kfs t T1 L1 V1 P1 T2 L2 V2 P2) : kfs t T L V P T2 L2 V2 P2 := fun a ha h0 hn => by
  obtain ⟨a1, a2, a3, a4⟩ := h a ha h0 hn
  obtain ⟨b1, b2', b3, b4⟩ := h2 a (by rw [a1]; exact ha) h0 (by rw [a1]; exact hn)
  exact ⟨b1.trans a1, b2'.trans a2, b3.trans a3, b4.trans a4⟩
theorem kfs.of (h : xt T L V P T1 L1 V1 P1) : kfs t T L V P T1 L1 V1 P1 := fun a ha _ _ => h a ha
theorem kfs.put {P2 : w_P} (h : ∀ a, a ≠ t → P2 a = P a) : kfs t T L V P T L V P2 := fun a _ h0 _ => ⟨rfl, rfl, rfl, h a h0⟩
theorem kfs.at {T' L' : Nat → Nat} {V' : w_V} {P' : w_P} (h : kfs t T L V P T' L' V' P') {a k : Nat} (hT : T a = k + 1) (hk : k < 999 ∨ 1099 ≤ k) (h0 : a ≠ t) : T' a = T a ∧ L' a = L a ∧ V' a = V a ∧ P' a = P a := h a (ne0 hT) h0 (by rw [hT]; omega)
theorem lnd2.s {l : Nat} (h : lnd2 l T L V P) (hx : kfs t T L V P T1 L1 V1 P1) (hl : t < l) : lnd2 l T1 L1 V1 P1 := by
  obtain ⟨⟨a1, a2⟩, b, ⟨c1, c2, c3, c4, c5⟩, ⟨d1, d2, d3, d4, d5⟩, ⟨e1, e2, e3, e4, e5⟩⟩ := h
  obtain ⟨p1, p2, p3, p4⟩ := hx.at a1 (by decide) (by omega)
  obtain ⟨q1, -, -, -⟩ := hx.at c5 (by decide) (by omega)
  obtain ⟨r1, r2, r3, r4⟩ := hx.at d1 (by decide) (by omega)
  obtain ⟨s1, s2, -, -⟩ := hx.at d4 (by decide) (by omega)
  obtain ⟨u1, u2, u3, u4⟩ := hx.at e1 (by decide) (by omega)
  obtain ⟨v1, v2, -, -⟩ := hx.at e4 (by decide) (by omega)
  exact ⟨⟨p1.trans a1, by rw [p3]; exact a2⟩, by rw [p3]; exact b, ⟨by rw [p4]; exact c1, by rw [p4]; exact c2, by rw [p4]; exact c3, by rw [p4]; exact c4, q1.trans c5⟩, ⟨r1.trans d1, by rw [r3]; exact d2, by rw [r4]; exact d3, s1.trans d4, s2.trans d5⟩, ⟨u1.trans e1, by rw [u3]; exact e2, by rw [u4]; exact e3, v1.trans e4, v2.trans e5⟩⟩
theorem bk5.s {i b : Nat} (h : bk5 i b T L V P) (hx : kfs t T L V P T1 L1 V1 P1) (hl : t < b) : bk5 i b T1 L1 V1 P1 := by
  obtain ⟨⟨a1, a2, a3, a4⟩, ⟨b1, b2'⟩, ⟨c1, c2, c3⟩, ⟨d1, d2⟩, e⟩ := h
  obtain ⟨t1, t2, t3, t4⟩ := hx.at a1 (by decide) (by omega)
  obtain ⟨u1, u2, u3, u4⟩ := hx.at b1 (by decide) (by omega)
  obtain ⟨v1, v2, v3, v4⟩ := hx.at c1 (by decide) (by omega)
  obtain ⟨w1, w2, w3, w4⟩ := hx.at d1 (by decide) (by omega)
  refine ⟨⟨t1.trans a1, by rw [t4]; exact a2, by rw [t4]; exact a3, fun k j hk => by rw [t3]; exact a4 k j hk⟩, ⟨u1.trans b1, fun k j hk => by rw [u3]; exact b2' k j hk⟩, ⟨v1.trans c1, by rw [v3]; exact c2, by rw [v4]; exact c3⟩, ⟨w1.trans d1, w2.trans d2⟩, fun k hk => ?_⟩
  obtain ⟨e1, e2, e3⟩ := e k hk
  obtain ⟨x1, x2, x3, x4⟩ := hx.at e2 (by decide) (by omega)
  exact ⟨by rw [w4]; exact e1, x1.trans e2, fun q j hq => by rw [x3]; exact e3 q j hq⟩
/-- the addresses of a box at t -/
def A1 (t : Nat) : Nat → Nat := fun i => if i = 0 then t + 11 else if i = 1 then t + 223 else if i = 2 then t + 12 else if i = 3 then t + 435 else if i = 4 then t + 440 else if i = 5 then t + 1 else if i = 6 then t + 4 else if i = 7 then t + 5 else if i = 8 then t + 6 else if i = 9 then t + 7 else if i = 10 then t + 8 else if i = 11 then t + 17 else if i = 12 then t + 18 else if i = 13 then t + 224 else if i = 14 then t + 229 else if i = 15 then t + 230 else if i < 200 then t + 23 + 5 * (i - 100) else t + 235 + 5 * (i - 200)
theorem A1a {k : Nat} (h : k < 40) : A1 t (100 + k) = t + 23 + 5 * k := by
  unfold A1
  rw [if_neg (by omega), if_neg (by omega), if_neg (by omega), if_neg (by omega), if_neg (by omega), if_neg (by omega), if_neg (by omega), if_neg (by omega), if_neg (by omega), if_neg (by omega), if_neg (by omega), if_neg (by omega), if_neg (by omega), if_neg (by omega), if_neg (by omega), if_neg (by omega), if_pos (by omega)]
  omega
theorem A1b {k : Nat} : A1 t (200 + k) = t + 235 + 5 * k := by
  unfold A1
  rw [if_neg (by omega), if_neg (by omega), if_neg (by omega), if_neg (by omega), if_neg (by omega), if_neg (by omega), if_neg (by omega), if_neg (by omega), if_neg (by omega), if_neg (by omega), if_neg (by omega), if_neg (by omega), if_neg (by omega), if_neg (by omega), if_neg (by omega), if_neg (by omega), if_neg (by omega)]
  omega
/-- a new box at t -/
def box1 (ad : Nat → Nat) (t z : Nat) (T L : Nat → Nat) (V : w_V) (P : w_P) : Prop := frs z T ∧ bxP T L P t (A1 t) ∧ ∀ sg : MS, agD sg D0 → (∀ k, k < 3 → sg 13 k = 0) → (∀ j, j = 14 ∨ (29 ≤ j ∧ j ≤ 34) ∨ j = 54 → sg 0 j = 0) → sg 0 23 = -1 → cR ad T L V P t (A1 t) sg (fun _ => 0)
theorem box1_of {l b1 b2 s tr : Nat} (hz : frs z T) (el : l = t + 1) (eb1 : b1 = t + 11) (eb2 : b2 = t + 223) (es : s = t + 435) (etr : tr = t + 440) (hT : T t = 2) (hp : P t 0 = some l ∧ P t 1 = some b1 ∧ P t 2 = some b2 ∧ P t 3 = some (b1 + 1) ∧ P t 4 = some s ∧ P t 5 = some tr)
    (hl : lnd2 l T L V1 P) (h1 : bk5 40 b1 T L V1 P) (h2 : bk5 40 b2 T L V1 P) (hs : T s = 6) (ht : T tr = 7 ∧ P tr 0 = some l ∧ P tr 1 = some s)
    (hV : ∀ a, a ≠ t → a ≠ l → a ≠ b1 + 1 → V a = V1 a) (hvl : ∀ k, k ≠ 6 → V l k = V1 l k) (hvt : V t 0 6 = 0 ∧ V t 0 8 = 0 ∧ V t 0 9 = -1)
    (hb : V (b1 + 1) 0 4 = 0 ∧ (∀ j, 5 ≤ j → j < 11 → V (b1 + 1) 0 j = 0) ∧ V (b1 + 1) 0 11 = -1) : box1 ad t z T L V P := by
  subst el eb1 eb2 es etr
  obtain ⟨⟨a1, a2, a3, a4⟩, ⟨b1, b2'⟩, ⟨c1, c2, c3⟩, ⟨d1, d2⟩, e⟩ := h1
  obtain ⟨⟨f1, f2, f3, f4⟩, ⟨g1, g2⟩, ⟨i1, i2, i3⟩, ⟨j1, j2⟩, k⟩ := h2
  obtain ⟨⟨l1, l2, l3, l4, l5⟩, m, ⟨n1, n2, n3, n4, n5⟩, ⟨o1, o2, o3, o4, o5⟩, ⟨p1, p2, p3, p4, p5⟩⟩ := hl
  have stA : ∀ i, stI i → T (A1 t i) = 6 := fun i hi => by
    rcases hi with e' | e' | e' | ⟨e1, e2⟩ | ⟨e1, e2⟩
    · subst e'; exact b1
    · subst e'; exact hs
    · subst e'; exact g1
    · obtain ⟨q, rfl⟩ : ∃ q, i = 100 + q := ⟨i - 100, by omega⟩
      rw [A1a (by omega)]; exact (e q (by omega)).2.1
    · obtain ⟨q, rfl⟩ : ∃ q, i = 200 + q := ⟨i - 200, by omega⟩
      rw [A1b]; exact (k q (by omega)).2.1
  have inj : ∀ i j, stI i → stI j → A1 t i = A1 t j → i = j := fun i j hi hj h => by
    have val : ∀ i, stI i → (i = 2 ∧ A1 t i = t + 12) ∨ (i = 3 ∧ A1 t i = t + 435) ∨ (i = 13 ∧ A1 t i = t + 224) ∨ (100 ≤ i ∧ i < 140 ∧ A1 t i = t + 23 + 5 * (i - 100)) ∨ (200 ≤ i ∧ i < 240 ∧ A1 t i = t + 235 + 5 * (i - 200)) := fun i hi => by
      rcases hi with e' | e' | e' | ⟨e1, e2⟩ | ⟨e1, e2⟩
      · exact Or.inl ⟨e', by subst e'; rfl⟩
      · exact Or.inr (Or.inl ⟨e', by subst e'; rfl⟩)
      · exact Or.inr (Or.inr (Or.inl ⟨e', by subst e'; rfl⟩))
      · refine Or.inr (Or.inr (Or.inr (Or.inl ⟨e1, e2, ?_⟩)))
        obtain ⟨q, rfl⟩ : ∃ q, i = 100 + q := ⟨i - 100, by omega⟩
        rw [A1a (by omega), Nat.add_sub_cancel_left]
      · refine Or.inr (Or.inr (Or.inr (Or.inr ⟨e1, e2, ?_⟩)))
        obtain ⟨q, rfl⟩ : ∃ q, i = 200 + q := ⟨i - 200, by omega⟩
        rw [A1b, Nat.add_sub_cancel_left]
    have := val i hi
    have := val j hj
    omega
  refine ⟨hz, ⟨⟨hT, hp.1, hp.2.1, hp.2.2.1, hp.2.2.2.1, hp.2.2.2.2.1, hp.2.2.2.2.2⟩, ⟨a1, a2, a3⟩, ⟨f1, f2, f3⟩, ?_, ⟨ht.1, ht.2.1, ht.2.2⟩, ⟨c1, c3, d1, d2⟩, ⟨i1, i3, j1, j2⟩, ⟨?_, ?_, ?_, ?_, ?_, ?_⟩, fun q hq => ?_, stA, inj⟩, fun sg hag h13 h0 h23 => ?_⟩
  · show t + 11 ≠ t + 223; omega
  · show t + 17 ≠ t + 229; omega
  · show t + 18 ≠ t + 230; omega
  · show t + 17 ≠ t + 4; omega
  · show t + 17 ≠ t + 6; omega
  · show t + 18 ≠ t + 5; omega
  · show t + 18 ≠ t + 7; omega
  · rw [A1a hq, A1b]
    exact ⟨(e q hq).1, (k q hq).1⟩
  · obtain ⟨eT, eJ, eC, eS⟩ := hag.n
    have zT : nT sg = 0 := eT
    have zJ : nJ sg = 0 := eJ
    have zC : nC sg = 0 := eC
    have z14 := h0 14 (Or.inl rfl)
    have z29 := h0 29 (Or.inr (Or.inl (by decide)))
    have z30 := h0 30 (Or.inr (Or.inl (by decide)))
    have z31 := h0 31 (Or.inr (Or.inl (by decide)))
    have z32 := h0 32 (Or.inr (Or.inl (by decide)))
    have z33 := h0 33 (Or.inr (Or.inl (by decide)))
    have z34 := h0 34 (Or.inr (Or.inl (by decide)))
    have z54 := h0 54 (Or.inr (Or.inr rfl))
    have vA : V (t + 11) = V1 (t + 11) := hV _ (by omega) (by omega) (by omega)
    have v11 : V (t + 17) = V1 (t + 17) := hV _ (by omega) (by omega) (by omega)
    have v14 : V (t + 229) = V1 (t + 229) := hV _ (by omega) (by omega) (by omega)
    have v3 : V (t + 4) = V1 (t + 4) := hV _ (by omega) (by omega) (by omega)
    have v5 : V (t + 6) = V1 (t + 6) := hV _ (by omega) (by omega) (by omega)
    have lR : lndR ad T L V P (t + 1) (t + 4) (t + 5) (t + 6) (t + 7) (t + 8) D0 (fun _ => 0) := by
      refine ⟨⟨l1, by rw [hvl 0 (by decide)]; exact l2, by rw [hvl 0 (by decide)]; exact l3, by rw [hvl 0 (by decide)]; exact l4, by rw [hvl 0 (by decide)]; exact l5⟩, fun q _ => by rw [hvl 5 (by decide)]; exact m q, ⟨n1, ⟨o1, by rw [v3]; exact o2, o3, o4, by rw [o5]; decide, by rw [o5]; decide⟩, fun j hj => absurd hj (Nat.not_lt_zero j)⟩, ⟨n2, ⟨p1, by rw [v5]; exact p2, p3, p4, by rw [p5]; decide, by rw [p5]; decide⟩, fun j hj => absurd hj (Nat.not_lt_zero j)⟩, ⟨n4, n5⟩, Or.inl ⟨n3, rfl⟩⟩
    refine ⟨⟨hag.lnd D0_ok.1, fun a b ha => by rw [zT] at ha; exact absurd ha (Nat.not_lt_zero a), hag.lndR lR, fun a b ha => by rw [zT] at ha; exact absurd ha (Nat.not_lt_zero a)⟩, ⟨⟨fun j hj => by rw [zJ] at hj; exact absurd hj (Nat.not_lt_zero j), ?_, ?_, ?_, ?_, fun i hi => ?_, fun i hi => ?_, fun i hi => ?_, ?_, ?_, ?_, ?_⟩, ⟨fun j hj => by rw [zJ] at hj; exact absurd hj (Nat.not_lt_zero j), ?_, ?_, ?_, fun i hi => ?_, fun i hi => ?_, ?_⟩⟩, ⟨?_, ⟨0, z33, by decide, ?_, fun i hi => absurd hi (by omega)⟩, ⟨0, z34, by decide, ?_, fun i hi => absurd hi (by omega)⟩, fun i hi => Or.inl ?_, fun i hi => ?_⟩, ⟨?_, ?_, Or.inl z54⟩, ⟨0, z14, by decide, hvt.2.1, fun i hi => absurd hi (by omega)⟩, ?_⟩
    · rw [pk_5, z29]; exact hb.1
    · rw [pk_6, z30]; exact hb.2.1 5 (by decide) (by decide)
    · rw [pk_7, z31]; exact hb.2.1 6 (by decide) (by decide)
    · rw [pk_8, z32]; exact hb.2.1 7 (by decide) (by decide)
    · rw [pk_6, z30] at hi; exact absurd hi (Nat.not_lt_zero i)
    · rw [pk_7, z31] at hi; exact absurd hi (Nat.not_lt_zero i)
    · rw [pk_8, z32] at hi; exact absurd hi (Nat.not_lt_zero i)
    · exact hb.2.1 8 (by decide) (by decide)
    · exact hb.2.1 9 (by decide) (by decide)
    · exact hb.2.1 10 (by decide) (by decide)
    · exact hb.2.2
    · rw [pk_6, z30]; decide
    · rw [pk_7, z31]; decide
    · rw [pk_8, z32]; decide
    · rw [pk_6, z30] at hi; exact absurd hi (Nat.not_lt_zero i)
    · rw [pk_8, z32] at hi; exact absurd hi (Nat.not_lt_zero i)
    · rw [pk_5, z29]; exact ⟨0, rfl, by decide⟩
    · show V (t + 17) 0 2 = 40; rw [v11]; exact c2
    · show V (t + 11) 0 6 = 0; rw [vA]; exact a4 0 6 (by decide)
    · show V (t + 11) 0 7 = 0; rw [vA]; exact a4 0 7 (by decide)
    · show V (t + 11) 6 i = 0; rw [vA]; exact a4 6 i (by decide)
    · show V (t + 11) 5 i = _; rw [vA, h13 i hi]; exact a4 5 i (by decide)
    · rw [hvt.1, z54]
    · show V (t + 229) 0 2 = 40; rw [v14]; exact i2
    · rw [hvt.2.2, h23]
end IN
