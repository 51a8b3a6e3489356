/-! PURE: more of the heap; what is there stays -/
set_option maxRecDepth 100000
/-- the heap is extended, or changed at things that are of no kind -/
def xt (T L : Nat → Nat) (V : w_V) (P : w_P) (T' L' : Nat → Nat) (V' : w_V) (P' : w_P) : Prop := ∀ a, T a ≠ 0 → T' a = T a ∧ L' a = L a ∧ V' a = V a ∧ P' a = P a
theorem xt.rf (T L : Nat → Nat) (V : w_V) (P : w_P) : xt T L V P T L V P := fun _ _ => ⟨rfl, rfl, rfl, rfl⟩
theorem xt.tr {T L : Nat → Nat} {V : w_V} {P : w_P} {T1 L1 : Nat → Nat} {V1 : w_V} {P1 : w_P} {T2 L2 : Nat → Nat} {V2 : w_V} {P2 : w_P} (h : xt T L V P T1 L1 V1 P1) (h2 : xt T1 L1 V1 P1 T2 L2 V2 P2) : xt T L V P T2 L2 V2 P2 := by
  intro a ha
  obtain ⟨a1, a2, a3, a4⟩ := h a ha
  obtain ⟨b1, b2', b3, b4⟩ := h2 a (by rw [a1]; exact ha)
  exact ⟨b1.trans a1, b2'.trans a2, b3.trans a3, b4.trans a4⟩
theorem ne0 {T : Nat → Nat} {a x : Nat} (h : T a = x + 1) : T a ≠ 0 := by rw [h]; omega
section XT
variable {ad : Nat → Nat} {T L : Nat → Nat} {V : w_V} {P : w_P} {T' L' : Nat → Nat} {V' : w_V} {P' : w_P} {D : MS} {lw : (Nat → Int32) → Int32}
theorem exprR.x (hx : xt T L V P T' L' V' P') : ∀ (d a : Nat) (l : List Int32) (n : Nat) (f : (Nat → Int32) → Int32), exprR ad T V P d a l n f → exprR ad T' V' P' d a l n f
  | 0, _, _, _, _, h => h.elim
  | d + 1, a, l, n, f, h => by
    have ha : T a ≠ 0 := by
      rcases h with ⟨ht, -⟩ | ⟨ht, -⟩ | ⟨ht, -⟩ | ⟨ht, -⟩ <;> exact ne0 ht
    obtain ⟨e1, e2, e3, e4⟩ := hx a ha
    rcases h with ⟨ht, h⟩ | ⟨ht, h⟩ | ⟨ht, b, l1, f1, h0, h1, h2⟩ | ⟨ht, b, c, l1, l2, f1, f2, n2, x, g1, g2, h1, h2, h3⟩
    · exact Or.inl ⟨e1.trans ht, by rw [e3]; exact h⟩
    · exact Or.inr (Or.inl ⟨e1.trans ht, by rw [e4]; exact h⟩)
    · exact Or.inr (Or.inr (Or.inl ⟨e1.trans ht, b, l1, f1, by rw [e4]; exact h0, exprR.x hx d _ _ _ _ h1, h2⟩))
    · exact Or.inr (Or.inr (Or.inr ⟨e1.trans ht, b, c, l1, l2, f1, f2, n2, x, by rw [e4]; exact g1, by rw [e4]; exact g2, exprR.x hx d _ _ _ _ h1, exprR.x hx d _ _ _ _ h2, by rw [e3]; exact h3⟩))
theorem lstR.x {l ar n : Nat} (hx : xt T L V P T' L' V' P') (h : lstR T L V P l ar n) : lstR T' L' V' P' l ar n := by
  obtain ⟨h1, h2, h3, h4, h5, h6⟩ := h
  obtain ⟨e1, e2, e3, e4⟩ := hx l (ne0 h1)
  obtain ⟨g1, g2, g3, g4⟩ := hx ar (ne0 h4)
  exact ⟨e1.trans h1, by rw [e3]; exact h2, by rw [e4]; exact h3, g1.trans h4, by rw [g2]; exact h5, by rw [g2]; exact h6⟩
theorem jdgR.x {a j : Nat} (hx : xt T L V P T' L' V' P') (h : jdgR T L V P a D j) : jdgR T' L' V' P' a D j := by
  obtain ⟨h1, h2, r, h3, h4, h5, h6⟩ := h
  have ha : T a ≠ 0 := by rcases h1 with ⟨-, h⟩ | ⟨-, h⟩ | ⟨-, h⟩ <;> exact ne0 h
  obtain ⟨e1, e2, e3, e4⟩ := hx a ha
  obtain ⟨g1, g2, g3, g4⟩ := hx r (ne0 h4)
  exact ⟨by rw [e1]; exact h1, by rw [e3]; exact h2, r, by rw [e4]; exact h3, g1.trans h4, g2.trans h5, fun i hi => by rw [g3]; exact h6 i hi⟩
theorem casR.x {a c : Nat} (hx : xt T L V P T' L' V' P') (h : casR T L V a D c) : casR T' L' V' a D c := by
  obtain ⟨h1, h2, h3⟩ := h
  obtain ⟨e1, e2, e3, e4⟩ := hx a (ne0 h1)
  exact ⟨e1.trans h1, e2.trans h2, fun t ht => by rw [e3]; exact h3 t ht⟩
theorem lndR.x {l jl ja cl ca vw : Nat} (hx : xt T L V P T' L' V' P') (h : lndR ad T L V P l jl ja cl ca vw D lw) : lndR ad T' L' V' P' l jl ja cl ca vw D lw := by
  obtain ⟨⟨h1, h2⟩, h3, ⟨h4, h5, h6⟩, ⟨h7, h8, h9⟩, ⟨h10, h11⟩, h12⟩ := h
  obtain ⟨e1, e2, e3, e4⟩ := hx l (ne0 h1)
  refine ⟨⟨e1.trans h1, by rw [e3]; exact h2⟩, fun k hk => by rw [e3]; exact h3 k hk, ⟨by rw [e4]; exact h4, h5.x hx, fun j hj => ?_⟩, ⟨by rw [e4]; exact h7, h8.x hx, fun c hc => ?_⟩, ⟨by rw [e4]; exact h10, (hx vw (ne0 h11)).1.trans h11⟩, ?_⟩
  · obtain ⟨a, q1, q2⟩ := h6 j hj
    exact ⟨a, by rw [(hx ja (ne0 h5.2.2.2.1)).2.2.2]; exact q1, q2.x hx⟩
  · obtain ⟨a, q1, q2⟩ := h9 c hc
    exact ⟨a, by rw [(hx ca (ne0 h8.2.2.2.1)).2.2.2]; exact q1, q2.x hx⟩
  · rw [e4]
    rcases h12 with q | ⟨a, d, n, q1, q2, q3, q4, q5⟩
    · exact Or.inl q
    · exact Or.inr ⟨a, d, n, q1, q2, q3, q4, exprR.x hx _ _ _ _ _ q5⟩
theorem bxP.x {t : Nat} {A : Nat → Nat} (hx : xt T L V P T' L' V' P') (h : bxP T L P t A) : bxP T' L' P' t A := by
  obtain ⟨⟨a1, a2⟩, ⟨b1, b2'⟩, ⟨c1, c2⟩, d, ⟨e1, e2⟩, ⟨f1, f2, f3, f4⟩, ⟨g1, g2, g3, g4⟩, i, j, k, m⟩ := h
  obtain ⟨t1, t2, t3, t4⟩ := hx t (ne0 a1)
  obtain ⟨u1, u2, u3, u4⟩ := hx _ (ne0 b1)
  obtain ⟨v1, v2, v3, v4⟩ := hx _ (ne0 c1)
  obtain ⟨w1, w2, w3, w4⟩ := hx _ (ne0 e1)
  obtain ⟨x1, x2, x3, x4⟩ := hx _ (ne0 f1)
  obtain ⟨y1, y2, y3, y4⟩ := hx _ (ne0 f3)
  obtain ⟨z1, z2, z3, z4⟩ := hx _ (ne0 g1)
  obtain ⟨s1, s2, s3, s4⟩ := hx _ (ne0 g3)
  refine ⟨⟨t1.trans a1, by rw [t4]; exact a2⟩, ⟨u1.trans b1, by rw [u4]; exact b2'⟩, ⟨v1.trans c1, by rw [v4]; exact c2⟩, d, ⟨w1.trans e1, by rw [w4]; exact e2⟩, ⟨x1.trans f1, by rw [x4]; exact f2, y1.trans f3, y2.trans f4⟩, ⟨z1.trans g1, by rw [z4]; exact g2, s1.trans g3, s2.trans g4⟩, i, by rw [y4, s4]; exact j, fun i hi => (hx _ (ne0 (k i hi))).1.trans (k i hi), m⟩
theorem cR.x {t : Nat} {A : Nat → Nat} {sg : MS} (hx : xt T L V P T' L' V' P') (hb : bxP T L P t A) (h : cR ad T L V P t A sg lw) : cR ad T' L' V' P' t A sg lw := by
  obtain ⟨⟨a1, a2, a3, a4⟩, ⟨b1, b2'⟩, c1, ⟨d1, d2, d3⟩, ⟨n, e1, e2, e3, e4⟩, f1⟩ := h
  have st : ∀ i, stI i → V' (A i) = V (A i) := fun i hi => (hx _ (ne0 (bx_st hb hi))).2.2.1
  have et := (hx _ (ne0 hb.1.1)).2.2.1
  have el := (hx _ (ne0 a3.1.1)).2.2.1
  have e0 := (hx _ (ne0 hb.2.1.1)).2.2.1
  have e1' := (hx _ (ne0 hb.2.2.1.1)).2.2.1
  have e11 := (hx _ (ne0 hb.2.2.2.2.2.1.1)).2.2.1
  have e14 := (hx _ (ne0 hb.2.2.2.2.2.2.1.1)).2.2.1
  refine ⟨⟨a1, a2, a3.x hx, fun a b x y => by rw [el]; exact a4 a b x y⟩, ⟨b1.e (st 2 stI2), b2'⟩, c1.e e0 e11 (fun k hk => st _ (stIa hk)), ⟨by rw [et]; exact d1, by rw [e14]; exact d2, ?_⟩, ⟨n, e1, e2, by rw [et]; exact e3, fun i hi => by rw [et]; exact e4 i hi⟩, by rw [et]; exact f1⟩
  rcases d3 with q | ⟨q1, ⟨q2, q3⟩, q4⟩
  · exact Or.inl q
  · exact Or.inr ⟨q1, ⟨q2.e (st 13 stI13), q3⟩, q4.e e1' e14 (fun k hk => st _ (stIb hk))⟩
/-- the model and the law's row may change -/
theorem cR.w {t : Nat} {A : Nat → Nat} {sg : MS} (hb : bxP T L P t A) (h : cR ad T L V P t A sg lw) (hV : ∀ a, T a ≠ 1 → T a ≠ 3003 → T a ≠ 1002 → V' a = V a) : cR ad T L V' P t A sg lw := by
  obtain ⟨⟨a1, a2, a3, a4⟩, ⟨b1, b2'⟩, c1, ⟨d1, d2, d3⟩, ⟨n, e1, e2, e3, e4⟩, f1⟩ := h
  have k : ∀ a x, T a = x → x ≠ 1 → x ≠ 3003 → x ≠ 1002 → V' a = V a := fun a x e h1 h2 h3 => hV a (by rw [e]; exact h1) (by rw [e]; exact h2) (by rw [e]; exact h3)
  have st : ∀ i, stI i → V' (A i) = V (A i) := fun i hi => k _ _ (bx_st hb hi) (by decide) (by decide) (by decide)
  have et := k _ _ hb.1.1 (by decide) (by decide) (by decide)
  have el := k _ _ a3.1.1 (by decide) (by decide) (by decide)
  have e0 := k _ _ hb.2.1.1 (by decide) (by decide) (by decide)
  have e1' := k _ _ hb.2.2.1.1 (by decide) (by decide) (by decide)
  have e11 := k _ _ hb.2.2.2.2.2.1.1 (by decide) (by decide) (by decide)
  have e14 := k _ _ hb.2.2.2.2.2.2.1.1 (by decide) (by decide) (by decide)
  have sl : sameL T V V' := fun a ha => hV a (fun e => by rw [e] at ha; cases ha) (fun e => by rw [e] at ha; cases ha) (fun e => by rw [e] at ha; cases ha)
  refine ⟨⟨a1, a2, a3.V sl, fun a b x y => by rw [el]; exact a4 a b x y⟩, ⟨b1.e (st 2 stI2), b2'⟩, c1.e e0 e11 (fun k hk => st _ (stIa hk)), ⟨by rw [et]; exact d1, by rw [e14]; exact d2, ?_⟩, ⟨n, e1, e2, by rw [et]; exact e3, fun i hi => by rw [et]; exact e4 i hi⟩, by rw [et]; exact f1⟩
  rcases d3 with q | ⟨q1, ⟨q2, q3⟩, q4⟩
  · exact Or.inl q
  · exact Or.inr ⟨q1, ⟨q2.e (st 13 stI13), q3⟩, q4.e e1' e14 (fun k hk => st _ (stIb hk))⟩
end XT
