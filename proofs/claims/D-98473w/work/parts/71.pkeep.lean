/-! PURE: the class keeps a state -/
set_option maxRecDepth 100000
theorem up2_s {P : w_P} {a i : Nat} {v : Option Nat} : up2 P a i v a i = v := by
  unfold up2
  rw [up1_s, up1_s]
theorem up2_i {P : w_P} {a i j : Nat} {v : Option Nat} (h : j ≠ i) : up2 P a i v a j = P a j := by
  unfold up2
  rw [up1_s, up1_n h]
theorem up2_n {P : w_P} {a b i : Nat} {v : Option Nat} (h : b ≠ a) : up2 P a i v b = P b := by
  unfold up2
  exact up1_n h
theorem s2_id2 {σ : MS} {k i : Nat} : s2 σ k i (σ k i) = σ := by
  funext a b
  unfold s2
  by_cases h : a = k ∧ b = i
  · rw [if_pos h]; obtain ⟨rfl, rfl⟩ := h; rfl
  · rw [if_neg h]
section KP
variable {ad : Nat → Nat} {T L : Nat → Nat} {V : w_V} {P : w_P} {V' : w_V} {P' : w_P} {D : MS} {lw : (Nat → Int32) → Int32}
theorem exprR.y (hx : ∀ a, T a = 9 ∨ T a = 10 ∨ T a = 11 ∨ T a = 12 → V' a = V a ∧ P' a = P a) : ∀ (d a : Nat) (l : List Int32) (n : Nat) (f : (Nat → Int32) → Int32), exprR ad T V P d a l n f → exprR ad T V' P' d a l n f
  | 0, _, _, _, _, h => h.elim
  | d + 1, a, l, n, f, h => by
    have ha : T a = 9 ∨ T a = 10 ∨ T a = 11 ∨ T a = 12 := by
      rcases h with ⟨ht, -⟩ | ⟨ht, -⟩ | ⟨ht, -⟩ | ⟨ht, -⟩ <;> rw [ht] <;> decide
    obtain ⟨e3, e4⟩ := hx a ha
    rcases h with ⟨ht, h⟩ | ⟨ht, h⟩ | ⟨ht, b, l1, f1, h0, h1, h2⟩ | ⟨ht, b, c, l1, l2, f1, f2, n2, x, g1, g2, h1, h2, h3⟩
    · exact Or.inl ⟨ht, by rw [e3]; exact h⟩
    · exact Or.inr (Or.inl ⟨ht, by rw [e4]; exact h⟩)
    · exact Or.inr (Or.inr (Or.inl ⟨ht, b, l1, f1, by rw [e4]; exact h0, exprR.y hx d _ _ _ _ h1, h2⟩))
    · exact Or.inr (Or.inr (Or.inr ⟨ht, b, c, l1, l2, f1, f2, n2, x, by rw [e4]; exact g1, by rw [e4]; exact g2, exprR.y hx d _ _ _ _ h1, exprR.y hx d _ _ _ _ h2, by rw [e3]; exact h3⟩))
theorem lndR.y {l jl ja cl ca vw p q : Nat} (hV : ∀ a, lk (T a) = true → a ≠ p → V' a = V a) (hP : ∀ a, lk (T a) = true → a ≠ q → P' a = P a) (tp : T p = 16) (tq : T q = 2004) (h1 : p ≠ jl) (h2 : p ≠ cl) (h3 : q ≠ ja) (h4 : q ≠ ca) (h : lndR ad T L V P l jl ja cl ca vw D lw) : lndR ad T L V' P' l jl ja cl ca vw D lw := by
  obtain ⟨⟨a1, a2⟩, a3, ⟨b1, b2', b3⟩, ⟨c1, c2, c3⟩, ⟨d1, d2⟩, e⟩ := h
  have kV : ∀ a x, T a = x → lk x = true → x ≠ 16 → V' a = V a := fun a x e q h => hV a (by rw [e]; exact q) (fun z => h (by rw [← e, z]; exact tp))
  have kP : ∀ a x, T a = x → lk x = true → x ≠ 2004 → P' a = P a := fun a x e q h => hP a (by rw [e]; exact q) (fun z => h (by rw [← e, z]; exact tq))
  have el := kV _ _ a1 rfl (by decide)
  have pl := kP _ _ a1 rfl (by decide)
  have lst : ∀ l ar n, lstR T L V P l ar n → p ≠ l → lstR T L V' P' l ar n := by
    intro l ar n hl hp
    obtain ⟨q1, q2, q3, q4⟩ := hl
    exact ⟨q1, by rw [hV l (by rw [q1]; rfl) (fun z => hp z.symm)]; exact q2, by rw [kP _ _ q1 rfl (by decide)]; exact q3, q4⟩
  refine ⟨⟨a1, by rw [el]; exact a2⟩, fun k hk => by rw [el]; exact a3 k hk, ⟨by rw [pl]; exact b1, lst _ _ _ b2' h1, fun j hj => ?_⟩, ⟨by rw [pl]; exact c1, lst _ _ _ c2 h2, fun c hc => ?_⟩, ⟨by rw [pl]; exact d1, d2⟩, ?_⟩
  · obtain ⟨a, q1, q2, q3, r, q4, q5, q6, q7⟩ := b3 j hj
    have ha : lk (T a) = true ∧ T a ≠ 16 ∧ T a ≠ 2004 := by rcases q2 with ⟨-, h⟩ | ⟨-, h⟩ | ⟨-, h⟩ <;> (rw [h]; decide)
    exact ⟨a, by rw [hP ja (by rw [b2'.2.2.2.1]; rfl) (fun z => h3 z.symm)]; exact q1, q2, by rw [kV _ _ rfl ha.1 ha.2.1]; exact q3, r, by rw [kP _ _ rfl ha.1 ha.2.2]; exact q4, q5, q6, fun i hi => by rw [kV _ _ q5 rfl (by decide)]; exact q7 i hi⟩
  · obtain ⟨a, q1, q2, q3, q4⟩ := c3 c hc
    exact ⟨a, by rw [hP ca (by rw [c2.2.2.2.1]; rfl) (fun z => h4 z.symm)]; exact q1, q2, q3, fun t ht => by rw [kV _ _ q2 rfl (by decide)]; exact q4 t ht⟩
  · rw [pl]
    rcases e with q | ⟨a, d, n, q1, q2, q3, q4, q5⟩
    · exact Or.inl q
    · refine Or.inr ⟨a, d, n, q1, q2, q3, q4, exprR.y (fun b hb => ?_) _ _ _ _ _ q5⟩
      rcases hb with h | h | h | h <;> exact ⟨kV _ _ h rfl (by decide), kP _ _ h rfl (by decide)⟩
end KP
/-- the list of what is kept goes on by one -/
def rot (A : Nat → Nat) : Nat → Nat := fun n => if 100 ≤ n ∧ n < 139 then A (n + 1) else if n = 139 then A 100 else A n
theorem rot_lo {A : Nat → Nat} {n : Nat} (h : n < 100 ∨ 140 ≤ n) : rot A n = A n := by
  unfold rot
  rw [if_neg (by omega), if_neg (by omega)]
theorem rot_k {A : Nat → Nat} {k : Nat} (h : k < 39) : rot A (100 + k) = A (100 + (k + 1)) := by
  unfold rot
  rw [if_pos (by omega)]
  rfl
theorem rot_l {A : Nat → Nat} : rot A (100 + 39) = A 100 := by
  unfold rot
  rw [if_neg (by decide), if_pos rfl]
section KQ
variable {ad : Nat → Nat} {T L : Nat → Nat} {V : w_V} {P : w_P} {t : Nat} {A : Nat → Nat} {sg : MS} {lw : (Nat → Int32) → Int32}
theorem rot_st {T : Nat → Nat} {A : Nat → Nat} (h : (∀ i, stI i → T (A i) = 6) ∧ (∀ i j, stI i → stI j → A i = A j → i = j)) : (∀ i, stI i → T (rot A i) = 6) ∧ (∀ i j, stI i → stI j → rot A i = rot A j → i = j) := by
  -- where an index goes
  have key : ∀ i, stI i → ∃ i', stI i' ∧ rot A i = A i' ∧ ((100 ≤ i ∧ i < 139 ∧ i' = i + 1) ∨ (i = 139 ∧ i' = 100) ∨ ((i < 100 ∨ 140 ≤ i) ∧ i' = i)) := by
    intro i hi
    by_cases h1 : 100 ≤ i ∧ i < 139
    · refine ⟨i + 1, Or.inr (Or.inr (Or.inr (Or.inl ⟨by omega, by omega⟩))), ?_, Or.inl ⟨h1.1, h1.2, rfl⟩⟩
      unfold rot
      rw [if_pos h1]
    · by_cases h2 : i = 139
      · subst h2
        exact ⟨100, Or.inr (Or.inr (Or.inr (Or.inl ⟨by omega, by omega⟩))), rot_l, Or.inr (Or.inl ⟨rfl, rfl⟩)⟩
      · exact ⟨i, hi, rot_lo (by omega), Or.inr (Or.inr ⟨by omega, rfl⟩)⟩
  refine ⟨fun i hi => ?_, fun i j hi hj e => ?_⟩
  · obtain ⟨i', h1, h2, -⟩ := key i hi
    rw [h2]; exact h.1 i' h1
  · obtain ⟨i', h1, h2, h3⟩ := key i hi
    obtain ⟨j', g1, g2, g3⟩ := key j hj
    rw [h2, g2] at e
    have := h.2 i' j' h1 g1 e
    omega
theorem sX_keeps38 (hb : bxP T L P t A) {a : Nat} (ha : a < 40) (e6 : V (A 0) 0 6 = nI a) (es : V (A 11) 0 2 = 40) {post : w_V → w_P → Prop} (hp : ∀ V9 : w_V, (∀ b, b ≠ A (100 + a) → b ≠ A 0 → V9 b = V b) → lkX V9 (A (100 + a)) (V (A 2)) → V9 (A 0) = s2 (V (A 0)) 0 6 (nI (a + 1)) → post V9 P) : jX5_keeps_38 ad T L V P (A 0) post := by
  have hn := bx_ne hb stI2 (stIa ha) (by omega)
  have h0 : A 0 ≠ A (100 + a) := T_ne hb.2.1.1 (bx_st hb (stIa ha)) (by decide)
  unfold jX5_keeps_38
  refine ⟨A 11, hb.2.1.2.2, hb.2.2.2.2.2.1.1, ?_⟩
  rw [e6]
  have hl : lstR T L V P (A 11) (A 12) 40 := ⟨hb.2.2.2.2.2.1.1, es, hb.2.2.2.2.2.1.2.1, hb.2.2.2.2.2.1.2.2.1, by rw [hb.2.2.2.2.2.1.2.2.2]; exact Nat.le_refl _, by rw [hb.2.2.2.2.2.1.2.2.2]; decide⟩
  refine sJ2_get hl ha (by decide) (hb.2.2.2.2.2.2.2.2.1 a ha).1 ⟨bx_st hb (stIa ha), A 2, hb.2.1.2.1, bx_st hb stI2, sX6_like hn (fun V1 b1 b2' V2 e2 => ?_)⟩
  have e : V2 (A 0) = s2 (V (A 0)) 0 6 (nI (a + 1)) := by rw [e2, up3_a, b1 _ h0, e6, nI_1]
  refine hp V2 (fun b q1 q2 => by rw [e2, up3_n q2]; exact b1 b q1) ?_ e
  unfold lkX
  rw [e2, up3_n h0.symm]
  exact b2'
/-- what keeping leaves at the class -/
theorem sX_keeps (h : cR ad T L V P t A sg lw) (hb : bxP T L P t A) {post : w_V → w_P → Prop} (hp : ∀ (V9 : w_V) (P9 : w_P) (A' : Nat → Nat), bxP T L P9 t A' → (∀ n, n < 100 → A' n = A n) → (∀ b, T b ≠ 6 → T b ≠ 16 → b ≠ A 0 → V9 b = V b) → (∀ b, T b ≠ 2004 → P9 b = P b) → V9 (A 2) = V (A 2) → (∀ s9 a, sg 0 33 = nI a → a ≤ 40 → kpM sg s9 a → cR ad T L V9 P9 t A' s9 lw) → post V9 P9) : wX5_keeps ad T L V P (A 0) post := by
  have hv := h.vw
  have hL := h.1.1
  have hJ := hL.2.1.2
  obtain ⟨⟨a1, a2, a3, a4⟩, ⟨b1, b2'⟩, ⟨c1, ⟨a, c2, c3, c4, c5⟩, c6, c7, c8⟩, ⟨d1, d2, d3⟩, ⟨n, e1, e2, e3, e4⟩, f1⟩ := id h
  -- the box after a keep, from what was written
  have tail : ∀ (V1 : w_V) (P1 : w_P) (A1 : Nat → Nat) (a1' : Nat), a1' < 40 → bxP T L P1 t A1 → (∀ n, n < 100 → A1 n = A n) → (∀ n, 140 ≤ n → A1 n = A n) → (∀ b, b ≠ A 11 → b ≠ A 0 → V1 b = V b) → V1 (A 11) 0 2 = 40 → V1 (A 0) = s2 (V (A 0)) 0 6 (nI a1') → (∀ b, b ≠ A 12 → P1 b = P b) → (∀ s9 b, sg 0 33 = nI b → b ≤ 40 → kpM sg s9 b → s9 0 33 = nI (a1' + 1) ∧ (∀ k, k < a1' → rowX V1 (A1 (100 + k)) (nJ sg) (fun i => s9 29 (45 * k + i)) ∧ rowOk (nT sg) (nJ sg) (fun i => s9 29 (45 * k + i))) ∧ ∀ i, i < 45 → s9 29 (45 * a1' + i) = pk sg i) → jX5_keeps_38 ad T L V1 P1 (A 0) post := by
    intro V1 P1 A1 a' ha hb1 eA eA2 eV es e0 eP hk
    have x0 : A1 0 = A 0 := eA 0 (by decide)
    have x11 : A1 11 = A 11 := eA 11 (by decide)
    rw [← x0]
    refine sX_keeps38 hb1 ha (by rw [x0, e0, s2_s]) (by rw [x11]; exact es) (fun V9 g1 g2 g3 => ?_)
    rw [x0] at g1 g3
    rw [eA 2 (by decide)] at g2
    have tS : T (A1 (100 + a')) = 6 := bx_st hb1 (stIa ha)
    have n2 : A 2 ≠ A1 (100 + a') := by rw [← eA 2 (by decide)]; exact bx_ne hb1 stI2 (stIa ha) (by omega)
    have V2' : V1 (A 2) = V (A 2) := eV _ (T_ne (bx_st hb stI2) hb.2.2.2.2.2.1.1 (by decide)) (T_ne (bx_st hb stI2) hb.2.1.1 (by decide))
    have kV : ∀ b, T b ≠ 6 → b ≠ A 11 → b ≠ A 0 → V9 b = V b := fun b q1 q2 q3 => (g1 b (fun e => q1 (by rw [e]; exact tS)) q3).trans (eV b q2 q3)
    refine hp V9 P1 A1 hb1 eA (fun b q1 q2 q3 => kV b q1 (fun e => q2 (by rw [e]; exact hb.2.2.2.2.2.1.1)) q3) (fun b q => eP b (fun e => q (by rw [e]; exact hb.2.2.2.2.2.1.2.2.1))) ?_ (fun s9 b hs hb40 hkp => ?_)
    · rw [g1 _ n2 (T_ne (bx_st hb stI2) hb.2.1.1 (by decide))]; exact V2'
    · obtain ⟨u1, u2, u3⟩ := hk s9 b hs hb40 hkp
      obtain ⟨m1, m2, -, -⟩ := hkp
      have ha9 : agL sg s9 := agL.of (fun k hk => m1 k (by omega) (by omega))
      have kT : ∀ b x, T b = x → x ≠ 6 → x ≠ 16 → x ≠ 5 → V9 b = V b := fun b x e q1 q2 q3 => kV b (by rw [e]; exact q1) (T_ne e hb.2.2.2.2.2.1.1 q2) (T_ne e hb.2.1.1 q3)
      have hland : lndR ad T L V9 P1 (A 5) (A 6) (A 7) (A 8) (A 9) (A 10) s9 lw := by
        refine ha9.land hL (a3.y (p := A 11) (q := A 12) (fun b q1 q2 => kV b (fun e => by rw [e] at q1; cases q1) q2 (fun e => by rw [e, hb.2.1.1] at q1; cases q1)) (fun b _ q2 => eP b q2) hb.2.2.2.2.2.1.1 hb.2.2.2.2.2.1.2.2.1 hb.2.2.2.2.2.2.2.1.2.2.1 hb.2.2.2.2.2.2.2.1.2.2.2.1 hb.2.2.2.2.2.2.2.1.2.2.2.2.1 hb.2.2.2.2.2.2.2.1.2.2.2.2.2)
      have epk : pk s9 = pk sg := by
        unfold pk
        rw [m1 7 (by decide) (by decide), m1 26 (by decide) (by decide), m1 27 (by decide) (by decide), m1 28 (by decide) (by decide), m2 29 (by decide), m2 30 (by decide), m2 31 (by decide), m2 32 (by decide)]
      have st9 : ∀ i, stI i → i ≠ 100 + a' → V9 (A1 i) = V1 (A1 i) := fun i hi hne => g1 _ (bx_ne hb1 hi (stIa ha) hne) (T_ne (bx_st hb1 hi) hb.2.1.1 (by decide))
      have o5 : V9 (A 5) = V (A 5) := kT _ _ a3.1.1 (by decide) (by decide) (by decide)
      have ot : V9 t = V t := kT _ _ hb.1.1 (by decide) (by decide) (by decide)
      have o11 : V9 (A 11) = V1 (A 11) := g1 _ (T_ne hb.2.2.2.2.2.1.1 tS (by decide)) (T_ne hb.2.2.2.2.2.1.1 hb.2.1.1 (by decide))
      have o14 : V9 (A 14) = V (A 14) := kV _ (by rw [hb.2.2.2.2.2.2.1.1]; decide) (fun e => hb.2.2.2.2.2.2.2.1.1 e.symm) (T_ne hb.2.2.2.2.2.2.1.1 hb.2.1.1 (by decide))
      have o1 : V9 (A 1) = V (A 1) := kV _ (by rw [hb.2.2.1.1]; decide) (T_ne hb.2.2.1.1 hb.2.2.2.2.2.1.1 (by decide)) (fun e => hb.2.2.2.1 e.symm)
      refine ⟨⟨ha9.lnd a1, ha9.far a1 a2, ?_, ?_⟩, ?_, ?_, ?_, ⟨n, by rw [m2 14 (by decide)]; exact e1, e2, by rw [ot]; exact e3, fun i hi => by rw [ot, m1 14 (by decide) (by decide)]; exact e4 i hi⟩, by rw [ot, m2 23 (by decide)]; exact f1⟩
      · rw [eA 5 (by decide), eA 6 (by decide), eA 7 (by decide), eA 8 (by decide), eA 9 (by decide), eA 10 (by decide)]; exact hland
      · rw [eA 5 (by decide)]
        exact ha9.ways a1 (fun x y q1 q2 => by rw [o5]; exact a4 x y q1 q2)
      · rw [ha9.nJ, ha9.nT, epk, eA 2 (by decide)]
        exact ⟨b1.e (by rw [g1 _ n2 (T_ne (bx_st hb stI2) hb.2.1.1 (by decide))]; exact V2'), b2'⟩
      · rw [ha9.nJ, ha9.nT, ha9.nC, x0, x11, m2 34 (by decide), m1 51 (by decide) (by decide), m1 52 (by decide) (by decide), m1 53 (by decide) (by decide), m1 13 (by decide) (by decide)]
        unfold bkR
        rw [o11, g3, e0, s2_s2]
        refine ⟨es, ⟨a' + 1, u1, by omega, s2_s, fun k hk => ?_⟩, ?_, ?_, ?_⟩
        · by_cases e : k = a'
          · subst e
            have hc := b1.copy hJ b2' (show lkX V9 (A1 (100 + k)) (V (A 2)) by rw [← V2']; exact g2)
            exact ⟨hc.c hJ b2' u3, b2'.c hJ u3⟩
          · obtain ⟨w1, w2⟩ := u2 k (by omega)
            exact ⟨w1.e (st9 _ (stIa (by omega)) (by omega)), w2⟩
        · rw [s2_i (show (7 : Nat) ≠ 6 by decide), s2_rowN (show (3 : Nat) ≠ 0 by decide), s2_rowN (show (4 : Nat) ≠ 0 by decide), s2_rowN (show (6 : Nat) ≠ 0 by decide)]; exact c6
        · rw [s2_rowN (show (6 : Nat) ≠ 0 by decide)]; exact c7
        · rw [s2_rowN (show (5 : Nat) ≠ 0 by decide)]; exact c8
      · rw [ot, m2 54 (by decide), eA 14 (by decide), o14, ha9.nJ, ha9.nT, ha9.nC, eA 13 (by decide), eA 1 (by decide), m1 58 (by decide) (by decide), m1 59 (by decide) (by decide), m1 60 (by decide) (by decide), m1 61 (by decide) (by decide), m1 62 (by decide) (by decide), m1 63 (by decide) (by decide), m2 55 (by decide), m2 56 (by decide)]
        refine ⟨d1, d2, ?_⟩
        have tl : ∀ i, stI i → i ≠ 2 → (i = 13 ∨ 140 ≤ i) → V9 (A i) = V (A i) := fun i hi _ h3 => by
          have ei : A1 i = A i := by rcases h3 with e | e; (exact eA i (by omega)); (exact eA2 i e)
          rw [← ei, st9 i hi (by omega), ei]
          exact eV _ (T_ne (bx_st hb hi) hb.2.2.2.2.2.1.1 (by decide)) (T_ne (bx_st hb hi) hb.2.1.1 (by decide))
        rcases d3 with q | ⟨q1, ⟨q2, q3⟩, q4⟩
        · exact Or.inl q
        · refine Or.inr ⟨q1, ⟨q2.e (tl 13 stI13 (by decide) (Or.inl rfl)), q3⟩, ?_⟩
          have e200 : (fun k => A1 (200 + k)) = fun k => A (200 + k) := by funext k; exact eA2 _ (by omega)
          rw [e200]
          exact q4.e o1 o14 (fun k hk => tl _ (stIb hk) (by omega) (Or.inr (by omega)))
  unfold wX5_keeps
  rw [c4]
  by_cases e : a = 40
  · subst e
    rw [if_pos (show nI 40 = 40 from rfl)]
    have hl : lstR T L V P (A 11) (A 12) 40 := ⟨hb.2.2.2.2.2.1.1, c1, hb.2.2.2.2.2.1.2.1, hb.2.2.2.2.2.1.2.2.1, by rw [hb.2.2.2.2.2.1.2.2.2]; exact Nat.le_refl _, by rw [hb.2.2.2.2.2.1.2.2.2]; decide⟩
    have eL : L (A 12) = 40 := hb.2.2.2.2.2.1.2.2.2
    refine ⟨A 11, hb.2.1.2.2, hb.2.2.2.2.2.1.1, A 11, hb.2.1.2.2, hb.2.2.2.2.2.1.1, ?_⟩
    unfold wJ2_remove wJ18_checkIndex wJ14_checkIndex
    rw [c1, if_neg (by decide), if_pos (by decide)]
    refine ⟨A 12, hb.2.2.2.2.2.1.2.1, hb.2.2.2.2.2.1.2.2.1, 0, A 100, by omega, by omega, rfl, (hb.2.2.2.2.2.2.2.2.1 0 (by decide)).1, ?_⟩
    unfold wJ2_fastRemove
    intro V1 e1
    have s1 : V1 (A 11) 0 2 = 40 := by rw [e1, up3_a, s2_i (by decide)]; exact c1
    rw [s1, if_neg (by decide)]
    refine ⟨1, 0, 39, rfl, rfl, rfl, by omega, by omega, by omega, by omega, fun i v hi hv => ?_, fun P2 p2 => ?_⟩
    · rw [(hb.2.2.2.2.2.2.2.2.1 (1 + i) (by omega)).1] at hv
      cases hv
      exact Or.inl (bx_st hb (stIa (by omega)))
    unfold jJ2_fastRemove_34
    intro V2 e2
    refine ⟨39, by omega, by omega, rfl, fun P3 p3 => ⟨bx_st hb (stIa (k := 0) (by decide)), ?_⟩⟩
    unfold wJ2_add
    intro V3 e3
    have n11 : ∀ b, b ≠ A 11 → V3 b = V b := fun b q => by rw [e3, up3_n q, e2, up3_n q, e1, up3_n q]
    have n12 : ∀ b, b ≠ A 12 → P3 b = P b := fun b q => by rw [p3, up2_n q, p2, up1_n q]
    have s3 : V3 (A 11) 0 2 = 39 := by rw [e3, up3_a, s2_i (by decide), e2, up3_a, s2_s]; rfl
    refine ⟨A 12, by rw [n12 _ (T_ne hb.2.2.2.2.2.1.1 hb.2.2.2.2.2.1.2.2.1 (by decide))]; exact hb.2.2.2.2.2.1.2.1, hb.2.2.2.2.2.1.2.2.1, ?_⟩
    unfold wJ2_add_2 jJ2_add_2_11
    rw [s3, eL, if_neg (by decide)]
    refine ⟨39, by omega, by omega, rfl, Or.inl (bx_st hb (stIa (k := 0) (by decide))), fun P4 p4 V4 e4 V5 e5 => ?_⟩
    have m11 : ∀ b, b ≠ A 11 → V4 b = V b := fun b q => by rw [e4, up3_n q]; exact n11 b q
    have m12 : ∀ b, b ≠ A 12 → P4 b = P b := fun b q => by rw [p4, up2_n q]; exact n12 b q
    have t0 : A 0 ≠ A 11 := T_ne hb.2.1.1 hb.2.2.2.2.2.1.1 (by decide)
    have e50 : V5 (A 0) = s2 (V (A 0)) 0 6 (nI 39) := by
      rw [e5, up3_a, m11 _ t0, c4]
      rfl
    have row : ∀ k, k < 40 → P4 (A 12) k = some (rot A (100 + k)) := by
      intro k hk
      by_cases ek : k = 39
      · subst ek
        rw [p4, up2_s, rot_l]
      · rw [p4, up2_i ek, p3, up2_i ek, p2, up1_s, rot_k (by omega)]
        rw [pk_cpy_in (Nat.zero_le _) (by omega)]
        rw [show 1 + (k - 0) = k + 1 by omega]
        exact (hb.2.2.2.2.2.2.2.2.1 (k + 1) (by omega)).1
    have hb4 : bxP T L P4 t (rot A) := by
      obtain ⟨z1, z2, z3, z4, z5, z6, z7, z8, z9, z10, z11⟩ := id hb
      have r : ∀ n, n < 100 → rot A n = A n := fun n hn => rot_lo (Or.inl hn)
      have pk4 : ∀ b x, T b = x → x ≠ 2004 → P4 b = P b := fun b x e q => m12 b (T_ne e z6.2.2.1 q)
      obtain ⟨k1, k2⟩ := rot_st ⟨z10, z11⟩
      unfold bxP
      rw [r 0 (by decide), r 1 (by decide), r 2 (by decide), r 3 (by decide), r 4 (by decide), r 5 (by decide), r 6 (by decide), r 7 (by decide), r 8 (by decide), r 9 (by decide), r 11 (by decide), r 12 (by decide), r 13 (by decide), r 14 (by decide), r 15 (by decide)]
      rw [pk4 t _ z1.1 (by decide), pk4 _ _ z2.1 (by decide), pk4 _ _ z3.1 (by decide), pk4 _ _ z5.1 (by decide), pk4 _ _ z6.1 (by decide), pk4 _ _ z7.1 (by decide)]
      refine ⟨z1, z2, z3, z4, z5, z6, z7, z8, fun k hk => ⟨row k hk, ?_⟩, k1, k2⟩
      rw [m12 _ (fun e => z8.2.1 e.symm), rot_lo (Or.inr (by omega))]
      exact (z9 k hk).2
    refine tail V5 P4 (rot A) 39 (by decide) hb4 (fun n hn => rot_lo (Or.inl hn)) (fun n hn => rot_lo (Or.inr hn)) (fun b q1 q2 => by rw [e5, up3_n q2]; exact m11 b q1) ?_ e50 m12 (fun s9 b hs hb40 hkp => ?_)
    · rw [e5, up3_n t0.symm, e4, up3_a, s2_s]; rfl
    · have eb : b = 40 := by
        have := c2.symm.trans hs
        rw [nI_eq (by omega) (by omega)] at this
        exact this.symm
      subst eb
      obtain ⟨m1, m2, -, m4⟩ := hkp
      obtain ⟨w1, w2, w3⟩ := m4 rfl
      refine ⟨w1, fun k hk => ?_, w3⟩
      obtain ⟨y1, y2⟩ := c5 (k + 1) (by omega)
      rw [rot_k hk]
      have ev : V5 (A (100 + (k + 1))) = V (A (100 + (k + 1))) := by
        have hT := bx_st hb (stIa (k := k + 1) (by omega))
        rw [e5, up3_n (T_ne hT hb.2.1.1 (by decide))]
        exact m11 _ (T_ne hT hb.2.2.2.2.2.1.1 (by decide))
      exact ⟨(y1.e ev).c hJ y2 (fun i hi => w2 k i hk hi), y2.c hJ (fun i hi => w2 k i hk hi)⟩
  · rw [if_neg (show ¬ nI a = 40 from fun z => e ((nI_eq (by omega) (by decide)).mp (show nI a = nI 40 from z)))]
    refine tail V P A a (by omega) hb (fun _ _ => rfl) (fun _ _ => rfl) (fun _ _ _ => rfl) c1 (by rw [← c4]; exact s2_id2.symm) (fun _ _ => rfl) (fun s9 b hs hb40 hkp => ?_)
    have eb : b = a := by
      have := c2.symm.trans hs
      rw [nI_eq (by omega) (by omega)] at this
      exact this.symm
    subst eb
    obtain ⟨m1, m2, m3, -⟩ := hkp
    obtain ⟨w1, w2, w3⟩ := m3 (by omega)
    refine ⟨w1, fun k hk => ?_, w3⟩
    obtain ⟨y1, y2⟩ := c5 k hk
    exact ⟨y1.c hJ y2 (fun i hi => w2 k i hk hi), y2.c hJ (fun i hi => w2 k i hk hi)⟩
end KQ
