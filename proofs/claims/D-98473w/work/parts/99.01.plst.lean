/-! PURE: a list grows; a land's things kept -/
set_option maxRecDepth 100000
/-- the heap is more; of what was there, what X says alone is changed -/
def kfr (X : Nat → Prop) (T L : Nat → Nat) (V : w_V) (P : w_P) (T' L' : Nat → Nat) (V' : w_V) (P' : w_P) : Prop := ∀ a, T a ≠ 0 → T' a = T a ∧ L' a = L a ∧ (¬ X a → V' a = V a ∧ P' a = P a)
section K
variable {X : Nat → Prop} {ad : Nat → Nat} {T L : Nat → Nat} {V : w_V} {P : w_P} {T' L' : Nat → Nat} {V' : w_V} {P' : w_P} {D : MS} {z : Nat}
theorem xr.k {r z' : Nat} (h : xr r z T L V P z' T' L' V' P') : kfr (fun a => a = r) T L V P T' L' V' P' := fun a ha => ⟨(h.2.2.1 a ha).1, (h.2.2.1 a ha).2.1, (h.2.2.1 a ha).2.2⟩
theorem lstR.k {l ar m : Nat} (h : lstR T L V P l ar m) (hx : kfr X T L V P T' L' V' P') (h1 : ¬ X l) : lstR T' L' V' P' l ar m := by
  obtain ⟨a1, a2, a3, a4, a5, a6⟩ := h
  obtain ⟨e1, e2, e3⟩ := hx l (ne0 a1)
  obtain ⟨g1, g2, g3⟩ := hx ar (ne0 a4)
  obtain ⟨e4, e5⟩ := e3 h1
  exact ⟨e1.trans a1, by rw [e4]; exact a2, by rw [e5]; exact a3, g1.trans a4, by rw [g2]; exact a5, by rw [g2]; exact a6⟩
theorem jdgR.k {a j : Nat} (h : jdgR T L V P a D j) (hx : kfr X T L V P T' L' V' P') (h3 : ∀ a, (T a = 13 ∨ T a = 14 ∨ T a = 15 ∨ T a = 1000) → ¬ X a) : jdgR T' L' V' P' a D j := by
  obtain ⟨h1, h2, r, g1, g2, g3, g4⟩ := h
  have ha : T a ≠ 0 ∧ ¬ X a := by
    rcases h1 with ⟨-, q⟩ | ⟨-, q⟩ | ⟨-, q⟩
    · exact ⟨ne0 q, h3 a (Or.inl q)⟩
    · exact ⟨ne0 q, h3 a (Or.inr (Or.inl q))⟩
    · exact ⟨ne0 q, h3 a (Or.inr (Or.inr (Or.inl q)))⟩
  obtain ⟨e1, e2, e3⟩ := hx a ha.1
  obtain ⟨e4, e5⟩ := e3 ha.2
  obtain ⟨i1, i2, i3⟩ := hx r (ne0 g2)
  obtain ⟨i4, i5⟩ := i3 (h3 r (Or.inr (Or.inr (Or.inr g2))))
  exact ⟨by rw [e1]; exact h1, by rw [e4]; exact h2, r, by rw [e5]; exact g1, i1.trans g2, i2.trans g3, fun i hi => by rw [i4]; exact g4 i hi⟩
theorem casR.k {a c : Nat} (h : casR T L V a D c) (hx : kfr X T L V P T' L' V' P') (h3 : ∀ a, T a = 1000 → ¬ X a) : casR T' L' V' a D c := by
  obtain ⟨g1, g2, g3⟩ := h
  obtain ⟨i1, i2, i3⟩ := hx a (ne0 g1)
  obtain ⟨i4, i5⟩ := i3 (h3 a g1)
  exact ⟨i1.trans g1, i2.trans g2, fun t ht => by rw [i4]; exact g3 t ht⟩
/-- the judges of a land, with their days -/
def jdL (T L : Nat → Nat) (V : w_V) (P : w_P) (l jl ja : Nat) (D : MS) : Prop := P l 6 = some jl ∧ lstR T L V P jl ja (nJ D) ∧ ∀ j, j < nJ D → ∃ a, P ja j = some a ∧ jdgR T L V P a D j ∧ V a 0 0 = D 7 j
def caL (T L : Nat → Nat) (V : w_V) (P : w_P) (l cl ca : Nat) (D : MS) : Prop := P l 7 = some cl ∧ lstR T L V P cl ca (nC D) ∧ ∀ c, c < nC D → ∃ a, P ca c = some a ∧ casR T L V a D c
theorem jdL.k {l jl ja : Nat} (h : jdL T L V P l jl ja D) (hx : kfr X T L V P T' L' V' P') (h0 : P' l 6 = P l 6) (h1 : ¬ X jl) (h2 : ¬ X ja) (h3 : ∀ a, (T a = 13 ∨ T a = 14 ∨ T a = 15 ∨ T a = 1000) → ¬ X a) : jdL T' L' V' P' l jl ja D := by
  obtain ⟨a1, a2, a3⟩ := h
  refine ⟨h0.trans a1, a2.k hx h1, fun j hj => ?_⟩
  obtain ⟨a, b1, b2', b3⟩ := a3 j hj
  have ha : T a ≠ 0 ∧ ¬ X a := by
    rcases b2'.1 with ⟨-, q⟩ | ⟨-, q⟩ | ⟨-, q⟩
    · exact ⟨ne0 q, h3 a (Or.inl q)⟩
    · exact ⟨ne0 q, h3 a (Or.inr (Or.inl q))⟩
    · exact ⟨ne0 q, h3 a (Or.inr (Or.inr (Or.inl q)))⟩
  refine ⟨a, ?_, b2'.k hx h3, ?_⟩
  · rw [((hx ja (ne0 a2.2.2.2.1)).2.2 h2).2]; exact b1
  · rw [((hx a ha.1).2.2 ha.2).1]; exact b3
theorem caL.k {l cl ca : Nat} (h : caL T L V P l cl ca D) (hx : kfr X T L V P T' L' V' P') (h0 : P' l 7 = P l 7) (h1 : ¬ X cl) (h2 : ¬ X ca) (h3 : ∀ a, T a = 1000 → ¬ X a) : caL T' L' V' P' l cl ca D := by
  obtain ⟨a1, a2, a3⟩ := h
  refine ⟨h0.trans a1, a2.k hx h1, fun j hj => ?_⟩
  obtain ⟨a, b1, b2'⟩ := a3 j hj
  exact ⟨a, by rw [((hx ca (ne0 a2.2.2.2.1)).2.2 h2).2]; exact b1, b2'.k hx h3⟩
theorem lawR.k {o : Option Nat} {lw : (Nat → Int32) → Int32} (h : lawR ad T V P o D lw) (hx : kfr X T L V P T' L' V' P') (h3 : ∀ a, eT T a → ¬ X a) : lawR ad T' V' P' o D lw := by
  rcases h with q | ⟨a, d, n, q1, q2, q3, q4, q5⟩
  · exact Or.inl q
  · exact Or.inr ⟨a, d, n, q1, q2, q3, q4, q5.k8 (fun a ha => ⟨(hx a (eT_ne0 ha)).1, (hx a (eT_ne0 ha)).2.2 (h3 a ha)⟩)⟩
/-- the same land told by other rows -/
theorem jdL.rows {D2 : MS} {l jl ja : Nat} (h : jdL T L V P l jl ja D) (h0 : nJ D2 = nJ D) (h1 : ∀ j, j < nJ D → D2 6 j = D 6 j ∧ D2 7 j = D 7 j ∧ D2 8 j = D 8 j ∧ D2 9 j = D 9 j ∧ ∀ i, i < stp D j → D2 10 (7 * j + i) = D 10 (7 * j + i)) : jdL T L V P l jl ja D2 := by
  obtain ⟨a1, a2, a3⟩ := h
  refine ⟨a1, by rw [h0]; exact a2, fun j hj => ?_⟩
  rw [h0] at hj
  obtain ⟨a, b1, ⟨b2', b3, r, b4, b5, b6, b7⟩, b8⟩ := a3 j hj
  obtain ⟨c1, c2, c3, c4, c5⟩ := h1 j hj
  have es : stp D2 j = stp D j := by show tn (D2 9 j) = tn (D 9 j); rw [c4]
  exact ⟨a, b1, ⟨by rw [c1]; exact b2', by rw [c3]; exact b3, r, b4, b5, by rw [es]; exact b6, fun i hi => by rw [es] at hi; rw [c5 i hi]; exact b7 i hi⟩, by rw [c2]; exact b8⟩
theorem caL.rows {D2 : MS} {l cl ca : Nat} (h : caL T L V P l cl ca D) (h0 : nC D2 = nC D) (h1 : ∀ c t, c < nC D → t < 9 → D2 11 (9 * c + t) = D 11 (9 * c + t)) : caL T L V P l cl ca D2 := by
  obtain ⟨a1, a2, a3⟩ := h
  refine ⟨a1, by rw [h0]; exact a2, fun j hj => ?_⟩
  rw [h0] at hj
  obtain ⟨a, b1, b2', b3, b4⟩ := a3 j hj
  exact ⟨a, b1, b2', b3, fun t ht => by rw [h1 j t hj ht]; exact b4 t ht⟩
theorem lawR.rows {D2 : MS} {o : Option Nat} {lw : (Nat → Int32) → Int32} (h : lawR ad T V P o D lw) (h0 : nS D2 = nS D) (h1 : ∀ i, i < nS D → D2 12 i = D 12 i) : lawR ad T V P o D2 lw := by
  have es : sigL D2 = sigL D := by
    unfold sigL
    rw [h0]
    exact List.map_congr_left (fun i hi => h1 i (List.mem_range.mp hi))
  rcases h with ⟨q1, q2⟩ | ⟨a, d, n, q1, q2, q3, q4, q5⟩
  · exact Or.inl ⟨q1, by rw [h0]; exact q2⟩
  · exact Or.inr ⟨a, d, n, q1, by rw [h0]; exact q2, q3, q4, by rw [es]; exact q5⟩
theorem gro9 : ∀ m, m < 7 → 0 < m → ¬ (nI m + (if nI m + 1 - nI m < (nI m : Int32) >>> ((1 : Int32) &&& 31) then (nI m : Int32) >>> ((1 : Int32) &&& 31) else nI m + 1 - nI m) ≤ 0) ∧ ¬ (2147483639 < nI m + (if nI m + 1 - nI m < (nI m : Int32) >>> ((1 : Int32) &&& 31) then (nI m : Int32) >>> ((1 : Int32) &&& 31) else nI m + 1 - nI m)) ∧ (nI m + (if nI m + 1 - nI m < (nI m : Int32) >>> ((1 : Int32) &&& 31) then (nI m : Int32) >>> ((1 : Int32) &&& 31) else nI m + 1 - nI m)) = nI (m + max 1 (m / 2)) ∧ (if nI (m + max 1 (m / 2)) < nI m then nI (m + max 1 (m / 2)) else nI m) = nI m := by decide +kernel
theorem gro_up {m : Nat} (hm : m < 7) (h0 : 0 < m) : m + 1 ≤ m + max 1 (m / 2) ∧ m + max 1 (m / 2) ≤ 9 := by omega
/-- a list has one more -/
theorem sX_add {U l ar m a : Nat} (hf : frs z T) (h : lstR T L V P l ar m) (hm : m < 7) (hL : L ar ≤ 9) (hp : 1 ≤ L ar) (ha : oT T a) (hel : ∀ i, i < m → ∃ v, P ar i = some v ∧ oT T v) (hU : 4 ≤ U) {post : Int32 → Nat → (Nat → Nat) → (Nat → Nat) → w_V → w_P → Prop}
    (k : ∀ (z' : Nat) (T' L' : Nat → Nat) (V' : w_V) (P' : w_P) (ar' : Nat), frs z' T' → z ≤ z' → kfr (fun b => b = l ∨ b = ar) T L V P T' L' V' P' → (ar' = ar ∨ T ar' = 0) → lstR T' L' V' P' l ar' (m + 1) → 1 ≤ L' ar' → L' ar' ≤ 9 → (∀ i, i < m → P' ar' i = P ar i) → P' ar' m = some a → post 1 z' T' L' V' P') : wFJ2_add ad U z T L V P l a post := by
  obtain ⟨h1, h2, h3, h4, h5, h6⟩ := h
  have hla : l ≠ ar := fun e => by rw [e, h4] at h1; cases h1
  unfold wFJ2_add
  intro V1 e1
  have v2 : V1 l 0 2 = nI m := by rw [e1, up3_a, s2_i (by decide)]; exact h2
  have v1 : ∀ b, b ≠ l → V1 b = V b := fun b hb => by rw [e1, up3_n hb]
  refine ⟨ar, h3, h4, U, 0, rfl, ?_⟩
  rw [v2]
  unfold wFJ2_add_2
  by_cases ef : m = L ar
  · rw [if_pos (by rw [ef])]
    obtain ⟨g1, g2, g3, g4⟩ := gro9 m hm (by omega)
    obtain ⟨u1, u2⟩ := gro_up hm (by omega)
    refine ⟨U, 0, rfl, ?_⟩
    unfold wFJ2_grow
    refine ⟨U, 0, rfl, ?_⟩
    unfold wFJ2_grow_2
    refine ⟨ar, h3, h4, ?_⟩
    rw [← ef, if_pos (show 0 < nI m from nI_lt (a := 0) (by omega) (by omega))]
    unfold jFJ2_grow_2_20
    refine ⟨0, U, (Nat.zero_add U).symm, ?_⟩
    unfold wFJ11_newLength
    rw [v2, if_neg g1, if_neg g2, g3]
    refine ⟨h1, ar, h3, h4, U, 0, rfl, ?_⟩
    unfold wFJ13_copyOf_2
    refine ⟨U, 0, rfl, ?_⟩
    unfold wFJ13_copyOf_3
    rw [if_pos rfl]
    refine ⟨m + max 1 (m / 2), 1, U - 1, rfl, by omega, Nat.le_refl _, by omega, by omega, ?_⟩
    intro o z1 T1 L1 V2 P1 hw
    obtain ⟨⟨x0a, x0b, x0c⟩, x2, x3, x4, x5, x6⟩ := ext.nw hf hw
    obtain ⟨y1, y2, y3, y4⟩ := x0c ar (ne0 h4)
    obtain ⟨w1, w2, w3, w4⟩ := x0c l (ne0 h1)
    have nao : ar ≠ o := fun e => by rw [e] at h4; rw [h4] at x2; cases x2
    have nlo : l ≠ o := fun e => by rw [e] at h1; rw [h1] at x2; cases x2
    refine ⟨y1.trans h4, ?_⟩
    unfold jFJ13_copyOf_3_24
    rw [y2, ← ef, g4, x4]
    refine ⟨0, 0, m, rfl, rfl, rfl, by omega, by omega, by omega, by omega, fun i v hi hv => ?_, fun P21 e21 => ⟨x3, w1.trans h1, x3, fun P24 e24 => ⟨x3, w1.trans h1, x3, ?_⟩⟩⟩
    · rw [y4, Nat.zero_add] at hv
      obtain ⟨v', hv', ho⟩ := hel i hi
      rw [hv'] at hv
      have ev : v' = v := by injection hv
      rw [← ev]
      have h0 : T v' ≠ 0 := by unfold oT at ho; rcases ho with q | q | q | q | q <;> (rw [q]; decide)
      unfold oT at ho ⊢
      rw [(x0c v' h0).1]
      exact ho
    · unfold jFJ2_add_2_11
      rw [x4]
      refine ⟨m, by omega, by omega, rfl, ?_, fun P6 e6 V7 e7 => ?_⟩
      · have h0 : T a ≠ 0 := by unfold oT at ha; rcases ha with q | q | q | q | q <;> (rw [q]; decide)
        unfold oT at ha ⊢
        rw [(x0c a h0).1]
        exact ha
      · have p24 : ∀ b, b ≠ l → b ≠ o → P24 b = P b ∨ T b = 0 := fun b hb hbo => by
          by_cases h0 : T b = 0
          · exact Or.inr h0
          · refine Or.inl ?_
            rw [e24, up2_n hb, e21, up1_n hbo]
            exact (x0c b h0).2.2.2
        have p24l : ∀ j, P24 l j = if j = 1 then some o else P l j := fun j => by
          rw [e24, up2_a, e21, up1_n nlo, w4]
        have p24o : P24 o = va_cpy (P ar) (P1 o) 0 0 m := by rw [e24, up2_n nlo.symm, e21, up1_s, y4]
        refine k z1 T1 L1 V7 P6 o x0a x0b (fun b hb => ?_) (Or.inr x2) ⟨w1.trans h1, ?_, ?_, x3, by rw [x4]; omega, by rw [x4]; omega⟩ (by rw [x4]; omega) (by rw [x4]; omega) (fun i hi => ?_) ?_
        · obtain ⟨c1, c2, c3, c4⟩ := x0c b hb
          have hbo : b ≠ o := fun e => hb (by rw [e]; exact x2)
          refine ⟨c1, c2, fun q => ⟨?_, ?_⟩⟩
          · have hbl : b ≠ l := fun e => q (Or.inl e)
            rw [e7, up3_n hbl, c3, v1 b hbl]
          · have hbl : b ≠ l := fun e => q (Or.inl e)
            rw [e6, up2_n hbo]
            rcases p24 b hbl hbo with h | h
            · exact h
            · exact absurd h hb
        · rw [e7, up3_a, s2_s, nI_1]
        · rw [e6, up2_n nlo, p24l, if_pos rfl]
        · rw [e6, up2_a, if_neg (by omega), p24o]
          exact (pk_cpy_in (Nat.zero_le _) (by omega)).trans (by rw [Nat.sub_zero, Nat.zero_add])
        · rw [e6, up2_a, if_pos rfl]
  · rw [if_neg (fun q => ef ((nI_eq (by omega) (by omega)).mp q))]
    unfold jFJ2_add_2_11
    refine ⟨m, by omega, h6, rfl, ha, fun P6 e6 V7 e7 => ?_⟩
    refine k z T L V7 P6 ar hf (Nat.le_refl _) (fun b hb => ⟨rfl, rfl, fun q => ⟨?_, ?_⟩⟩) (Or.inl rfl) ⟨h1, ?_, ?_, h4, by omega, h6⟩ hp hL (fun i hi => ?_) ?_
    · have hbl : b ≠ l := fun e => q (Or.inl e)
      rw [e7, up3_n hbl, v1 b hbl]
    · rw [e6, up2_n (fun e => q (Or.inr e))]
    · rw [e7, up3_a, s2_s, nI_1]
    · rw [e6, up2_n hla]; exact h3
    · rw [e6, up2_a, if_neg (by omega)]
    · rw [e6, up2_a, if_pos rfl]
end K
