/-! PURE: the first three, day by day (the class) and by their least day (the model) -/
set_option maxRecDepth 100000
theorem iterP_inv {f : pP → Nat → pP} {I : Nat → pP → Prop} {N : Nat} : ∀ (m k : Nat) (p : pP), k + m = N → I k p → (∀ k p, k < N → I k p → I (k + 1) (f p k)) → I N (iterP f p m k)
  | 0, k, p, h, h0, _ => by rw [← h]; exact h0
  | m + 1, k, p, h, h0, st => iterP_inv m (k + 1) (f p k) (by omega) (st k p (by omega) h0) st
theorem iterP_inv2 {f : pP → Nat → pP} {I : Nat → pP → Prop} {N : Nat} (m k : Nat) (p : pP) (h : k + m = N) (h0 : I k p) (st : ∀ q p, k ≤ q → q < N → I q p → I (q + 1) (f p q)) : I N (iterP f p m k) := (iterP_inv (I := fun q p => k ≤ q ∧ I q p) m k p h ⟨Nat.le_refl _, h0⟩ (fun q p hq hI => ⟨by omega, st q p hI.1 hq hI.2⟩)).2
theorem pMeet_nat {D : MS} (hL : lndOk D) (hO : stOk D) {a b : Nat} (ha : a < nJ D) : ∃ v, pMeet D a b = nI v ∧ (v ≤ 114 ∨ v = 100000) := by
  rcases firstI_or (c := pMeetC D a b) (f := fun i => pD D a i) (e := 100000) (stp D a) 0 with h | ⟨i, h1, h2, h3, h4⟩
  · exact ⟨100000, h, Or.inr rfl⟩
  · obtain ⟨d, g1, g2⟩ := pD_114 hL hO ha (show i < stp D a by omega)
    exact ⟨d, h4.trans g1, Or.inl g2⟩
theorem mx_nI {a b : Nat} (ha : a < 2147483648) (hb : b < 2147483648) : mx (nI a) (nI b) = nI (max a b) := by
  unfold mx
  by_cases h : a < b
  · rw [if_pos ((nI_ltI (by omega) (by omega)).mpr h), Nat.max_eq_right (by omega)]
  · rw [if_neg (fun q => h ((nI_ltI (by omega) (by omega)).mp q)), Nat.max_eq_left (by omega)]
/-- a good one's day -/
theorem good_day {D S : MS} (hS : sOk D S) {c a : Nat} (h : pGood D S c a = true) : ∃ d, S 1 (5 * c + a) = nI d ∧ d ≤ 114 := by
  obtain ⟨-, d, t, h1, h2, -⟩ := hS _ (good_said h)
  exact ⟨d, h1, h2⟩
theorem p3c_good {D S : MS} {c a b d : Nat} (h : p3c D S c a b d = true) : pGood D S c a = true ∧ pGood D S c b = true ∧ pGood D S c d = true := by
  unfold p3c at h
  rw [Bool.and_eq_true, Bool.and_eq_true, Bool.and_eq_true] at h
  exact ⟨h.1, h.2.1, h.2.2.1⟩
theorem pDay3_nat {D S : MS} (hS : sOk D S) {c a b d : Nat} (h : pGood D S c a = true ∧ pGood D S c b = true ∧ pGood D S c d = true) : ∃ x y z, S 1 (5 * c + a) = nI x ∧ S 1 (5 * c + b) = nI y ∧ S 1 (5 * c + d) = nI z ∧ x ≤ 114 ∧ y ≤ 114 ∧ z ≤ 114 ∧ pDay3 S c a b d = nI (max x (max y z)) := by
  obtain ⟨x, h1, h2⟩ := good_day hS h.1
  obtain ⟨y, h3, h4⟩ := good_day hS h.2.1
  obtain ⟨z, h5, h6⟩ := good_day hS h.2.2
  refine ⟨x, y, z, h1, h3, h5, h2, h4, h6, ?_⟩
  unfold pDay3
  rw [h1, h3, h5, mx_nI (by omega) (by omega), mx_nI (by omega) (by omega)]
def p3N (D S : MS) (c a b d : Nat) : Nat := tn (p3 D S c a b d)
theorem p3_nat {D S : MS} (hS : sOk D S) (c a b d : Nat) : p3 D S c a b d = nI (p3N D S c a b d) ∧ ((p3c D S c a b d = true ∧ p3N D S c a b d ≤ 114 ∧ pDay3 S c a b d = nI (p3N D S c a b d)) ∨ (p3c D S c a b d = false ∧ p3N D S c a b d = 100000)) := by
  unfold p3N p3
  by_cases h : p3c D S c a b d = true
  · rw [if_pos h]
    obtain ⟨x, y, z, -, -, -, h2, h4, h6, h7⟩ := pDay3_nat hS (p3c_good h)
    rw [h7, tn_nI (by omega)]
    exact ⟨rfl, Or.inl ⟨h, by omega, rfl⟩⟩
  · rw [if_neg h]
    exact ⟨rfl, Or.inr ⟨by simpa using h, rfl⟩⟩
def lx (a b d a' b' d' : Nat) : Prop := a < a' ∨ (a = a' ∧ (b < b' ∨ (b = b' ∧ d < d')))
def vld (n a b d : Nat) : Prop := a < b ∧ b < d ∧ d < n
/-- the pair found among the triples ahead of (a, b, d) -/
def gInv (D S : MS) (c a b d : Nat) (p : pP) : Prop := (p = (100000, 0) ∧ ∀ x y z, vld (nJ D) x y z → lx x y z a b d → p3N D S c x y z = 100000) ∨
  ∃ x y z, vld (nJ D) x y z ∧ lx x y z a b d ∧ p = (nI (p3N D S c x y z), bits3 x y z) ∧ p3N D S c x y z ≤ 114 ∧ (∀ u v w, vld (nJ D) u v w → lx u v w a b d → p3N D S c x y z ≤ p3N D S c u v w) ∧ ∀ u v w, vld (nJ D) u v w → lx u v w x y z → p3N D S c x y z < p3N D S c u v w
theorem gInv.same {D S : MS} {c a b d a' b' d' : Nat} {p : pP} (h : gInv D S c a b d p) (hs : ∀ x y z, vld (nJ D) x y z → (lx x y z a b d ↔ lx x y z a' b' d')) : gInv D S c a' b' d' p := by
  rcases h with ⟨h1, h2⟩ | ⟨x, y, z, h1, h2, h3, h4, h5, h6⟩
  · exact Or.inl ⟨h1, fun x y z hv hl => h2 x y z hv ((hs x y z hv).mpr hl)⟩
  · exact Or.inr ⟨x, y, z, h1, (hs x y z h1).mp h2, h3, h4, fun u v w hv hl => h5 u v w hv ((hs u v w hv).mpr hl), h6⟩
theorem gInv.step {D S : MS} (hS : sOk D S) {c a b d : Nat} {p : pP} (h : gInv D S c a b d p) (hv : vld (nJ D) a b d) : gInv D S c a b (d + 1) (pG1 D S c a b p d) := by
  have hl : ∀ x y z, vld (nJ D) x y z → (lx x y z a b (d + 1) ↔ lx x y z a b d ∨ (x = a ∧ y = b ∧ z = d)) := fun x y z _ => by unfold lx; omega
  have hself : lx a b d a b (d + 1) := by unfold lx; omega
  obtain ⟨e3, hc3⟩ := p3_nat hS c a b d
  unfold pG1
  rw [e3]
  have hb3 : p3N D S c a b d < 2147483648 := by omega
  rcases h with ⟨rfl, h2⟩ | ⟨x, y, z, h1, h2, rfl, h4, h5, h6⟩
  · show gInv D S c a b (d + 1) (if nI (p3N D S c a b d) < 100000 then _ else _)
    by_cases hlt : p3N D S c a b d < 100000
    · rw [if_pos (show nI (p3N D S c a b d) < 100000 from nI_lt (b := 100000) hlt (by decide))]
      refine Or.inr ⟨a, b, d, hv, hself, rfl, by omega, fun u v w g1 g2 => ?_, fun u v w g1 g2 => ?_⟩
      · rcases (hl u v w g1).mp g2 with q | ⟨rfl, rfl, rfl⟩
        · rw [h2 u v w g1 q]; omega
        · exact Nat.le_refl _
      · rw [h2 u v w g1 g2]; exact hlt
    · rw [if_neg (show ¬ nI (p3N D S c a b d) < 100000 from fun q => hlt ((nI_ltI (b := 100000) (by omega) (by decide)).mp q))]
      refine Or.inl ⟨rfl, fun u v w g1 g2 => ?_⟩
      rcases (hl u v w g1).mp g2 with q | ⟨rfl, rfl, rfl⟩
      · exact h2 u v w g1 q
      · omega
  · show gInv D S c a b (d + 1) (if nI (p3N D S c a b d) < nI (p3N D S c x y z) then _ else _)
    by_cases hlt : p3N D S c a b d < p3N D S c x y z
    · rw [if_pos ((nI_ltI (by omega) (by omega)).mpr hlt)]
      refine Or.inr ⟨a, b, d, hv, hself, rfl, by omega, fun u v w g1 g2 => ?_, fun u v w g1 g2 => ?_⟩
      · rcases (hl u v w g1).mp g2 with q | ⟨rfl, rfl, rfl⟩
        · have := h5 u v w g1 q; omega
        · exact Nat.le_refl _
      · have := h5 u v w g1 g2; omega
    · rw [if_neg (fun q => hlt ((nI_ltI (by omega) (by omega)).mp q))]
      refine Or.inr ⟨x, y, z, h1, (hl x y z h1).mpr (Or.inl h2), rfl, h4, fun u v w g1 g2 => ?_, h6⟩
      rcases (hl u v w g1).mp g2 with q | ⟨rfl, rfl, rfl⟩
      · exact h5 u v w g1 q
      · omega
/-- what the model finds -/
theorem pG_inv {D S : MS} (hS : sOk D S) (c : Nat) : gInv D S c (nJ D) 0 0 (pG D S c) := by
  have h3 : gInv D S c 0 0 0 (100000, 0) := Or.inl ⟨rfl, fun x y z _ hl => by unfold lx at hl; omega⟩
  refine iterP_inv (I := fun a p => gInv D S c a 0 0 p) (nJ D - 0) 0 _ (by omega) h3 (fun a p ha hp => ?_)
  refine gInv.same (a := a) (b := nJ D) (d := 0) ?_ (fun x y z hv => by unfold vld at hv; unfold lx; omega)
  unfold pG3
  refine iterP_inv2 (I := fun b p => gInv D S c a b 0 p) (nJ D - (a + 1)) (a + 1) _ (by omega) (hp.same (fun x y z hv => by unfold vld at hv; unfold lx; omega)) (fun b p hab hb hp => ?_)
  refine gInv.same (a := a) (b := b) (d := nJ D) ?_ (fun x y z hv => by unfold vld at hv; unfold lx; omega)
  unfold pG2
  refine iterP_inv2 (I := fun d p => gInv D S c a b d p) (nJ D - (b + 1)) (b + 1) _ (by omega) (hp.same (fun x y z hv => by unfold vld at hv; unfold lx; omega)) (fun d p hbd hd hp => ?_)
  exact hp.step hS ⟨by omega, by omega, hd⟩
/-- what the model says of a case -/
theorem pG_char {D S : MS} (hS : sOk D S) (c : Nat) : (pG D S c = (100000, 0) ∧ ∀ x y z, vld (nJ D) x y z → p3N D S c x y z = 100000) ∨
    ∃ x y z, vld (nJ D) x y z ∧ pG D S c = (nI (p3N D S c x y z), bits3 x y z) ∧ p3N D S c x y z ≤ 114 ∧ (∀ u v w, vld (nJ D) u v w → p3N D S c x y z ≤ p3N D S c u v w) ∧ ∀ u v w, vld (nJ D) u v w → lx u v w x y z → p3N D S c x y z < p3N D S c u v w := by
  have hall : ∀ x y z, vld (nJ D) x y z → lx x y z (nJ D) 0 0 := fun x y z hv => by unfold vld at hv; unfold lx; omega
  rcases pG_inv hS c with ⟨h1, h2⟩ | ⟨x, y, z, h1, h2, h3, h4, h5, h6⟩
  · exact Or.inl ⟨h1, fun x y z hv => h2 x y z hv (hall x y z hv)⟩
  · exact Or.inr ⟨x, y, z, h1, h3, h4, fun u v w hv => h5 u v w hv (hall u v w hv), h6⟩
/-- one of three, by a day -/
def one (D S : MS) (c dd j : Nat) : Bool := pGood D S c j && decide (¬ nI dd < S 1 (5 * c + j))
def apart (D S : MS) (c dd a b : Nat) : Bool := decide (¬ S 2 (5 * c + a) = S 2 (5 * c + b) ∧ ¬ clF (pMeet D a b) ≤ nI dd)
def sat (D S : MS) (c dd a b d : Nat) : Bool := one D S c dd a && (one D S c dd b && (apart D S c dd a b && (one D S c dd d && (apart D S c dd a d && apart D S c dd b d))))
theorem clF_day {v dd : Nat} (hv : v ≤ 114 ∨ v = 100000) (hd : dd < 140) : (clF (nI v) ≤ nI dd) ↔ v ≤ dd := by
  unfold clF
  rcases hv with h | h
  · rw [if_pos (show nI v < 100000 from nI_lt (b := 100000) (by omega) (by decide)), nI_leI (by omega) (by omega)]
  · subst h
    rw [if_neg (show ¬ nI 100000 < 100000 by decide), show (9999 : Int32) = nI 9999 from rfl, nI_leI (by omega) (by omega)]
    omega
/-- three by a day, then at the latest on their own day -/
theorem sat_p3 {D S : MS} (hL : lndOk D) (hO : stOk D) (hS : sOk D S) {c dd a b d : Nat} (hv : vld (nJ D) a b d) (hd : dd < 140) (h : sat D S c dd a b d = true) : p3N D S c a b d ≤ dd := by
  unfold sat one apart at h
  simp only [Bool.and_eq_true, decide_eq_true_eq] at h
  obtain ⟨⟨g1, l1⟩, ⟨g2, l2⟩, ⟨s1, m1⟩, ⟨g3, l3⟩, ⟨s2', m2⟩, s3, m3⟩ := h
  obtain ⟨x, y, z, e1, e2, e3, k1, k2, k3, e4⟩ := pDay3_nat hS (c := c) ⟨g1, g2, g3⟩
  unfold vld at hv
  obtain ⟨v1, q1, w1⟩ := pMeet_nat hL hO (b := b) (show a < nJ D by omega)
  obtain ⟨v2, q2, w2⟩ := pMeet_nat hL hO (b := d) (show a < nJ D by omega)
  obtain ⟨v3, q3, w3⟩ := pMeet_nat hL hO (b := d) (show b < nJ D by omega)
  rw [q1, clF_day w1 hd] at m1
  rw [q2, clF_day w2 hd] at m2
  rw [q3, clF_day w3 hd] at m3
  rw [e1, nI_ltI (by omega) (by omega)] at l1
  rw [e2, nI_ltI (by omega) (by omega)] at l2
  rw [e3, nI_ltI (by omega) (by omega)] at l3
  have hc : p3c D S c a b d = true := by
    unfold p3c
    rw [g1, g2, g3, e4, q1, q2, q3]
    simp only [Bool.true_and]
    refine decide_eq_true ⟨s1, s2', s3, ?_, ?_, ?_⟩ <;> rw [nI_leI (by omega) (by omega)] <;> omega
  rcases (p3_nat hS c a b d).2 with ⟨-, -, h3⟩ | ⟨h3, -⟩
  · rw [e4, nI_eq (by omega) (by rcases (p3_nat hS c a b d).2 with ⟨-, h, -⟩ | ⟨-, h⟩ <;> omega)] at h3
    omega
  · rw [hc] at h3; cases h3
/-- three by their own day -/
theorem p3_sat {D S : MS} (hL : lndOk D) (hO : stOk D) (hS : sOk D S) {c a b d : Nat} (hv : vld (nJ D) a b d) (h : p3N D S c a b d ≤ 114) : sat D S c (p3N D S c a b d) a b d = true := by
  rcases (p3_nat hS c a b d).2 with ⟨hc, -, h3⟩ | ⟨-, h3⟩
  · have hg := p3c_good hc
    obtain ⟨x, y, z, e1, e2, e3, k1, k2, k3, e4⟩ := pDay3_nat hS hg
    rw [e4, nI_eq (by omega) (by omega)] at h3
    unfold vld at hv
    obtain ⟨v1, q1, w1⟩ := pMeet_nat hL hO (b := b) (show a < nJ D by omega)
    obtain ⟨v2, q2, w2⟩ := pMeet_nat hL hO (b := d) (show a < nJ D by omega)
    obtain ⟨v3, q3, w3⟩ := pMeet_nat hL hO (b := d) (show b < nJ D by omega)
    unfold p3c at hc
    rw [hg.1, hg.2.1, hg.2.2, e4, q1, q2, q3, Bool.true_and, Bool.true_and, Bool.true_and] at hc
    obtain ⟨c1, c2, c3, c4, c5, c6⟩ := of_decide_eq_true hc
    rw [nI_leI (by omega) (by omega)] at c4 c5 c6
    unfold sat one apart
    rw [hg.1, hg.2.1, hg.2.2, e1, e2, e3, q1, q2, q3]
    simp only [Bool.true_and, Bool.and_eq_true, decide_eq_true_eq]
    refine ⟨?_, ?_, ⟨c1, ?_⟩, ?_, ⟨c2, ?_⟩, c3, ?_⟩
    · rw [nI_ltI (by omega) (by omega)]; omega
    · rw [nI_ltI (by omega) (by omega)]; omega
    · rw [clF_day w1 (by omega)]; omega
    · rw [nI_ltI (by omega) (by omega)]; omega
    · rw [clF_day w2 (by omega)]; omega
    · rw [clF_day w3 (by omega)]; omega
  · omega
/-- the class's look for three by a day -/
def thr (D S : MS) (c dd : Nat) (r : Int32) : Prop := (r = 0 ∧ ∀ x y z, vld (nJ D) x y z → sat D S c dd x y z = false) ∨ ∃ x y z, vld (nJ D) x y z ∧ sat D S c dd x y z = true ∧ r = bits3 x y z ∧ ∀ u v w, vld (nJ D) u v w → lx u v w x y z → sat D S c dd u v w = false
theorem bits_ne {n a b d : Nat} (hn : n ≤ 5) (h : vld n a b d) : ¬ bits3 a b d = 0 := by
  unfold vld at h
  rcases (show (a = 0 ∧ b = 1 ∧ d = 2) ∨ (a = 0 ∧ b = 1 ∧ d = 3) ∨ (a = 0 ∧ b = 1 ∧ d = 4) ∨ (a = 0 ∧ b = 2 ∧ d = 3) ∨ (a = 0 ∧ b = 2 ∧ d = 4) ∨ (a = 0 ∧ b = 3 ∧ d = 4) ∨ (a = 1 ∧ b = 2 ∧ d = 3) ∨ (a = 1 ∧ b = 2 ∧ d = 4) ∨ (a = 1 ∧ b = 3 ∧ d = 4) ∨ (a = 2 ∧ b = 3 ∧ d = 4) by omega) with h | h | h | h | h | h | h | h | h | h <;> obtain ⟨rfl, rfl, rfl⟩ := h <;> decide
/-- the class's days and the model's least day agree -/
theorem thr_lt {D S : MS} (hL : lndOk D) (hO : stOk D) (hS : sOk D S) {c dd : Nat} (hd : dd < 140) {r : Int32} (h : thr D S c dd r) (hlt : nI dd < (pG D S c).1) : r = 0 := by
  rcases h with ⟨h, -⟩ | ⟨x, y, z, hv, hs, -, -⟩
  · exact h
  · exfalso
    have h1 := sat_p3 hL hO hS hv hd hs
    rcases pG_char hS c with ⟨-, h2⟩ | ⟨u, v, w, -, h3, h4, h5, -⟩
    · rw [h2 x y z hv] at h1; omega
    · rw [h3] at hlt
      have := h5 x y z hv
      have hlt2 : nI dd < nI (p3N D S c u v w) := hlt
      rw [nI_ltI (by omega) (by omega)] at hlt2
      omega
theorem thr_eq {D S : MS} (hL : lndOk D) (hO : stOk D) (hS : sOk D S) {c dd : Nat} (hd : dd < 140) {r : Int32} (h : thr D S c dd r) (he : nI dd = (pG D S c).1) : r = (pG D S c).2 ∧ ¬ r = 0 := by
  have hJ5 := hL.2.1.2
  rcases pG_char hS c with ⟨h2, -⟩ | ⟨u, v, w, hv, h3, h4, h5, h6⟩
  · rw [h2] at he
    have he2 : nI dd = nI 100000 := he
    rw [nI_eq (by omega) (by omega)] at he2
    omega
  · rw [h3] at he ⊢
    have he2 : nI dd = nI (p3N D S c u v w) := he
    rw [nI_eq (by omega) (by omega)] at he2
    subst he2
    have hsat := p3_sat hL hO hS hv h4
    rcases h with ⟨-, h⟩ | ⟨x, y, z, hv2, hs, hr, hf⟩
    · rw [h u v w hv] at hsat; cases hsat
    · have h1 := sat_p3 hL hO hS hv2 hd hs
      have h7 := h5 x y z hv2
      have heq : x = u ∧ y = v ∧ z = w := by
        by_cases q1 : lx x y z u v w
        · have := h6 x y z hv2 q1; omega
        · by_cases q2 : lx u v w x y z
          · have := hf u v w hv q2; rw [this] at hsat; cases hsat
          · unfold lx at q1 q2; omega
      obtain ⟨rfl, rfl, rfl⟩ := heq
      exact ⟨hr, by rw [hr]; exact bits_ne hJ5 hv⟩
