/-! PURE: soonest, news -/
set_option maxRecDepth 100000
def gDay (D S : MS) (c : Nat) : Int32 := (pG D S c).1
def fstF (D S : MS) : Nat → Int32
  | 0 => 100000
  | c + 1 => if gDay D S c < fstF D S c then gDay D S c else fstF D S c
def lstF (D S : MS) : Nat → Int32
  | 0 => -1
  | c + 1 => if lstF D S c < orN (gDay D S c) then orN (gDay D S c) else lstF D S c
theorem fstF_s {D S : MS} {c : Nat} : fstF D S (c + 1) = if gDay D S c < fstF D S c then gDay D S c else fstF D S c := rfl
theorem lstF_s {D S : MS} {c : Nat} : lstF D S (c + 1) = if lstF D S c < orN (gDay D S c) then orN (gDay D S c) else lstF D S c := rfl
theorem orN_nI {m : Nat} (h : m ≤ 600) : orN (nI m) = nI m := by
  unfold orN
  rw [if_pos (show nI m < 100000 from nI_lt (b := 100000) (by omega) (by decide))]
theorem orN_no : orN (nI 100000) = -1 := by
  unfold orN
  rw [if_neg (by decide)]
theorem fstF_nat {D S : MS} (hS : sOk D S) : ∀ c, ∃ m, fstF D S c = nI m ∧ (m ≤ 114 ∨ m = 100000)
  | 0 => ⟨100000, rfl, Or.inr rfl⟩
  | c + 1 => by
    obtain ⟨m, h1, h2⟩ := fstF_nat hS c
    obtain ⟨g, g1, g2, -⟩ := pG_nat hS c
    rw [fstF_s]
    by_cases h : gDay D S c < fstF D S c
    · rw [if_pos h]; exact ⟨g, g1, g2⟩
    · rw [if_neg h]; exact ⟨m, h1, h2⟩
theorem lstF_nat {D S : MS} (hS : sOk D S) : ∀ c, lstF D S c = -1 ∨ ∃ m, lstF D S c = nI m ∧ m ≤ 114
  | 0 => Or.inl rfl
  | c + 1 => by
    obtain ⟨g, g1, g2, -⟩ := pG_nat hS c
    have e : gDay D S c = nI g := g1
    rw [lstF_s]
    by_cases h : lstF D S c < orN (gDay D S c)
    · rw [if_pos h, e]
      rcases g2 with q | q
      · rw [orN_nI (by omega)]; exact Or.inr ⟨g, rfl, q⟩
      · subst q; rw [orN_no]; exact Or.inl rfl
    · rw [if_neg h]; exact lstF_nat hS c
def rSoon (sg : MS) (lw : (Nat → Int32) → Int32) (w : Int32) : Int32 := if w = 0 then orN (fstF (gh sg) (pTell (gh sg) lw) (nC sg)) else lstF (gh sg) (pTell (gh sg) lw) (nC sg)
theorem neg_lt {n : Nat} (h : n < 2147483648) : (-1 : Int32) < nI n := Int32.lt_of_lt_of_le (b := 0) (by decide) (nI_pos' h)
/-- the least of x and f 0 .. f (k - 1) -/
def mnN (f : Nat → Nat) (x : Nat) : Nat → Nat
  | 0 => x
  | k + 1 => min (mnN f x k) (f k)
theorem mnN_le {f : Nat → Nat} {x d : Nat} : ∀ k, mnN f x k ≤ d ↔ x ≤ d ∨ ∃ j, j < k ∧ f j ≤ d
  | 0 => ⟨fun h => Or.inl h, fun h => h.elim id (fun ⟨j, h, _⟩ => absurd h (by omega))⟩
  | k + 1 => by
    show min (mnN f x k) (f k) ≤ d ↔ _
    constructor
    · intro h
      rcases Nat.le_total (mnN f x k) (f k) with q | q
      · rw [Nat.min_eq_left q] at h
        rcases (mnN_le k).mp h with h | ⟨j, h1, h2⟩
        · exact Or.inl h
        · exact Or.inr ⟨j, by omega, h2⟩
      · rw [Nat.min_eq_right q] at h
        exact Or.inr ⟨k, by omega, h⟩
    · rintro (h | ⟨j, h1, h2⟩)
      · exact Nat.le_trans (Nat.min_le_left _ _) ((mnN_le k).mpr (Or.inl h))
      · by_cases e : j = k
        · subst e; exact Nat.le_trans (Nat.min_le_right _ _) h2
        · exact Nat.le_trans (Nat.min_le_left _ _) ((mnN_le k).mpr (Or.inr ⟨j, by omega, h2⟩))
theorem mn_step {a b : Nat} (ha : a < 2147483648) (hb : b < 2147483648) : (if nI b < nI a then nI b else nI a) = nI (min a b) := by
  by_cases h : b < a
  · rw [if_pos (nI_lt h ha), Nat.min_eq_right (by omega)]
  · rw [if_neg (nI_nlt (by omega) hb), Nat.min_eq_left (by omega)]
def nvJ (D S : MS) (c t j : Nat) : Nat := if S 0 (5 * c + j) = -1 then 100000 else tn (S 1 (5 * c + j) + nw D (S 2 (5 * c + j)) (nI t))
def nvW (D : MS) (c t w : Nat) : Nat := if D 26 (3 * w) = nI c then tn (D 26 (3 * w + 2) + nw D (D 26 (3 * w + 1)) (nI t)) else 100000
def cvJ (D S : MS) (c t j : Nat) : Nat := if S 0 (5 * c + j) = -1 then 9999 else tn (S 1 (5 * c + j) + clF (nw D (S 2 (5 * c + j)) (nI t)))
def cvW (D : MS) (c t w : Nat) : Nat := if D 26 (3 * w) = nI c then tn (D 26 (3 * w + 2) + clF (nw D (D 26 (3 * w + 1)) (nI t))) else 9999
def mNews (D S : MS) (c t : Nat) : Nat := mnN (nvJ D S c t) (mnN (nvW D c t) 100000 (tn (D 0 30))) (nJ D)
def cNews (D S : MS) (c t : Nat) : Nat := mnN (cvW D c t) (mnN (cvJ D S c t) 9999 (nJ D)) (tn (D 0 30))
theorem nv_pair {d w : Nat} (hd : d ≤ 114) (hw : w ≤ 400 ∨ w = 100000) : ∃ n m, nI d + nI w = nI n ∧ nI d + clF (nI w) = nI m ∧ n ≤ 100200 ∧ m ≤ 10200 ∧ ((n ≤ 600 ∧ m = n) ∨ (100000 ≤ n ∧ 9999 ≤ m)) := by
  rcases hw with h | h
  · refine ⟨d + w, d + w, nI_add _ _, ?_, by omega, by omega, Or.inl ⟨by omega, rfl⟩⟩
    rw [show clF (nI w) = nI w from if_pos (nI_lt (b := 100000) (by omega) (by decide))]
    exact nI_add _ _
  · subst h
    refine ⟨d + 100000, d + 9999, nI_add _ _, ?_, by omega, by omega, Or.inr ⟨by omega, by omega⟩⟩
    rw [show clF (nI 100000) = nI 9999 from if_neg (by decide)]
    exact nI_add _ _
section NW
variable {D S : MS}
theorem nvJ_ok (hL : lndOk D) (hF : farOk D) (hS : sOk D S) {c t j : Nat} (ht : t < nT D) : (nvJ D S c t j ≤ 600 ∧ cvJ D S c t j = nvJ D S c t j) ∨ (100000 ≤ nvJ D S c t j ∧ 9999 ≤ cvJ D S c t j ∧ nvJ D S c t j ≤ 100200 ∧ cvJ D S c t j ≤ 10200) := by
  unfold nvJ cvJ
  by_cases h : S 0 (5 * c + j) = -1
  · rw [if_pos h, if_pos h]; exact Or.inr ⟨by omega, by omega, by omega, by omega⟩
  · rw [if_neg h, if_neg h]
    obtain ⟨-, d, u, d1, d2, u1, u2⟩ := hS _ h
    obtain ⟨w, w1, w2⟩ := nw_nat hL hF u2 ht
    obtain ⟨n, m, e1, e2, e3, e4, e5⟩ := nv_pair d2 w2
    rw [d1, u1, w1, e1, e2, tn_nI (by omega), tn_nI (by omega)]
    rcases e5 with ⟨q1, q2⟩ | ⟨q1, q2⟩
    · exact Or.inl ⟨q1, q2⟩
    · exact Or.inr ⟨q1, q2, e3, e4⟩
theorem nvW_ok (hL : lndOk D) (hF : farOk D) (hO : stOk D) {c t w : Nat} (hw : w < tn (D 0 30)) (ht : t < nT D) : (nvW D c t w ≤ 600 ∧ cvW D c t w = nvW D c t w) ∨ (100000 ≤ nvW D c t w ∧ 9999 ≤ cvW D c t w ∧ nvW D c t w ≤ 100200 ∧ cvW D c t w ≤ 10200) := by
  unfold nvW cvW
  by_cases h : D 26 (3 * w) = nI c
  · rw [if_pos h, if_pos h]
    obtain ⟨u, d, u1, u2, d1, d2⟩ := hO.2.2.2.2.1 w hw
    obtain ⟨v, w1, w2⟩ := nw_nat hL hF u2 ht
    obtain ⟨n, m, e1, e2, e3, e4, e5⟩ := nv_pair (show d ≤ 114 by omega) w2
    rw [d1, u1, w1, e1, e2, tn_nI (by omega), tn_nI (by omega)]
    rcases e5 with ⟨q1, q2⟩ | ⟨q1, q2⟩
    · exact Or.inl ⟨q1, q2⟩
    · exact Or.inr ⟨q1, q2, e3, e4⟩
  · rw [if_neg h, if_neg h]; exact Or.inr ⟨by omega, by omega, by omega, by omega⟩
theorem news_eq (hL : lndOk D) (hF : farOk D) (hO : stOk D) (hS : sOk D S) {c t : Nat} (ht : t < nT D) : (if nI (cNews D S c t) < 9999 then nI (cNews D S c t) else -1) = orN (nI (mNews D S c t)) := by
  have key : ∀ d, d < 9999 → (cNews D S c t ≤ d ↔ mNews D S c t ≤ d) := by
    intro d hd
    unfold cNews mNews
    rw [mnN_le, mnN_le, mnN_le, mnN_le]
    constructor
    · rintro ((h | ⟨j, h1, h2⟩) | ⟨w, h1, h2⟩)
      · omega
      · exact Or.inr ⟨j, h1, by rcases nvJ_ok (c := c) (j := j) hL hF hS ht with q | q <;> omega⟩
      · exact Or.inl (Or.inr ⟨w, h1, by rcases nvW_ok (c := c) hL hF hO h1 ht with q | q <;> omega⟩)
    · rintro ((h | ⟨w, h1, h2⟩) | ⟨j, h1, h2⟩)
      · omega
      · exact Or.inr ⟨w, h1, by rcases nvW_ok (c := c) hL hF hO h1 ht with q | q <;> omega⟩
      · exact Or.inl (Or.inr ⟨j, h1, by rcases nvJ_ok (c := c) (j := j) hL hF hS ht with q | q <;> omega⟩)
  have hm : mNews D S c t ≤ 600 ∨ mNews D S c t = 100000 := by
    have h1 : mNews D S c t ≤ 100000 := by
      unfold mNews
      rw [mnN_le, mnN_le]
      exact Or.inl (Or.inl (Nat.le_refl _))
    by_cases h : mNews D S c t = 100000
    · exact Or.inr h
    · refine Or.inl ?_
      have h2 : mNews D S c t ≤ 99999 := by omega
      have h3 : mNews D S c t ≤ 600 := by
        unfold mNews at h2 ⊢
        rw [mnN_le, mnN_le] at h2 ⊢
        rcases h2 with (h | ⟨w, h1, h2⟩) | ⟨j, h1, h2⟩
        · omega
        · exact Or.inl (Or.inr ⟨w, h1, by rcases nvW_ok (c := c) hL hF hO h1 ht with q | q <;> omega⟩)
        · exact Or.inr ⟨j, h1, by rcases nvJ_ok (c := c) (j := j) hL hF hS ht with q | q <;> omega⟩
      exact h3
  have hc : cNews D S c t ≤ 9999 := by
    unfold cNews
    rw [mnN_le, mnN_le]
    exact Or.inl (Or.inl (Nat.le_refl _))
  rcases hm with h | h
  · have e : cNews D S c t = mNews D S c t := by
      have q1 := (key (mNews D S c t) (by omega)).mpr (Nat.le_refl _)
      have q2 := (key (cNews D S c t) (by omega)).mp (Nat.le_refl _)
      omega
    rw [e, orN_nI h, if_pos (show nI (mNews D S c t) < 9999 from nI_lt (b := 9999) (by omega) (by decide))]
  · have e : ¬ cNews D S c t ≤ 9998 := fun q => by
      have := (key 9998 (by decide)).mp q
      omega
    rw [show cNews D S c t = 9999 by omega, h, orN_no, if_neg (by decide)]
theorem nbw_mn (hL : lndOk D) (hF : farOk D) (hO : stOk D) {c t : Nat} (ht : t < nT D) : ∀ k, k ≤ tn (D 0 30) → nbwF D c (nI t) k = nI (mnN (nvW D c t) 100000 k)
  | 0, _ => rfl
  | k + 1, hk => by
    have ih := nbw_mn hL hF hO (c := c) ht k (by omega)
    have hv := nvW_ok (c := c) hL hF hO (show k < tn (D 0 30) by omega) ht
    have hm : mnN (nvW D c t) 100000 k ≤ 100000 := (mnN_le k).mpr (Or.inl (Nat.le_refl _))
    show (if D 26 (3 * k) = nI c then (if D 26 (3 * k + 2) + nw D (D 26 (3 * k + 1)) (nI t) < nbwF D c (nI t) k then D 26 (3 * k + 2) + nw D (D 26 (3 * k + 1)) (nI t) else nbwF D c (nI t) k) else nbwF D c (nI t) k) = nI (min (mnN (nvW D c t) 100000 k) (nvW D c t k))
    rw [ih]
    by_cases h : D 26 (3 * k) = nI c
    · rw [if_pos h]
      have e : D 26 (3 * k + 2) + nw D (D 26 (3 * k + 1)) (nI t) = nI (nvW D c t k) := by
        obtain ⟨v, v1, v2⟩ := word_nat hL hF hO (show k < tn (D 0 30) by omega) ht
        unfold nvW
        rw [if_pos h, v1, tn_nI (by omega)]
      rw [e]
      exact mn_step (by omega) (by omega)
    · rw [if_neg h]
      have e : nvW D c t k = 100000 := if_neg h
      rw [e, Nat.min_eq_left hm]
end NW
section Q5
variable {ad : Nat → Nat} {T L : Nat → Nat} {V : w_V} {P : w_P} {t : Nat} {A : Nat → Nat} {sg : MS} {lw : (Nat → Int32) → Int32}
theorem qX_soonest (h : cR ad T L V P t A sg lw) (hb : bxP T L P t A) {w : Int32} {post : Int32 → w_V → Prop} {xp : String → w_V → w_P → Prop} (hp : ¬ w < 0 → ¬ 1 < w → ∀ V9, cfr V V9 t A → post (rSoon sg lw w) V9) (h0 : w < 0 ∨ 1 < w → xp cNSE V P) : wX1_soonest ad T L V P t w post xp := by
  have hC := h.1.1.2.2.1
  obtain ⟨-, g2, g3, g4, g5⟩ := h.M
  have hSo := pTell_ok g2 lw
  unfold wX1_soonest
  refine sX_within (fun q1 q2 => sX_there1 (sX1_tries h hb (fun V9 a1 a2 a3 => ?_))) (fun q => sX_there0 (h0 q))
  have hR := h.fr hb a1
  have hp' := hp q1 q2 V9 a1
  unfold rSoon at hp'
  generalize hS : pTell (gh sg) lw = S at *
  obtain ⟨v0, hv0⟩ : ∃ v0 : Nat → Int32, v0 = fun c => if w = 0 then orN (fstF (gh sg) S c) else lstF (gh sg) S c := ⟨_, rfl⟩
  have hi0 : (-1 : Int32) = v0 0 := by
    rw [hv0]
    show (-1 : Int32) = if w = 0 then orN 100000 else -1
    by_cases c0 : w = 0
    · rw [if_pos c0]; decide
    · rw [if_neg c0]
  refine loop0 (F := fun n i (x : Int32) => lX1_soonest_18 ad T L P t w post xp n x i V9) (nC sg) (fun c x => x = v0 c) (-1) hi0 (fun n c x hc hx kk => ?_)
  show lX1_soonest_18 ad T L P t w post xp (n + 1) x (nI c) V9
  unfold lX1_soonest_18 jX1_soonest_67 jX1_soonest_70
  refine sX1_cases hR hb ?_
  by_cases hcN : c < nC sg
  · rw [if_neg (nI_ge hcN (by omega)), nI_1]
    refine ⟨A 4, hb.1.2.2.2.2.2.2, hb.2.2.2.2.1.1, c, by omega, rfl, ?_⟩
    rw [(a3.2.2.2 c (gh_c.mpr hcN)).2.1, hS]
    obtain ⟨m, hm, hm2, -⟩ := pG_nat hSo c
    have eg : gDay (gh sg) S c = nI m := hm
    rw [hm]
    obtain ⟨f, f1, f2⟩ := fstF_nat hSo c
    have hl := lstF_nat hSo c
    have hn := fun y e => kk y hcN e
    rw [hv0] at hn hx
    dsimp only at hn hx
    rw [fstF_s, lstF_s, eg] at hn
    rcases hm2 with hm2 | hm2
    · rw [orN_nI (by omega)] at hn ⊢
      rw [if_neg (nI_ne1 (by omega))]
      by_cases c0 : w = 0
      · rw [if_pos c0] at hx hn
        rw [f1] at hx hn
        rcases f2 with f2 | f2
        · rw [orN_nI (by omega)] at hx
          rw [if_neg (by rw [hx]; exact nI_ne1 (by omega)), if_pos c0, hx]
          by_cases hlt : f ≤ m
          · rw [if_pos (nI_le hlt (by omega))]
            exact hn _ (by rw [if_neg (nI_nlt hlt (by omega)), orN_nI (by omega)])
          · rw [if_neg (nI_ge (by omega) (by omega))]
            exact hn _ (by rw [if_pos (nI_lt (by omega) (by omega)), orN_nI (by omega)])
        · subst f2
          rw [orN_no] at hx
          rw [if_pos hx]
          exact hn _ (by rw [if_pos (nI_lt (by omega) (by omega)), orN_nI (by omega)])
      · rw [if_neg c0] at hx hn
        rcases hl with hl | ⟨l, l1, l2⟩
        · rw [hl] at hx hn
          rw [if_pos hx]
          exact hn _ (by rw [if_pos (neg_lt (by omega))])
        · rw [l1] at hx hn
          rw [if_neg (by rw [hx]; exact nI_ne1 (by omega)), if_neg c0, hx]
          by_cases hlt : m ≤ l
          · rw [if_pos (nI_le hlt (by omega))]
            exact hn _ (by rw [if_neg (nI_nlt hlt (by omega))])
          · rw [if_neg (nI_ge (by omega) (by omega))]
            exact hn _ (by rw [if_pos (nI_lt (by omega) (by omega))])
    · subst hm2
      rw [orN_no] at hn ⊢
      rw [if_pos rfl]
      refine hn x ?_
      rw [hx]
      by_cases c0 : w = 0
      · rw [if_pos c0, if_pos c0, f1, if_neg (nI_nlt (by omega) (by omega))]
      · rw [if_neg c0, if_neg c0]
        rcases hl with hl | ⟨l, l1, l2⟩
        · rw [hl, if_neg (by decide)]
        · rw [l1, if_neg (fun q => nI_pos (n := l) (by omega) (Int32.lt_of_lt_of_le q (by decide)))]
  · have ec : c = nC sg := by omega
    rw [if_pos (nI_le (by omega) (by omega)), hx, hv0, ec]
    exact hp'
theorem qM_soonest (h : cR ad T L V P t A sg lw) {w : Int32} (h1 : ¬ w < 0) (h2 : ¬ 1 < w) {post : Int32 → MS → Prop} (hp : ∀ s9 : MS, mfr sg s9 → s9 0 2 = 0 → post (rSoon sg lw w) s9) : wM_soonest sg w post := by
  have hC := h.1.1.2.2.1
  unfold wM_soonest
  rw [if_neg h1, if_pos (Int32.not_lt.mp h2)]
  refine sM_now h (fun s a1 a2 a3 a4 a5 => ?_)
  have hp' := hp s a1 a2
  unfold rSoon at hp'
  generalize hS : pTell (gh sg) lw = S at *
  have e4 : s 4 5 = nI (nC sg) := by rw [a4.a (k := 4) rfl, gh_k (by decide)]; exact hC.1
  refine loop0 (F := fun n i (q : Int32 × Int32) => lM_soonest_33 w post _ n q.1 q.2 i s) (nC sg) (fun c q => q.1 = fstF (gh sg) S c ∧ q.2 = lstF (gh sg) S c) (100000, -1) ⟨rfl, rfl⟩ (fun n c q hc hq kk => ?_)
  obtain ⟨x, y⟩ := q
  obtain ⟨hx, hy⟩ := hq
  dsimp only at hx hy
  show lM_soonest_33 w post _ (n + 1) x y (nI c) s
  unfold lM_soonest_33
  rw [e4]
  by_cases hcN : c < nC sg
  · rw [if_neg (nI_ge hcN (by omega)), nI_1]
    refine ⟨c, by omega, rfl, c, by omega, rfl, sM_orNone ?_⟩
    rw [(a5.2 c (gh_c.mpr hcN)).2.1]
    exact kk (_, _) hcN ⟨by rw [fstF_s, ← hx]; rfl, by rw [lstF_s, ← hy]; rfl⟩
  · have ec : c = nC sg := by omega
    rw [if_pos (nI_le (by omega) (by omega))]
    rw [← ec, ← hx, ← hy] at hp'
    by_cases c0 : w = 0
    · rw [if_pos c0] at hp' ⊢; exact sM_orNone hp'
    · rw [if_neg c0] at hp' ⊢; exact hp'
theorem qM_soonest0 {w : Int32} (hx : w < 0 ∨ 1 < w) {post : Int32 → MS → Prop} (hp : ∀ b s9, mfr sg s9 → s9 0 2 = 1 → post b s9) : wM_soonest sg w post := by
  unfold wM_soonest jM_soonest_14
  by_cases h1 : w < 0
  · rw [if_pos h1]; exact sM_fail hp
  · rw [if_neg h1, if_neg (fun z => absurd (hx.resolve_left h1) (Int32.not_lt.mpr z))]; exact sM_fail hp
def rNews (sg : MS) (lw : (Nat → Int32) → Int32) (c k : Nat) : Int32 := orN (nI (mNews (gh sg) (pTell (gh sg) lw) c k))
theorem qX_news (h : cR ad T L V P t A sg lw) (hb : bxP T L P t A) {x y : Int32} {post : Int32 → w_V → Prop} {xp : String → w_V → w_P → Prop} (hp : ∀ c k, c < nC sg → k < nT sg → x = nI c → y = nI k → ∀ V9, cfr V V9 t A → post (rNews sg lw c k) V9) (h0 : notN x (nC sg) ∨ notN y (nT sg) → xp cNSE V P) : wX1_news ad T L V P t x y post xp := by
  have hT := h.1.1.1
  have hC := h.1.1.2.2.1
  have hJ := h.1.1.2.1
  obtain ⟨-, g2, g3, g4, g5⟩ := h.M
  have hSo := pTell_ok g2 lw
  have hLk := gh_ag sg
  unfold wX1_news
  refine sX_caseAt h hb (fun c hc ec => sX_townAt h hb (fun k hk ek => sX1_tries h hb (fun V9 a1 a2 a3 => ?_)) (fun q => h0 (Or.inr q))) (fun q => h0 (Or.inl q))
  have hR := h.fr hb a1
  have hp' := hp c k hc hk ec ek V9 a1
  subst ec ek
  unfold rNews at hp'
  have hkD : k < nT (gh sg) := by rw [hLk.nT]; exact hk
  rw [← news_eq g2 g3 g4 hSo hkD] at hp'
  obtain ⟨-, a4, -, -⟩ := a3
  generalize hS : pTell (gh sg) lw = S at *
  have hland : lndR ad T L V9 P (A 5) (A 6) (A 7) (A 8) (A 9) (A 10) (gh sg) lw := hLk.land h.1.1 hR.1.2.2.1
  have hway : farR V9 (A 5) (gh sg) := hLk.ways h.1.1 hR.1.2.2.2
  -- those who said it
  refine loop0 (F := fun n i (x : Int32) => lX1_news_22 ad T L P t (nI c) (nI k) post xp _ n x i V9) (nJ sg) (fun j x => x = nI (mnN (cvJ (gh sg) S c k) 9999 j)) 9999 rfl (fun n j x hj hx kk => ?_)
  show lX1_news_22 ad T L P t (nI c) (nI k) post xp _ (n + 1) x (nI j) V9
  unfold lX1_news_22 jX1_news_93
  obtain ⟨q1, q2, -⟩ := hR.1.2.2.1.2.2.1
  refine ⟨A 5, hb.1.2.1, hR.1.2.2.1.1.1, A 6, q1, q2.1, ?_⟩
  unfold wJ2_size
  rw [q2.2.1]
  dsimp only
  by_cases hjN : j < nJ sg
  · rw [if_neg (nI_ge hjN (by omega)), nI_1]
    refine ⟨A 4, hb.1.2.2.2.2.2.2, hb.2.2.2.2.1.1, 5 * c + j, by omega, ix5 c j, ?_⟩
    obtain ⟨s1, s2', s3⟩ := a4 (5 * c + j) (by omega)
    have hmn : mnN (cvJ (gh sg) S c k) 9999 j ≤ 9999 := (mnN_le j).mpr (Or.inl (Nat.le_refl _))
    have hcv := nvJ_ok (c := c) (j := j) g2 g3 hSo hkD
    have hn := fun y e => kk y hjN e
    rw [s1]
    by_cases hs : S 0 (5 * c + j) = -1
    · rw [if_pos hs]
      refine hn x ?_
      rw [hx]
      show _ = nI (min (mnN (cvJ (gh sg) S c k) 9999 j) (cvJ (gh sg) S c k j))
      rw [show cvJ (gh sg) S c k j = 9999 from if_pos hs, Nat.min_eq_left hmn]
    · rw [if_neg hs]
      refine ⟨A 4, hb.1.2.2.2.2.2.2, hb.2.2.2.2.1.1, 5 * c + j, by omega, ix5 c j, A 5, hb.1.2.1, hR.1.2.2.1.1.1, A 4, hb.1.2.2.2.2.2.2, hb.2.2.2.2.1.1, 5 * c + j, by omega, ix5 c j, ?_⟩
      rw [s2', s3]
      have hSo' := hSo
      obtain ⟨-, d, u, d1, d2, u1, u2⟩ := hSo' _ hs
      have ecv : S 1 (5 * c + j) + clF (nw (gh sg) (S 2 (5 * c + j)) (nI k)) = nI (cvJ (gh sg) S c k j) := by
        unfold cvJ
        rw [if_neg hs, d1, u1]
        obtain ⟨w, w1, w2⟩ := nw_nat g2 g3 u2 hkD
        obtain ⟨n', m', e1, e2, e3, e4, e5⟩ := nv_pair d2 w2
        rw [w1, e2, tn_nI (by omega)]
      rw [u1] at ecv ⊢
      refine sX_newsL g2 g3 hland hway u2 hkD (hn _ ?_)
      rw [ecv, hx]
      exact mn_step (by omega) (by omega)
  · have ej : j = nJ sg := by omega
    rw [if_pos (nI_le (by omega) (by omega))]
    obtain ⟨wn, wo⟩ := g4.2.1
    have ew : gh sg 0 30 = sg 0 30 := gh_0 (by decide) (by decide) (by decide) (by decide)
    -- the words
    refine loop0 (F := fun n i (x : Int32) => lX1_news_102 ad T L P t (nI c) (nI k) post xp _ n x i V9) (tn (gh sg 0 30)) (fun w x => x = nI (mnN (cvW (gh sg) c k) (mnN (cvJ (gh sg) S c k) 9999 (nJ sg)) w)) x (by rw [hx, ej]; rfl) (fun n w x hw hx kk => ?_)
    show lX1_news_102 ad T L P t (nI c) (nI k) post xp _ (n + 1) x (nI w) V9
    unfold lX1_news_102 jX1_news_172
    have b3 := (hR.2.1.1.st hR.2.1.2 hJ.2 (bx_st hb stI2))
    obtain ⟨-, -, -, b5, -, -, b8, -, -⟩ := b3
    refine ⟨A 2, hb.1.2.2.2.2.1, bx_st hb stI2, ?_⟩
    rw [b5, wn]
    by_cases hwN : w < tn (gh sg 0 30)
    · rw [if_neg (nI_ge hwN (by omega)), nI_1]
      have hn := fun y e => kk y hwN e
      have hcw := nvW_ok (c := c) g2 g3 g4 hwN hkD
      have hmn : mnN (cvW (gh sg) c k) (mnN (cvJ (gh sg) S c k) 9999 (nJ sg)) w ≤ 9999 := (mnN_le w).mpr (Or.inl ((mnN_le _).mpr (Or.inl (Nat.le_refl _))))
      refine ⟨A 2, hb.1.2.2.2.2.1, bx_st hb stI2, 3 * w, by omega, ix3 w, ?_⟩
      rw [b8 (3 * w) (by omega)]
      by_cases hs : gh sg 26 (3 * w) = nI c
      · rw [if_pos hs]
        refine ⟨A 2, hb.1.2.2.2.2.1, bx_st hb stI2, 3 * w + 2, by omega, ix32 w, A 5, hb.1.2.1, hR.1.2.2.1.1.1, A 2, hb.1.2.2.2.2.1, bx_st hb stI2, 3 * w + 1, by omega, ix31 w, ?_⟩
        rw [b8 (3 * w + 2) (by omega), b8 (3 * w + 1) (by omega)]
        obtain ⟨u, d, u1, u2, d1, d2⟩ := g4.2.2.2.2.1 w hwN
        have ecv : gh sg 26 (3 * w + 2) + clF (nw (gh sg) (gh sg 26 (3 * w + 1)) (nI k)) = nI (cvW (gh sg) c k w) := by
          unfold cvW
          rw [if_pos hs, d1, u1]
          obtain ⟨v, w1, w2⟩ := nw_nat g2 g3 u2 hkD
          obtain ⟨n', m', e1, e2, e3, e4, e5⟩ := nv_pair (show d ≤ 114 by omega) w2
          rw [w1, e2, tn_nI (by omega)]
        rw [u1] at ecv ⊢
        refine sX_newsL g2 g3 hland hway u2 hkD (hn _ ?_)
        rw [ecv, hx]
        exact mn_step (by omega) (by omega)
      · rw [if_neg hs]
        refine hn x ?_
        rw [hx]
        show _ = nI (min (mnN (cvW (gh sg) c k) (mnN (cvJ (gh sg) S c k) 9999 (nJ sg)) w) (cvW (gh sg) c k w))
        rw [show cvW (gh sg) c k w = 9999 from if_neg hs, Nat.min_eq_left hmn]
    · have e : w = tn (gh sg 0 30) := by omega
      rw [if_pos (nI_le (by omega) (by omega))]
      have ex : x = nI (cNews (gh sg) S c k) := by
        rw [hx, e]
        unfold cNews
        rw [hLk.nJ]
      rw [ex]
      by_cases q : nI (cNews (gh sg) S c k) < 9999
      · rw [if_pos q] at hp' ⊢; exact hp'
      · rw [if_neg q] at hp' ⊢; exact hp'
theorem qM_news (h : cR ad T L V P t A sg lw) {c k : Nat} (hc : c < nC sg) (hk : k < nT sg) {post : Int32 → MS → Prop} (hp : ∀ s9 : MS, mfr sg s9 → s9 0 2 = 0 → post (rNews sg lw c k) s9) : wM_news sg (nI c) (nI k) post := by
  have hT := h.1.1.1
  have hC := h.1.1.2.2.1
  have hJ := h.1.1.2.1
  obtain ⟨-, g2, g3, g4, g5⟩ := h.M
  have hSo := pTell_ok g2 lw
  have hLk := gh_ag sg
  have hkD : k < nT (gh sg) := by rw [hLk.nT]; exact hk
  have hcD : c < nC (gh sg) := by rw [hLk.nC]; exact hc
  unfold wM_news
  refine sM_isCase (s2c4 hC.1) (by omega) (fun _ _ _ => ?_) (fun q => absurd rfl (q c hc))
  rw [if_neg (by decide)]
  refine sM_isTown (s2c4 hT.1) (by omega) (fun _ _ _ => ?_) (fun q => absurd rfl (q k hk))
  rw [if_neg (by decide)]
  refine sM_now h (fun s a1 a2 a3 a4 a5 => sM_newsByWord a4 g2 g4 hkD ?_)
  have hp' := hp s a1 a2
  unfold rNews mNews at hp'
  have hm := a5.1.2.2
  generalize hS : pTell (gh sg) lw = S at *
  rw [nbw_mn g2 g3 g4 hkD _ (Nat.le_refl _)]
  have hmw : mnN (nvW (gh sg) c k) 100000 (tn (gh sg 0 30)) ≤ 100000 := (mnN_le _).mpr (Or.inl (Nat.le_refl _))
  refine loop0 (F := fun n i (x : Int32) => lM_news_42 (nI c) (nI k) post _ n x i s) (nJ sg) (fun j x => x = nI (mnN (nvJ (gh sg) S c k) (mnN (nvW (gh sg) c k) 100000 (tn (gh sg 0 30))) j)) _ rfl (fun n j x hj hx kk => ?_)
  show lM_news_42 (nI c) (nI k) post _ (n + 1) x (nI j) s
  unfold lM_news_42
  rw [a4.a (k := 4) rfl, gh_k (by decide), hJ.1]
  by_cases hjN : j < nJ sg
  · rw [if_neg (nI_ge hjN (by omega)), nI_1]
    have hn := fun y e => kk y hjN e
    have hv := nvJ_ok (c := c) (j := j) g2 g3 hSo hkD
    have hmn : mnN (nvJ (gh sg) S c k) (mnN (nvW (gh sg) c k) 100000 (tn (gh sg 0 30))) j ≤ 100000 := (mnN_le j).mpr (Or.inl hmw)
    have hSo' := hSo
    by_cases hs : S 0 (5 * c + j) = -1
    · unfold wM_newsBy
      refine ⟨5 * c + j, by omega, ix5 c j, ?_⟩
      rw [(hm (5 * c + j) (by omega)).1, if_pos hs, hx]
      refine hn _ ?_
      show (if nI 100000 < _ then nI 100000 else _) = nI (min (mnN (nvJ (gh sg) S c k) (mnN (nvW (gh sg) c k) 100000 (tn (gh sg 0 30))) j) (nvJ (gh sg) S c k j))
      rw [show nvJ (gh sg) S c k j = 100000 from if_pos hs]
      exact mn_step (by omega) (by omega)
    · refine sM_newsBy a4 g2 hm hSo' hcD (gh_j.mpr hjN) hkD hs (hn _ ?_)
      have e : S 1 (5 * c + j) + nw (gh sg) (S 2 (5 * c + j)) (nI k) = nI (nvJ (gh sg) S c k j) := by
        obtain ⟨-, d, u, d1, d2, u1, u2⟩ := hSo' _ hs
        obtain ⟨w, w1, w2⟩ := nw_nat g2 g3 u2 hkD
        obtain ⟨n', m', e1, e2, e3, e4, e5⟩ := nv_pair d2 w2
        unfold nvJ
        rw [if_neg hs, d1, u1, w1, e1, tn_nI (by omega)]
      rw [e, hx]
      exact mn_step (by omega) (by omega)
  · have ej : j = nJ sg := by omega
    rw [if_pos (nI_le (by omega) (by omega))]
    refine sM_orNone ?_
    rw [hx, ej]
    rw [hLk.nJ] at hp'
    exact hp'
theorem qM_news0 (h : cR ad T L V P t A sg lw) {x y : Int32} (hx : notN x (nC sg) ∨ notN y (nT sg)) {post : Int32 → MS → Prop} (hp : ∀ b s9, mfr sg s9 → s9 0 2 = 1 → post b s9) : wM_news sg x y post := by
  have hT := h.1.1.1
  have hC := h.1.1.2.2.1
  unfold wM_news jM_news_21
  refine sM_isCase (s2c4 hC.1) (by omega) (fun k q1 q2 => ?_) (fun q => by rw [if_pos rfl]; exact sM_fail hp)
  rw [if_neg (by decide)]
  refine sM_isTown (s2c4 hT.1) (by omega) (fun i z1 z2 => ?_) (fun q => by rw [if_pos rfl]; exact sM_fail hp)
  rcases hx with q | q
  · exact absurd q2 (q k q1)
  · exact absurd z2 (q i z1)
end Q5
