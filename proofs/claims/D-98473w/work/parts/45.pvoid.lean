/-! PURE: news, voids, by the model -/
set_option maxRecDepth 100000
theorem b2_01 (b : Bool) : b2 b = 0 ∨ b2 b = 1 := by
  cases b
  · exact Or.inl rfl
  · exact Or.inr rfl
theorem foldN_inv {P : MS → Prop} {f : MS → Nat → MS} {s : MS} : ∀ n : Nat, P s → (∀ k s, k < n → P s → P (f s k)) → P (foldN f s n)
  | 0, h, _ => h
  | n + 1, h, st => st n _ (by omega) (foldN_inv n h (fun k s hk hs => st k s (by omega) hs))
/-- what is said: how, when, where -/
def sOk (D S : MS) : Prop := ∀ k, ¬ S 0 k = -1 → (S 0 k = 0 ∨ S 0 k = 1) ∧ ∃ d t, S 1 k = nI d ∧ d ≤ 114 ∧ S 2 k = nI t ∧ t < nT D
theorem pTell_ok {D : MS} (hL : lndOk D) (lw : (Nat → Int32) → Int32) : sOk D (pTell D lw) := by
  refine foldN_inv 115 (fun k hk => absurd rfl hk) (fun k S hk hS => ?_)
  refine foldN_inv (nJ D) hS (fun j S hj hS => ?_)
  rw [pHear_eq]
  split
  · exact hS
  · next h1 =>
    split
    · exact hS
    · obtain ⟨t, ht, htT⟩ := (pAt_nat hL hj (nI k)).resolve_left h1
      have hT9 := hL.1.2
      rw [ht, tn_nI (by omega)]
      refine foldN_inv (nC D) hS (fun c S hc hS => ?_)
      rw [pHear1_eq]
      split
      · exact hS
      · split
        · intro q hq
          by_cases e : q = 5 * c + j
          · subst e
            rw [s2_k (show (0 : Nat) ≠ 2 by decide), s2_k (show (0 : Nat) ≠ 1 by decide), s2_s]
            refine ⟨b2_01 _, k, t, ?_, by omega, s2_s, htT⟩
            rw [s2_k (show (1 : Nat) ≠ 2 by decide), s2_s]
          · rw [s2_i e, s2_i e, s2_i e] at hq
            rw [s2_i e, s2_i e, s2_i e, s2_i e, s2_i e, s2_i e, s2_i e, s2_i e, s2_i e]
            exact hS q hq
        · exact hS
theorem nI_div {a b : Nat} (ha : a < 2147483648) (hb : b < 2147483648) : nI a / nI b = nI (a / b) := by
  apply Int32.toInt_inj.mp
  have h1 : a / b < 2147483648 := Nat.lt_of_le_of_lt (Nat.div_le_self a b) ha
  rw [Int32.toInt_div, nI_toInt ha, nI_toInt hb, nI_toInt h1]
  rw [show (a : Int).tdiv b = ((a / b : Nat) : Int) from rfl]
  obtain ⟨q, hq⟩ : ∃ q, a / b = q := ⟨_, rfl⟩
  rw [hq] at h1 ⊢
  refine Int.bmod_eq_of_le ?_ ?_
  · omega
  · omega
/-- days that news takes -/
def nw (D : MS) (a b : Int32) : Int32 := if D 25 (tn ((9 : Int32) * a + b)) < 100000 then (D 25 (tn ((9 : Int32) * a + b)) * D 4 3 + 9) / 10 else 100000
theorem nw_nat {D : MS} (hL : lndOk D) (hF : farOk D) {a b : Nat} (ha : a < nT D) (hb : b < nT D) : ∃ w, nw D (nI a) (nI b) = nI w ∧ (w ≤ 400 ∨ w = 100000) := by
  have hT9 := hL.1.2
  obtain ⟨f, hf, hf2⟩ := hF a b ha hb
  obtain ⟨g, hg, hg2⟩ := hL.2.2.2.2.1
  unfold nw
  rw [ix9, tn_nI (by omega), hf, hg]
  rcases hf2 with hf2 | hf2
  · rw [if_pos (show nI f < 100000 from nI_lt (b := 100000) (by omega) (by decide))]
    have hfg : f * g ≤ 90 * 40 := Nat.mul_le_mul hf2 hg2
    refine ⟨(f * g + 9) / 10, ?_, Or.inl (by omega)⟩
    rw [nI_mul, show (9 : Int32) = nI 9 from rfl, nI_add, show (10 : Int32) = nI 10 from rfl, nI_div (by omega) (by decide)]
  · subst hf2
    exact ⟨100000, by rw [if_neg (show ¬ nI 100000 < 100000 by decide)]; rfl, Or.inr rfl⟩
theorem sM_newsDays {sg D : MS} (hI : inp sg D) (hL : lndOk D) {a b : Nat} (ha : a < nT D) (hb : b < nT D) {post : Int32 → Prop} (h : post (nw D (nI a) (nI b))) : wM_newsDays sg (nI a) (nI b) post := by
  have hT9 := hL.1.2
  unfold wM_newsDays wM_couple
  unfold nw at h
  rw [ix9, tn_nI (by omega)] at h
  refine ⟨9 * a + b, by omega, ix9 a b, ?_⟩
  rw [hI.a (k := 25) rfl, hI.a (k := 4) rfl]
  by_cases h1 : D 25 (9 * a + b) < 100000
  · rw [if_pos h1] at h ⊢; exact h
  · rw [if_neg h1] at h ⊢; exact h
/-- by when news of a case is in a town by a word -/
def nbwF (D : MS) (c : Nat) (t : Int32) : Nat → Int32
  | 0 => 100000
  | k + 1 => if D 26 (3 * k) = nI c then (if D 26 (3 * k + 2) + nw D (D 26 (3 * k + 1)) t < nbwF D c t k then D 26 (3 * k + 2) + nw D (D 26 (3 * k + 1)) t else nbwF D c t k) else nbwF D c t k
theorem word_nat {D : MS} (hL : lndOk D) (hF : farOk D) (hS : stOk D) {k t : Nat} (hk : k < tn (D 0 30)) (ht : t < nT D) : ∃ v, D 26 (3 * k + 2) + nw D (D 26 (3 * k + 1)) (nI t) = nI v ∧ v ≤ 100099 := by
  obtain ⟨u, d, h1, h2, h3, h4⟩ := hS.2.2.2.2.1 k hk
  obtain ⟨w, h5, h6⟩ := nw_nat hL hF h2 ht
  exact ⟨d + w, by rw [h1, h3, h5, nI_add], by omega⟩
theorem nbwF_nat {D : MS} (hL : lndOk D) (hF : farOk D) (hS : stOk D) {c t : Nat} (ht : t < nT D) : ∀ k, k ≤ tn (D 0 30) → ∃ v, nbwF D c (nI t) k = nI v ∧ v ≤ 100000 ∧ ∀ d, d < 100000 → (v ≤ d ↔ ∃ w, w < k ∧ D 26 (3 * w) = nI c ∧ ¬ nI d < D 26 (3 * w + 2) + nw D (D 26 (3 * w + 1)) (nI t))
  | 0, _ => ⟨100000, rfl, Nat.le_refl _, fun d hd => ⟨fun h => absurd h (by omega), fun ⟨w, h, _⟩ => absurd h (by omega)⟩⟩
  | k + 1, hk => by
    obtain ⟨v, h1, h2, h3⟩ := nbwF_nat hL hF hS (c := c) ht k (by omega)
    obtain ⟨x, g1, g2⟩ := word_nat hL hF hS (show k < tn (D 0 30) by omega) ht
    unfold nbwF
    rw [g1, h1]
    by_cases hc : D 26 (3 * k) = nI c
    · rw [if_pos hc]
      have hx : ∀ d, d < 100000 → ((∃ w, w < k + 1 ∧ D 26 (3 * w) = nI c ∧ ¬ nI d < D 26 (3 * w + 2) + nw D (D 26 (3 * w + 1)) (nI t)) ↔ x ≤ d ∨ v ≤ d) := by
        intro d hd
        constructor
        · rintro ⟨w, q1, q2, q3⟩
          by_cases e : w = k
          · subst e
            rw [g1, nI_ltI (by omega) (by omega)] at q3
            exact Or.inl (by omega)
          · exact Or.inr ((h3 d hd).mpr ⟨w, by omega, q2, q3⟩)
        · rintro (q | q)
          · exact ⟨k, by omega, hc, by rw [g1, nI_ltI (by omega) (by omega)]; omega⟩
          · obtain ⟨w, q1, q2, q3⟩ := (h3 d hd).mp q
            exact ⟨w, by omega, q2, q3⟩
      by_cases hl : nI x < nI v
      · rw [if_pos hl]
        rw [nI_ltI (by omega) (by omega)] at hl
        exact ⟨x, rfl, by omega, fun d hd => by rw [hx d hd]; omega⟩
      · rw [if_neg hl]
        rw [nI_ltI (by omega) (by omega)] at hl
        exact ⟨v, rfl, h2, fun d hd => by rw [hx d hd]; omega⟩
    · rw [if_neg hc]
      refine ⟨v, rfl, h2, fun d hd => ?_⟩
      rw [h3 d hd]
      constructor
      · rintro ⟨w, q1, q2, q3⟩; exact ⟨w, by omega, q2, q3⟩
      · rintro ⟨w, q1, q2, q3⟩
        by_cases e : w = k
        · subst e; exact absurd q2 hc
        · exact ⟨w, by omega, q2, q3⟩
theorem sM_newsByWord {sg D : MS} (hI : inp sg D) (hL : lndOk D) (hS : stOk D) {c t : Nat} (ht : t < nT D) {post : Int32 → Prop} (h : post (nbwF D c (nI t) (tn (D 0 30)))) : wM_newsByWord sg (nI c) (nI t) post := by
  unfold wM_newsByWord
  obtain ⟨hF, hF5⟩ := hS.2.1
  refine loop0 (F := fun n i s => lM_newsByWord_6 sg (nI c) (nI t) post n s i) (tn (D 0 30)) (fun k s => s = nbwF D c (nI t) k) 100000 rfl (fun n k s hk hs kk => ?_)
  show lM_newsByWord_6 sg (nI c) (nI t) post (n + 1) s (nI k)
  unfold lM_newsByWord_6 jM_newsByWord_61
  rw [hI.f (j := 30) rfl, hF, hI.1 26 rfl]
  by_cases hkN : k < tn (D 0 30)
  · rw [if_neg (nI_ge hkN (by omega))]
    refine ⟨3 * k, by omega, ix3 k, ?_⟩
    have hn := kk (nbwF D c (nI t) (k + 1)) hkN rfl
    rw [← nI_1] at hn
    unfold nbwF at hn
    by_cases h1 : D 26 (3 * k) = nI c
    · rw [if_pos h1]
      rw [if_pos h1, ← hs] at hn
      refine ⟨3 * k + 2, by omega, ix32 k, 3 * k + 1, by omega, ix31 k, ?_⟩
      obtain ⟨u, d, g1, g2, g3, g4⟩ := hS.2.2.2.2.1 k hkN
      rw [g1] at hn ⊢
      exact sM_newsDays hI hL g2 ht hn
    · rw [if_neg h1]
      rw [if_neg h1, ← hs] at hn
      exact hn
  · have ek : k = tn (D 0 30) := by omega
    rw [if_pos (nI_le (by omega) (by omega)), hs, ek]
    exact h
def pVW (D : MS) (c : Nat) (t d : Int32) : Bool := anyI (fun w => decide (D 26 (3 * w) = nI c ∧ ¬ d < D 26 (3 * w + 2) + nw D (D 26 (3 * w + 1)) t)) (tn (D 0 30)) 0
def pVJ1 (D S : MS) (c j : Nat) (t d : Int32) (q : Nat) : Bool := decide (¬ q = j ∧ ¬ S 0 (5 * c + q) = -1 ∧ ¬ S 1 (5 * c + j) ≤ S 1 (5 * c + q) ∧ ¬ d < S 1 (5 * c + q) + nw D (S 2 (5 * c + q)) t)
def pVJ (D S : MS) (c j : Nat) (t d : Int32) : Bool := anyI (pVJ1 D S c j t d) (nJ D) 0
def pVi (D S : MS) (c j i : Nat) : Bool := decide (¬ S 1 (5 * c + j) < pD D j i) && (pVW D c (pT D j i) (pD D j i) || pVJ D S c j (pT D j i) (pD D j i))
def bitI (x i : Int32) : Bool := decide (((x >>> (i &&& 31)) &&& 1) = 1)
def pVoid (D S : MS) (c j : Nat) : Bool := decide (¬ S 0 (5 * c + j) = -1) && (!bitI (D 0 41) (nI j) && ((decide (nI c = D 0 43) && bitI (D 0 42) (nI j)) || anyI (pVi D S c j) (stp D j) 0))
theorem sM_newsBy {sg D S : MS} (hI : inp sg D) (hL : lndOk D) (hm : mS sg S) (hS : sOk D S) {c q t : Nat} (hc : c < nC D) (hq : q < nJ D) (ht : t < nT D) (hs : ¬ S 0 (5 * c + q) = -1) {post : Int32 → Prop} (h : post (S 1 (5 * c + q) + nw D (S 2 (5 * c + q)) (nI t))) : wM_newsBy sg (nI c) (nI q) (nI t) post := by
  have hC6 := hL.2.2.1.2
  have hJ5 := hL.2.1.2
  unfold wM_newsBy
  obtain ⟨h1, h2⟩ := hm (5 * c + q) (by omega)
  obtain ⟨g1, g2⟩ := h2 hs
  refine ⟨5 * c + q, by omega, ix5 c q, ?_⟩
  rw [h1, if_neg hs]
  refine ⟨5 * c + q, by omega, ix5 c q, 5 * c + q, by omega, ix5 c q, ?_⟩
  rw [g1, g2]
  obtain ⟨-, d, u, -, -, k3, k4⟩ := hS _ hs
  rw [k3] at h ⊢
  exact sM_newsDays hI hL k4 ht h
theorem sM_isVoided {sg D S : MS} (hI : inp sg D) (hL : lndOk D) (hF : farOk D) (hO : stOk D) (hP : stops sg D) (hm : mS sg S) (hS : sOk D S) {c j : Nat} (hc : c < nC D) (hj : j < nJ D) {post : Int32 → Prop} (h : post (b2 (pVoid D S c j))) : wM_isVoided sg (nI c) (nI j) post := by
  have hC6 := hL.2.2.1.2
  obtain ⟨hJ, hJ5⟩ := hL.2.1
  have hT9 := hL.1.2
  obtain ⟨m1, m2⟩ := hm (5 * c + j) (by omega)
  unfold wM_isVoided
  refine ⟨5 * c + j, by omega, ix5 c j, ?_⟩
  rw [m1, hI.f (j := 41) rfl, hI.f (j := 42) rfl, hI.f (j := 43) rfl]
  unfold pVoid at h
  by_cases hs : S 0 (5 * c + j) = -1
  · rw [if_pos hs]
    rw [show decide (¬ S 0 (5 * c + j) = -1) = false from decide_eq_false (fun q => q hs), Bool.false_and] at h
    exact h
  rw [if_neg hs]
  rw [show decide (¬ S 0 (5 * c + j) = -1) = true from decide_eq_true hs, Bool.true_and] at h
  obtain ⟨e46, e47⟩ := m2 hs
  obtain ⟨-, don, u, hdon, hdon2, -, -⟩ := hS _ hs
  by_cases hb : ((D 0 41 >>> (nI j &&& 31)) &&& 1) = 1
  · rw [if_pos hb]
    rw [show bitI (D 0 41) (nI j) = true from decide_eq_true hb, Bool.not_true, Bool.false_and] at h
    exact h
  rw [if_neg hb]
  rw [show bitI (D 0 41) (nI j) = false from decide_eq_false hb, Bool.not_false, Bool.true_and] at h
  have rest : post (b2 (anyI (pVi D S c j) (stp D j) 0)) → jM_isVoided_52 sg (nI c) (nI j) ((5 : Int32) * nI c + nI j) post := by
    intro h
    obtain ⟨-, h9, h91, h97, -⟩ := hL.2.2.2.2.2.1 j hj
    unfold jM_isVoided_52
    refine loop0 (F := fun n i (_ : Unit) => lM_isVoided_55 sg (nI c) (nI j) ((5 : Int32) * nI c + nI j) post n i) (stp D j) (fun i _ => anyI (pVi D S c j) (stp D j) 0 = anyI (pVi D S c j) (stp D j - i) i) () rfl (fun n i s hi hs1 kk => ?_)
    show lM_isVoided_55 sg (nI c) (nI j) ((5 : Int32) * nI c + nI j) post (n + 1) (nI i)
    unfold lM_isVoided_55
    refine ⟨j, by omega, rfl, ?_⟩
    rw [hI.a (k := 9) rfl, h9]
    by_cases hiN : i < stp D j
    · rw [if_neg (nI_ge hiN (by omega))]
      refine ⟨7 * j + i, by omega, ix7 j i, 5 * c + j, by omega, ix5 c j, ?_⟩
      obtain ⟨e38, e39⟩ := hP j i hj hiN
      rw [e46, e39]
      by_cases hl : S 1 (5 * c + j) < pD D j i
      · -- later stops are later
        rw [if_pos hl]
        have hf : anyI (pVi D S c j) (stp D j - i) i = false := by
          cases hx : anyI (pVi D S c j) (stp D j - i) i with
          | false => rfl
          | true =>
            obtain ⟨i2, q1, q2, q3⟩ := (anyI_iff _ _).mp hx
            have hle : S 1 (5 * c + j) < pD D j i2 := by
              rcases Nat.lt_or_ge i i2 with q | q
              · exact Int32.lt_trans hl (pD_mono hL hO hj q (by omega))
              · have : i2 = i := by omega
                subst this; exact hl
            unfold pVi at q3
            rw [show decide (¬ S 1 (5 * c + j) < pD D j i2) = false from decide_eq_false (fun q => q hle), Bool.false_and] at q3
            cases q3
        rw [hs1, hf] at h
        exact h
      · rw [if_neg hl]
        refine ⟨7 * j + i, by omega, ix7 j i, 7 * j + i, by omega, ix7 j i, ?_⟩
        rw [e38, e39]
        obtain ⟨t, ht, htT⟩ := pT_nat hL hj hiN
        obtain ⟨d, hd, hd2⟩ := pD_114 hL hO hj hiN
        rw [anyI_s hiN] at hs1
        have hn := kk () hiN
        rw [← nI_1] at hn
        have evi : pVi D S c j i = (pVW D c (nI t) (nI d) || pVJ D S c j (nI t) (nI d)) := by
          unfold pVi
          rw [show decide (¬ S 1 (5 * c + j) < pD D j i) = true from decide_eq_true hl, Bool.true_and, ht, hd]
        rw [ht, hd]
        refine sM_newsByWord hI hL hO htT ?_
        obtain ⟨v, w1, w2, w3⟩ := nbwF_nat hL hF hO (c := c) htT _ (Nat.le_refl (tn (D 0 30)))
        have w4 := w3 d (by omega)
        rw [w1]
        by_cases hw : nI d < nI v
        · rw [if_pos hw]
          rw [nI_ltI (by omega) (by omega)] at hw
          have hvw : pVW D c (nI t) (nI d) = false := by
            cases hx : pVW D c (nI t) (nI d) with
            | false => rfl
            | true =>
              obtain ⟨w, q1, q2, q3⟩ := (anyI_iff _ _).mp hx
              have q4 := of_decide_eq_true q3
              exact absurd (w4.mpr ⟨w, by omega, q4.1, q4.2⟩) (by omega)
          rw [hvw, Bool.false_or] at evi
          -- by what others said
          refine loop0 (F := fun n q (_ : Unit) => lM_isVoided_132 sg (nI c) (nI j) ((5 : Int32) * nI c + nI j) (nI i) (nI t) (nI d) post _ n q) (nJ D) (fun q _ => pVJ D S c j (nI t) (nI d) = anyI (pVJ1 D S c j (nI t) (nI d)) (nJ D - q) q) () rfl (fun n2 q s hq hs2 kk2 => ?_)
          show lM_isVoided_132 sg (nI c) (nI j) ((5 : Int32) * nI c + nI j) (nI i) (nI t) (nI d) post _ (n2 + 1) (nI q)
          unfold lM_isVoided_132 jM_isVoided_200
          rw [hI.a (k := 4) rfl, hJ]
          by_cases hqN : q < nJ D
          · rw [if_neg (nI_ge hqN (by omega))]
            rw [anyI_s hqN] at hs2
            have hn2 := kk2 () hqN
            rw [← nI_1] at hn2
            by_cases g1 : nI q = nI j
            · rw [if_pos g1]
              rw [nI_eq (by omega) (by omega)] at g1
              refine hn2 ?_
              rw [hs2, if_neg]
              unfold pVJ1
              simp [g1]
            · rw [if_neg g1]
              rw [nI_eq (by omega) (by omega)] at g1
              obtain ⟨n1, n3⟩ := hm (5 * c + q) (by omega)
              refine ⟨5 * c + q, by omega, ix5 c q, ?_⟩
              rw [n1]
              by_cases g2 : S 0 (5 * c + q) = -1
              · rw [if_pos g2]
                refine hn2 ?_
                rw [hs2, if_neg]
                unfold pVJ1
                simp [g2]
              · rw [if_neg g2]
                refine ⟨5 * c + q, by omega, ix5 c q, 5 * c + j, by omega, ix5 c j, ?_⟩
                rw [e46, (n3 g2).1]
                by_cases g3 : S 1 (5 * c + j) ≤ S 1 (5 * c + q)
                · rw [if_pos g3]
                  refine hn2 ?_
                  rw [hs2, if_neg]
                  unfold pVJ1
                  simp [g3]
                · rw [if_neg g3]
                  refine sM_newsBy hI hL hm hS hc hqN htT g2 ?_
                  by_cases g4 : nI d < S 1 (5 * c + q) + nw D (S 2 (5 * c + q)) (nI t)
                  · rw [if_pos g4]
                    refine hn2 ?_
                    rw [hs2, if_neg]
                    unfold pVJ1
                    simp [g4]
                  · rw [if_neg g4]
                    have hy : pVJ1 D S c j (nI t) (nI d) q = true := decide_eq_true ⟨g1, g2, g3, g4⟩
                    rw [hs1, evi, hs2, if_pos hy, if_pos rfl] at h
                    exact h
          · have eq : q = nJ D := by omega
            rw [if_pos (nI_le (by omega) (by omega))]
            rw [eq, anyI_z] at hs2
            refine hn ?_
            rw [hs1, evi, hs2]
            rfl
        · rw [if_neg hw]
          rw [nI_ltI (by omega) (by omega)] at hw
          obtain ⟨w, q1, q2, q3⟩ := w4.mp (by omega)
          have hvw : pVW D c (nI t) (nI d) = true := (anyI_iff _ _).mpr ⟨w, Nat.zero_le _, by omega, decide_eq_true ⟨q2, q3⟩⟩
          rw [hs1, evi, hvw, Bool.true_or, if_pos rfl] at h
          exact h
    · have ei : i = stp D j := by omega
      rw [if_pos (nI_le (by omega) (by omega))]
      rw [ei, anyI_z] at hs1
      rw [hs1] at h
      exact h
  by_cases hc3 : nI c = D 0 43
  · rw [if_pos hc3]
    by_cases hmu : ((D 0 42 >>> (nI j &&& 31)) &&& 1) = 1
    · rw [if_pos hmu]
      rw [show decide (nI c = D 0 43) = true from decide_eq_true hc3, show bitI (D 0 42) (nI j) = true from decide_eq_true hmu, Bool.true_and, Bool.true_or] at h
      exact h
    · rw [if_neg hmu]
      rw [show bitI (D 0 42) (nI j) = false from decide_eq_false hmu, Bool.and_false, Bool.false_or] at h
      exact rest h
  · rw [if_neg hc3]
    rw [show decide (nI c = D 0 43) = false from decide_eq_false hc3, Bool.false_and, Bool.false_or] at h
    exact rest h
