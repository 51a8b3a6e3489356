/-! PURE: who is guilty, by the model -/
set_option maxRecDepth 100000
theorem loopK {S : Type} {F : Nat → Int32 → S → Prop} (N : Nat) (Inv : Nat → S → Prop) (k0 : Nat) (hk0 : k0 ≤ N) (s : S) (h0 : Inv k0 s) (step : ∀ (n k : Nat) (s : S), k0 ≤ k → k ≤ N → Inv k s → (∀ s' : S, k < N → Inv (k + 1) s' → F n (nI (k + 1)) s') → F (n + 1) (nI k) s) : ∃ n, F n (nI k0) s := by
  refine ⟨N - k0 + 1, loopS (N := N) (fun k s => k0 ≤ k ∧ Inv k s) (fun n k s hk hI kk => step n k s hI.1 hk hI.2 (fun s' h1 h2 => kk s' h1 ⟨by omega, h2⟩)) (N - k0) k0 s (by omega) ⟨Nat.le_refl _, h0⟩⟩
abbrev pP : Type := Int32 × Int32
def iterP (f : pP → Nat → pP) (p : pP) : Nat → Nat → pP
  | 0, _ => p
  | m + 1, k => iterP f (f p k) m (k + 1)
theorem iterP_s {f : pP → Nat → pP} {p : pP} {N k : Nat} (h : k < N) : iterP f p (N - k) k = iterP f (f p k) (N - (k + 1)) (k + 1) := by
  obtain ⟨m, rfl⟩ : ∃ m, N = k + 1 + m := ⟨N - k - 1, by omega⟩
  rw [show k + 1 + m - k = m + 1 by omega, show k + 1 + m - (k + 1) = m by omega]
  rfl
theorem iterP_z {f : pP → Nat → pP} {p : pP} {N : Nat} : iterP f p (N - N) N = p := by rw [Nat.sub_self]; rfl
def mx (x y : Int32) : Int32 := if x < y then y else x
def pGood (D S : MS) (c a : Nat) : Bool := decide (S 0 (5 * c + a) = 1) && !pVoid D S c a
def pDay3 (S : MS) (c a b d : Nat) : Int32 := mx (S 1 (5 * c + a)) (mx (S 1 (5 * c + b)) (S 1 (5 * c + d)))
def p3c (D S : MS) (c a b d : Nat) : Bool := pGood D S c a && (pGood D S c b && (pGood D S c d && decide (¬ S 2 (5 * c + a) = S 2 (5 * c + b) ∧ ¬ S 2 (5 * c + a) = S 2 (5 * c + d) ∧ ¬ S 2 (5 * c + b) = S 2 (5 * c + d) ∧ ¬ pMeet D a b ≤ pDay3 S c a b d ∧ ¬ pMeet D a d ≤ pDay3 S c a b d ∧ ¬ pMeet D b d ≤ pDay3 S c a b d)))
def p3 (D S : MS) (c a b d : Nat) : Int32 := if p3c D S c a b d = true then pDay3 S c a b d else 100000
def bits3 (a b d : Nat) : Int32 := (((1 : Int32) <<< (nI a &&& 31)) ||| ((1 : Int32) <<< (nI b &&& 31))) ||| ((1 : Int32) <<< (nI d &&& 31))
def pG1 (D S : MS) (c a b : Nat) (p : pP) (d : Nat) : pP := if p3 D S c a b d < p.1 then (p3 D S c a b d, bits3 a b d) else p
def pG2 (D S : MS) (c a : Nat) (p : pP) (b : Nat) : pP := iterP (pG1 D S c a b) p (nJ D - (b + 1)) (b + 1)
def pG3 (D S : MS) (c : Nat) (p : pP) (a : Nat) : pP := iterP (pG2 D S c a) p (nJ D - (a + 1)) (a + 1)
def pG (D S : MS) (c : Nat) : pP := iterP (pG3 D S c) (100000, 0) (nJ D - 0) 0
/-- what a judgement stands on -/
def judgeOn (sg D S : MS) : Prop := stops sg D ∧ (∀ a b, a < nJ D → b < nJ D → sg 40 (5 * a + b) = pMeet D a b) ∧ mS sg S
theorem sM_isGood {sg D S : MS} (hL : lndOk D) (hm : mS sg S) {c a : Nat} (hc : c < nC D) (ha : a < nJ D) (hv : sg 48 (5 * c + a) = b2 (pVoid D S c a)) {post : Int32 → Prop} (h : post (b2 (pGood D S c a))) : wM_isGood sg (nI c) (nI a) post := by
  have hC6 := hL.2.2.1.2
  have hJ5 := hL.2.1.2
  unfold wM_isGood
  unfold pGood at h
  refine ⟨5 * c + a, by omega, ix5 c a, ?_⟩
  rw [(hm (5 * c + a) (by omega)).1]
  by_cases h1 : S 0 (5 * c + a) = 1
  · rw [if_pos h1]
    rw [show decide (S 0 (5 * c + a) = 1) = true from decide_eq_true h1, Bool.true_and] at h
    refine ⟨5 * c + a, by omega, ix5 c a, ?_⟩
    rw [hv]
    cases hp : pVoid D S c a with
    | false => rw [b2_f, if_pos rfl]; rw [hp] at h; exact h
    | true => rw [b2_t, if_neg (by decide)]; rw [hp] at h; exact h
  · rw [if_neg h1]
    rw [show decide (S 0 (5 * c + a) = 1) = false from decide_eq_false h1, Bool.false_and] at h
    exact h
theorem good_said {D S : MS} {c a : Nat} (h : pGood D S c a = true) : ¬ S 0 (5 * c + a) = -1 := by
  unfold pGood at h
  intro e
  rw [e, show decide ((-1 : Int32) = 1) = false by decide, Bool.false_and] at h
  cases h
theorem sM_three {sg D S : MS} (hL : lndOk D) (hT : judgeOn sg D S) {c a b d : Nat} (hc : c < nC D) (ha : a < nJ D) (hb : b < nJ D) (hd : d < nJ D) (hv : ∀ j, j < nJ D → sg 48 (5 * c + j) = b2 (pVoid D S c j)) {post : Int32 → Prop} (h : post (p3 D S c a b d)) : wM_three sg (nI c) (nI a) (nI b) (nI d) post := by
  have hC6 := hL.2.2.1.2
  have hJ5 := hL.2.1.2
  obtain ⟨-, hme, hm⟩ := hT
  unfold p3 p3c at h
  unfold wM_three
  refine sM_isGood hL hm hc ha (hv a ha) ?_
  cases ga : pGood D S c a with
  | false => rw [ga, Bool.false_and] at h; rw [b2_f, if_pos rfl]; exact h
  | true =>
  rw [ga, Bool.true_and] at h
  rw [b2_t, if_neg (by decide)]
  refine sM_isGood hL hm hc hb (hv b hb) ?_
  cases gb : pGood D S c b with
  | false => rw [gb, Bool.false_and] at h; rw [b2_f, if_pos rfl]; exact h
  | true =>
  rw [gb, Bool.true_and] at h
  rw [b2_t, if_neg (by decide)]
  refine sM_isGood hL hm hc hd (hv d hd) ?_
  cases gd : pGood D S c d with
  | false => rw [gd, Bool.false_and] at h; rw [b2_f, if_pos rfl]; exact h
  | true =>
  rw [gd, Bool.true_and] at h
  rw [b2_t, if_neg (by decide)]
  obtain ⟨a1, a2⟩ := (hm (5 * c + a) (by omega)).2 (good_said ga)
  obtain ⟨b1, b2'⟩ := (hm (5 * c + b) (by omega)).2 (good_said gb)
  obtain ⟨d1, d2⟩ := (hm (5 * c + d) (by omega)).2 (good_said gd)
  refine ⟨5 * c + a, by omega, ix5 c a, 5 * c + b, by omega, ix5 c b, ?_⟩
  rw [a2, b2']
  by_cases h1 : S 2 (5 * c + a) = S 2 (5 * c + b)
  · rw [if_pos h1]
    rw [if_neg (by simp [h1])] at h
    exact h
  rw [if_neg h1]
  refine ⟨5 * c + a, by omega, ix5 c a, 5 * c + d, by omega, ix5 c d, ?_⟩
  rw [a2, d2]
  by_cases h2 : S 2 (5 * c + a) = S 2 (5 * c + d)
  · rw [if_pos h2]
    rw [if_neg (fun q => (of_decide_eq_true q).2.1 h2)] at h
    exact h
  rw [if_neg h2]
  refine ⟨5 * c + b, by omega, ix5 c b, 5 * c + d, by omega, ix5 c d, ?_⟩
  rw [b2', d2]
  by_cases h3 : S 2 (5 * c + b) = S 2 (5 * c + d)
  · rw [if_pos h3]
    rw [if_neg (fun q => (of_decide_eq_true q).2.2.1 h3)] at h
    exact h
  rw [if_neg h3]
  refine ⟨5 * c + a, by omega, ix5 c a, 5 * c + b, by omega, ix5 c b, 5 * c + d, by omega, ix5 c d, 5 * a + b, by omega, ix5 a b, ?_⟩
  rw [a1, b1, d1, hme a b ha hb]
  show if pMeet D a b ≤ pDay3 S c a b d then _ else _
  by_cases h4 : pMeet D a b ≤ pDay3 S c a b d
  · rw [if_pos h4]
    rw [if_neg (fun q => (of_decide_eq_true q).2.2.2.1 h4)] at h
    exact h
  rw [if_neg h4]
  refine ⟨5 * a + d, by omega, ix5 a d, ?_⟩
  rw [hme a d ha hd]
  show if pMeet D a d ≤ pDay3 S c a b d then _ else _
  by_cases h5 : pMeet D a d ≤ pDay3 S c a b d
  · rw [if_pos h5]
    rw [if_neg (fun q => (of_decide_eq_true q).2.2.2.2.1 h5)] at h
    exact h
  rw [if_neg h5]
  refine ⟨5 * b + d, by omega, ix5 b d, ?_⟩
  rw [hme b d hb hd]
  show if pMeet D b d ≤ pDay3 S c a b d then _ else _
  by_cases h6 : pMeet D b d ≤ pDay3 S c a b d
  · rw [if_pos h6]
    rw [if_neg (fun q => (of_decide_eq_true q).2.2.2.2.2 h6)] at h
    exact h
  rw [if_neg h6]
  rw [if_pos (decide_eq_true ⟨h1, h2, h3, h4, h5, h6⟩)] at h
  exact h
/-- a case's judgement in the model's rows -/
def judged (sg D S : MS) (c : Nat) : Prop := (∀ j, j < nJ D → sg 48 (5 * c + j) = b2 (pVoid D S c j)) ∧ sg 49 c = (pG D S c).1 ∧ sg 50 c = (pG D S c).2
def offJ (q : Nat) : Prop := q ≠ 48 ∧ q ≠ 49 ∧ q ≠ 50
theorem offJ_in {q : Nat} (h : inS q = true ∨ q = 0) : offJ q := by
  refine ⟨?_, ?_, ?_⟩ <;> (intro e; subst e; rcases h with h | h <;> cases h)
theorem judgeOn.tr {sg s9 D S : MS} (h : judgeOn sg D S) (hs : ∀ q, offJ q → s9 q = sg q) : judgeOn s9 D S := by
  obtain ⟨h1, h2, h3⟩ := h
  refine ⟨fun j i a b => ?_, fun a b x y => ?_, fun k hk => ?_⟩
  · rw [hs 38 ⟨by decide, by decide, by decide⟩, hs 39 ⟨by decide, by decide, by decide⟩]; exact h1 j i a b
  · rw [hs 40 ⟨by decide, by decide, by decide⟩]; exact h2 a b x y
  · rw [hs 45 ⟨by decide, by decide, by decide⟩, hs 46 ⟨by decide, by decide, by decide⟩, hs 47 ⟨by decide, by decide, by decide⟩]; exact h3 k hk
theorem sM_judgeCase {sg D S : MS} (hI : inp sg D) (hL : lndOk D) (hF : farOk D) (hO : stOk D) (hT : judgeOn sg D S) (hS : sOk D S) {c : Nat} (hc : c < nC D) {post : MS → Prop}
    (h : ∀ s9 : MS, (∀ q, offJ q → s9 q = sg q) → judged s9 D S c → (∀ c', c' < 6 → c' ≠ c → s9 49 c' = sg 49 c' ∧ s9 50 c' = sg 50 c' ∧ ∀ j, j < 5 → s9 48 (5 * c' + j) = sg 48 (5 * c' + j)) → post s9) : wM_judgeCase sg (nI c) post := by
  have hC6 := hL.2.2.1.2
  obtain ⟨hJ, hJ5⟩ := hL.2.1
  unfold wM_judgeCase
  refine loop0 (F := fun n i s => lM_judgeCase_2 (nI c) post _ n i s) (nJ D) (fun j s => (∀ q, offJ q → s q = sg q) ∧ (∀ i, i < j → s 48 (5 * c + i) = b2 (pVoid D S c i)) ∧ s 49 = sg 49 ∧ s 50 = sg 50 ∧ ∀ c', c' < 6 → c' ≠ c → ∀ i, i < 5 → s 48 (5 * c' + i) = sg 48 (5 * c' + i)) sg ⟨fun _ _ => rfl, fun i h => absurd h (by omega), rfl, rfl, fun _ _ _ _ _ => rfl⟩ (fun n j s hj hs kk => ?_)
  obtain ⟨hs1, hs2, hs3, hs4, hs5⟩ := hs
  have hIs : inp s D := hI.tr (fun q hq => hs1 q (offJ_in hq))
  have hTs : judgeOn s D S := hT.tr hs1
  show lM_judgeCase_2 (nI c) post _ (n + 1) (nI j) s
  unfold lM_judgeCase_2
  rw [hIs.a (k := 4) rfl, hJ]
  by_cases hjN : j < nJ D
  · rw [if_neg (nI_ge hjN (by omega))]
    refine sM_isVoided hIs hL hF hO hTs.1 hTs.2.2 hS hc hjN ?_
    have fin : ∀ x : Int32, x = b2 (pVoid D S c j) → jM_judgeCase_35 s (nI c) (nI j) x ((5 : Int32) * nI c + nI j) post (lM_judgeCase_2 (nI c) post (fun (g6 : MS) => (∃ i7 : Nat, i7 < 6 ∧ nI c = nI i7 ∧ (∃ i10 : Nat, i10 < 6 ∧ nI c = nI i10 ∧ (∃ n28, lM_judgeCase_59 (nI c) post n28 0 (s2 (s2 g6 49 i7 100000) 50 i10 0))))) n) := by
      intro x hx
      unfold jM_judgeCase_35
      refine ⟨5 * c + j, by omega, ix5 c j, ?_⟩
      rw [nI_1]
      refine kk _ hjN ⟨fun q hq => by rw [s2_rowN hq.1]; exact hs1 q hq, fun i hi => ?_, by rw [s2_rowN (by decide)]; exact hs3, by rw [s2_rowN (by decide)]; exact hs4, fun c' h1 h2 i h3 => by rw [s2_i (by omega)]; exact hs5 c' h1 h2 i h3⟩
      by_cases e : i = j
      · subst e; rw [s2_s]; exact hx
      · rw [s2_i (by omega)]; exact hs2 i (by omega)
    cases hp : pVoid D S c j with
    | false => rw [b2_f, if_pos rfl]; exact fin 0 (by rw [hp]; rfl)
    | true => rw [b2_t, if_neg (by decide)]; exact fin 1 (by rw [hp]; rfl)
  · have ej : j = nJ D := by omega
    subst ej
    rw [if_pos (nI_le (by omega) (by omega))]
    refine ⟨c, by omega, rfl, c, by omega, rfl, ?_⟩
    -- the invariant of the three loops: what is to come of the pair
    let J : pP → MS → Prop := fun p s9 => (∀ q, offJ q → s9 q = sg q) ∧ s9 48 = s 48 ∧ (s9 49 c, s9 50 c) = p ∧ ∀ c', c' < 6 → c' ≠ c → s9 49 c' = sg 49 c' ∧ s9 50 c' = sg 50 c'
    have hJ0 : J (100000, 0) (s2 (s2 s 49 c 100000) 50 c 0) := by
      refine ⟨fun q hq => by rw [s2_rowN hq.2.2, s2_rowN hq.2.1]; exact hs1 q hq, by rw [s2_rowN (by decide), s2_rowN (by decide)], ?_, fun c' h1 h2 => ?_⟩
      · rw [s2_k (show (49 : Nat) ≠ 50 by decide), s2_s, s2_s]
      · rw [s2_i h2, s2_i h2, s2_i h2, s2_i h2, hs3, hs4]
        exact ⟨rfl, rfl⟩
    refine loop0 (F := fun n i s => lM_judgeCase_59 (nI c) post n i s) (nJ D) (fun a s9 => ∃ p, J p s9 ∧ pG D S c = iterP (pG3 D S c) p (nJ D - a) a) _ ⟨_, hJ0, rfl⟩ (fun n1 a s1 ha hs9 kk1 => ?_)
    obtain ⟨p, hJp, hpG⟩ := hs9
    have hI1 : inp s1 D := hI.tr (fun q hq => hJp.1 q (offJ_in hq))
    show lM_judgeCase_59 (nI c) post (n1 + 1) (nI a) s1
    unfold lM_judgeCase_59
    rw [hI1.a (k := 4) rfl, hJ]
    by_cases haN : a < nJ D
    · rw [if_neg (nI_ge haN (by omega)), nI_1]
      rw [iterP_s haN] at hpG
      refine loopK (F := fun n i s => lM_judgeCase_73 (nI c) (nI a) post _ n i s) (nJ D) (fun b s9 => ∃ p2, J p2 s9 ∧ pG3 D S c p a = iterP (pG2 D S c a) p2 (nJ D - b) b) (a + 1) (by omega) s1 ⟨p, hJp, rfl⟩ (fun n2 b s2_ hab hb hs9 kk2 => ?_)
      obtain ⟨p2, hJp2, hpG2⟩ := hs9
      have hI2 : inp s2_ D := hI.tr (fun q hq => hJp2.1 q (offJ_in hq))
      show lM_judgeCase_73 (nI c) (nI a) post _ (n2 + 1) (nI b) s2_
      unfold lM_judgeCase_73
      rw [hI2.a (k := 4) rfl, hJ]
      by_cases hbN : b < nJ D
      · rw [if_neg (nI_ge hbN (by omega)), nI_1 b]
        rw [iterP_s hbN] at hpG2
        refine loopK (F := fun n i s => lM_judgeCase_88 (nI c) (nI a) (nI b) post _ n i s) (nJ D) (fun d s9 => ∃ p3', J p3' s9 ∧ pG2 D S c a p2 b = iterP (pG1 D S c a b) p3' (nJ D - d) d) (b + 1) (by omega) s2_ ⟨p2, hJp2, rfl⟩ (fun n3 d s3 hbd hd hs9 kk3 => ?_)
        obtain ⟨p3', hJp3, hpG3⟩ := hs9
        have hI3 : inp s3 D := hI.tr (fun q hq => hJp3.1 q (offJ_in hq))
        show lM_judgeCase_88 (nI c) (nI a) (nI b) post _ (n3 + 1) (nI d) s3
        unfold lM_judgeCase_88 jM_judgeCase_150
        rw [hI3.a (k := 4) rfl, hJ]
        by_cases hdN : d < nJ D
        · rw [if_neg (nI_ge hdN (by omega))]
          rw [iterP_s hdN] at hpG3
          refine sM_three hL (hT.tr hJp3.1) hc haN hbN hdN (fun j hj => by rw [hJp3.2.1]; exact hs2 j hj) ?_
          refine ⟨c, by omega, rfl, ?_⟩
          have e49 : s3 49 c = p3'.1 := congrArg Prod.fst hJp3.2.2.1
          rw [e49]
          unfold pG1 at hpG3
          by_cases hl : p3 D S c a b d < p3'.1
          · rw [if_pos hl]
            rw [if_pos hl] at hpG3
            refine ⟨c, by omega, rfl, c, by omega, rfl, ?_⟩
            rw [nI_1 d]
            refine kk3 _ hdN ⟨_, ⟨fun q hq => by rw [s2_rowN hq.2.2, s2_rowN hq.2.1]; exact hJp3.1 q hq, by rw [s2_rowN (by decide), s2_rowN (by decide)]; exact hJp3.2.1, ?_, fun c' h1 h2 => ?_⟩, hpG3⟩
            · rw [s2_k (show (49 : Nat) ≠ 50 by decide), s2_s, s2_s]; rfl
            · rw [s2_i h2, s2_i h2, s2_i h2, s2_i h2]
              exact hJp3.2.2.2 c' h1 h2
          · rw [if_neg hl]
            rw [if_neg hl] at hpG3
            rw [nI_1 d]
            exact kk3 s3 hdN ⟨p3', hJp3, hpG3⟩
        · have ed : d = nJ D := by omega
          rw [if_pos (nI_le (by omega) (by omega))]
          rw [ed, iterP_z] at hpG3
          rw [hpG3] at hpG2
          exact kk2 s3 hbN ⟨p3', hJp3, hpG2⟩
      · have eb : b = nJ D := by omega
        rw [if_pos (nI_le (by omega) (by omega))]
        rw [eb, iterP_z] at hpG2
        rw [hpG2] at hpG
        exact kk1 s2_ haN ⟨p2, hJp2, hpG⟩
    · have ea : a = nJ D := by omega
      rw [if_pos (nI_le (by omega) (by omega))]
      rw [ea, iterP_z] at hpG
      refine h s1 hJp.1 ⟨fun j hj => by rw [hJp.2.1]; exact hs2 j hj, ?_, ?_⟩ (fun c' h1 h2 => ⟨(hJp.2.2.2 c' h1 h2).1, (hJp.2.2.2 c' h1 h2).2, fun j h3 => by rw [hJp.2.1]; exact hs5 c' h1 h2 j h3⟩)
      · rw [hpG]; exact congrArg Prod.fst hJp.2.2.1
      · rw [hpG]; exact congrArg Prod.snd hJp.2.2.1
/-- how many are guilty -/
def pN (D S : MS) : Int32 := cntI (fun c => decide (¬ 100000 ≤ (pG D S c).1)) (nC D)
theorem sM_judgeAll {sg D S : MS} (hI : inp sg D) (hL : lndOk D) (hF : farOk D) (hO : stOk D) (hT : judgeOn sg D S) (hS : sOk D S) {post : Int32 → MS → Prop}
    (h : ∀ s9 : MS, (∀ q, offJ q → s9 q = sg q) → (∀ c, c < nC D → judged s9 D S c) → post (pN D S) s9) : wM_judgeAll sg post := by
  obtain ⟨hC, hC6⟩ := hL.2.2.1
  have hJ5 := hL.2.1.2
  unfold wM_judgeAll
  refine loop0 (F := fun n i (q : Int32 × MS) => lM_judgeAll_4 post n q.1 i q.2) (nC D) (fun k q => q.1 = cntI (fun c => decide (¬ 100000 ≤ (pG D S c).1)) k ∧ (∀ z, offJ z → q.2 z = sg z) ∧ ∀ c, c < k → judged q.2 D S c) (0, sg) ⟨rfl, fun _ _ => rfl, fun c h => absurd h (by omega)⟩ (fun n k q hk hq kk => ?_)
  obtain ⟨x, s⟩ := q
  obtain ⟨hx, hs1, hs2⟩ := hq
  dsimp only at hx hs1 hs2
  have hIs : inp s D := hI.tr (fun q hq => hs1 q (offJ_in hq))
  show lM_judgeAll_4 post (n + 1) x (nI k) s
  unfold lM_judgeAll_4
  rw [hIs.a (k := 4) rfl, hC]
  by_cases hkN : k < nC D
  · rw [if_neg (nI_ge hkN (by omega))]
    refine sM_judgeCase hIs hL hF hO (hT.tr hs1) hS hkN (fun s9 g1 g2 g3 => ?_)
    refine ⟨k, by omega, rfl, ?_⟩
    rw [g2.2.1]
    have hall : ∀ c, c < k + 1 → judged s9 D S c := by
      intro c hc
      by_cases e : c = k
      · subst e; exact g2
      · obtain ⟨q1, q2, q3⟩ := g3 c (by omega) e
        obtain ⟨w1, w2, w3⟩ := hs2 c (by omega)
        exact ⟨fun j hj => by rw [q3 j (by omega)]; exact w1 j hj, by rw [q1]; exact w2, by rw [q2]; exact w3⟩
    have hfr : ∀ z, offJ z → s9 z = sg z := fun z hz => (g1 z hz).trans (hs1 z hz)
    unfold jM_judgeAll_36
    by_cases hl : 100000 ≤ (pG D S k).1
    · rw [if_pos hl, nI_1]
      refine kk (_, s9) hkN ⟨?_, hfr, hall⟩
      show x + 0 = cntI _ (k + 1)
      unfold cntI
      rw [show decide (¬ 100000 ≤ (pG D S k).1) = false from decide_eq_false (fun q => q hl), hx]
      rfl
    · rw [if_neg hl, nI_1]
      refine kk (_, s9) hkN ⟨?_, hfr, hall⟩
      show x + 1 = cntI _ (k + 1)
      unfold cntI
      rw [show decide (¬ 100000 ≤ (pG D S k).1) = true from decide_eq_true hl, hx]
      rfl
  · have ek : k = nC D := by omega
    rw [if_pos (nI_le (by omega) (by omega)), hx, ek]
    exact h s hs1 (fun c hc => hs2 c (by omega))
