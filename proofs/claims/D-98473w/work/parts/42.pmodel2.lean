/-! PURE: the model's meetings, news, voids -/
set_option maxRecDepth 100000
theorem firstI_or {c : Nat → Bool} {f : Nat → Int32} {e : Int32} : ∀ (m k : Nat), firstI c f e m k = e ∨ ∃ i, k ≤ i ∧ i < k + m ∧ c i = true ∧ firstI c f e m k = f i
  | 0, _ => Or.inl rfl
  | m + 1, k => by
    unfold firstI
    by_cases h : c k = true
    · rw [if_pos h]; exact Or.inr ⟨k, Nat.le_refl _, by omega, h, rfl⟩
    · rw [if_neg h]
      rcases firstI_or (c := c) (f := f) (e := e) m (k + 1) with h1 | ⟨i, h1, h2, h3, h4⟩
      · exact Or.inl h1
      · exact Or.inr ⟨i, by omega, by omega, h3, h4⟩
theorem pAt_nat {D : MS} (hL : lndOk D) {j : Nat} (hj : j < nJ D) (d : Int32) : pAt D j d = -1 ∨ ∃ t, pAt D j d = nI t ∧ t < nT D := by
  rcases firstI_or (c := fun i => decide (pD D j i = d)) (f := fun i => pT D j i) (e := -1) (stp D j) 0 with h | ⟨i, h1, h2, h3, h4⟩
  · exact Or.inl h
  · obtain ⟨t, g1, g2⟩ := pT_nat hL hj (show i < stp D j by omega)
    exact Or.inr ⟨t, h4.trans g1, g2⟩
/-- floods -/
def pFl (D : MS) (a b d : Int32) : Bool := anyI (fun k => decide (D 28 (3 * k + 1) = d ∧ ¬ D 28 (3 * k + 2) < D 25 (tn ((9 : Int32) * a + D 28 (3 * k))) ∧ ¬ D 28 (3 * k + 2) < D 25 (tn ((9 : Int32) * b + D 28 (3 * k))))) (tn (D 0 32)) 0
def pIsM (D : MS) (a b d : Int32) : Bool := decide (a = b ∧ ((D 0 29 >>> (a &&& 31)) &&& 1) = 1) || pFl D a b d
def pMeetC (D : MS) (a b i : Nat) : Bool := decide (¬ pAt D b (pD D a i) = -1) && pIsM D (pT D a i) (pAt D b (pD D a i)) (pD D a i)
def pMeet (D : MS) (a b : Nat) : Int32 := firstI (pMeetC D a b) (fun i => pD D a i) 100000 (stp D a) 0
theorem sM_isMeeting {sg D : MS} (hI : inp sg D) (hL : lndOk D) (hS : stOk D) {a b : Nat} (ha : a < nT D) (hb : b < nT D) {d : Int32} {post : Int32 → Prop} (h : post (b2 (pIsM D (nI a) (nI b) d))) : wM_isMeeting sg (nI a) (nI b) d post := by
  have hT9 := hL.1.2
  unfold pIsM at h
  have fl : (post (b2 (pFl D (nI a) (nI b) d))) → jM_isMeeting_19 sg (nI a) (nI b) d post := by
    intro h
    unfold jM_isMeeting_19
    obtain ⟨hF, hF6⟩ := hS.2.2.2.1
    refine loop0 (F := fun n i (_ : Unit) => lM_isMeeting_22 sg (nI a) (nI b) d post n i) (tn (D 0 32)) (fun k _ => pFl D (nI a) (nI b) d = anyI (fun k => decide (D 28 (3 * k + 1) = d ∧ ¬ D 28 (3 * k + 2) < D 25 (tn ((9 : Int32) * nI a + D 28 (3 * k))) ∧ ¬ D 28 (3 * k + 2) < D 25 (tn ((9 : Int32) * nI b + D 28 (3 * k))))) (tn (D 0 32) - k) k) () rfl (fun n k s hk hs kk => ?_)
    show lM_isMeeting_22 sg (nI a) (nI b) d post (n + 1) (nI k)
    unfold lM_isMeeting_22 jM_isMeeting_104 wM_couple
    rw [hI.f rfl, hF, hI.1 28 rfl, hI.1 25 rfl]
    by_cases hkN : k < tn (D 0 32)
    · rw [if_neg (nI_ge hkN (by omega))]
      rw [anyI_s hkN] at hs
      have hn := kk () hkN
      rw [← nI_1] at hn
      obtain ⟨t, w, ht, htT, hw, hw2⟩ := hS.2.2.2.2.2 k hkN
      refine ⟨3 * k, by omega, ix3 k, 3 * k + 2, by omega, ix32 k, 3 * k + 1, by omega, ix31 k, ?_⟩
      have e1 : tn ((9 : Int32) * nI a + D 28 (3 * k)) = 9 * a + t := by rw [ht, ix9, tn_nI (by omega)]
      have e2 : tn ((9 : Int32) * nI b + D 28 (3 * k)) = 9 * b + t := by rw [ht, ix9, tn_nI (by omega)]
      rw [e1, e2] at hs
      by_cases h1 : D 28 (3 * k + 1) = d
      · rw [if_pos h1]
        refine ⟨9 * a + t, by omega, by rw [ht, ix9], ?_⟩
        by_cases h2 : D 28 (3 * k + 2) < D 25 (9 * a + t)
        · rw [if_pos h2]
          refine hn ?_
          rw [hs, if_neg (by simp [h2])]
        · rw [if_neg h2]
          refine ⟨9 * b + t, by omega, by rw [ht, ix9], ?_⟩
          by_cases h3 : D 28 (3 * k + 2) < D 25 (9 * b + t)
          · rw [if_pos h3]
            refine hn ?_
            rw [hs, if_neg (by simp [h3])]
          · rw [if_neg h3]
            rw [if_pos (by simp [h1, h2, h3])] at hs
            rw [hs] at h
            exact h
      · rw [if_neg h1]
        refine hn ?_
        rw [hs, if_neg (by simp [h1])]
    · have ek : k = tn (D 0 32) := by omega
      rw [if_pos (nI_le (by omega) (by omega))]
      rw [ek, anyI_z] at hs
      rw [hs] at h
      exact h
  unfold wM_isMeeting
  rw [hI.f rfl]
  by_cases h1 : nI a = nI b
  · rw [if_pos h1]
    by_cases h2 : ((D 0 29 >>> (nI a &&& 31)) &&& 1) = 1
    · rw [if_pos h2]
      rw [show decide (nI a = nI b ∧ ((D 0 29 >>> (nI a &&& 31)) &&& 1) = 1) = true from decide_eq_true ⟨h1, h2⟩, Bool.true_or] at h
      exact h
    · rw [if_neg h2]
      rw [show decide (nI a = nI b ∧ ((D 0 29 >>> (nI a &&& 31)) &&& 1) = 1) = false from decide_eq_false (fun q => h2 q.2), Bool.false_or] at h
      exact fl h
  · rw [if_neg h1]
    rw [show decide (nI a = nI b ∧ ((D 0 29 >>> (nI a &&& 31)) &&& 1) = 1) = false from decide_eq_false (fun q => h1 q.1), Bool.false_or] at h
    exact fl h
theorem nI_dec {m : Nat} : nI (m + 1) - 1 + -1 = nI m - 1 := by
  rw [nI_pred, Int32.sub_eq_add_neg]
theorem sM_tellMeetings {sg D : MS} (hI : inp sg D) (hL : lndOk D) (hS : stOk D) (hP : stops sg D) {post : MS → Prop} (h : ∀ s9 : MS, (∀ k, k ≠ 40 → s9 k = sg k) → (∀ a b, a < nJ D → b < nJ D → s9 40 (5 * a + b) = pMeet D a b) → post s9) : wM_tellMeetings sg post := by
  unfold wM_tellMeetings
  obtain ⟨hJ, hJ5⟩ := hL.2.1
  have hT9 := hL.1.2
  have inpS : ∀ s : MS, (∀ q, q ≠ 40 → s q = sg q) → inp s D ∧ stops s D := fun s hs => ⟨hI.tr (fun q hq => hs q (fun e => by subst e; rcases hq with h | h <;> cases h)), fun j i h1 h2 => by rw [hs 38 (by decide), hs 39 (by decide)]; exact hP j i h1 h2⟩
  refine loop0 (F := fun n i s => lM_tellMeetings_2 post n i s) (nJ D) (fun k s => (∀ q, q ≠ 40 → s q = sg q) ∧ ∀ a b, a < k → b < nJ D → s 40 (5 * a + b) = pMeet D a b) sg ⟨fun _ _ => rfl, fun a b h => absurd h (by omega)⟩ (fun n0 a s hk hs kk => ?_)
  obtain ⟨hs1, hs2⟩ := hs
  obtain ⟨hIs, hPs⟩ := inpS s hs1
  show lM_tellMeetings_2 post (n0 + 1) (nI a) s
  unfold lM_tellMeetings_2
  rw [hIs.a (k := 4) rfl, hJ]
  by_cases haN : a < nJ D
  · rw [if_neg (nI_ge haN (by omega))]
    obtain ⟨-, h9, h91, h97, -⟩ := hL.2.2.2.2.2.1 a haN
    refine loop0 (F := fun n i s => lM_tellMeetings_14 (nI a) post _ n i s) (nJ D) (fun b s => (∀ q, q ≠ 40 → s q = sg q) ∧ (∀ a' b', a' < a → b' < nJ D → s 40 (5 * a' + b') = pMeet D a' b') ∧ ∀ b', b' < b → s 40 (5 * a + b') = pMeet D a b') s ⟨hs1, hs2, fun b' h => absurd h (by omega)⟩ (fun n1 b s hb hs kk2 => ?_)
    obtain ⟨hs1, hs2, hs3⟩ := hs
    obtain ⟨hIs, hPs⟩ := inpS s hs1
    show lM_tellMeetings_14 (nI a) post _ (n1 + 1) (nI b) s
    unfold lM_tellMeetings_14
    rw [hIs.a (k := 4) rfl, hJ]
    by_cases hbN : b < nJ D
    · rw [if_neg (nI_ge hbN (by omega))]
      refine ⟨5 * a + b, by omega, ix5 a b, a, by omega, rfl, ?_⟩
      rw [s2_rowN (by decide), hIs.a (k := 9) rfl, h9]
      -- downwards
      have down : ∀ (m : Nat) (s : MS), m ≤ stp D a → (∀ q, q ≠ 40 → s q = sg q) → (∀ a' b', a' < a → b' < nJ D → s 40 (5 * a' + b') = pMeet D a' b') → (∀ b', b' < b → s 40 (5 * a + b') = pMeet D a b') → s 40 (5 * a + b) = firstI (pMeetC D a b) (fun i => pD D a i) 100000 (stp D a - m) m → lM_tellMeetings_45 (nI a) (nI b) post (fun g20 => lM_tellMeetings_14 (nI a) post (fun g22 => lM_tellMeetings_2 post n0 (nI a + 1) g22) n1 (nI b + 1) g20) (m + 1) (nI m - 1) s := by
        intro m
        induction m with
        | zero =>
          intro s hm hs1 hs2 hs3 hs4
          unfold lM_tellMeetings_45
          rw [if_pos (by decide), nI_1 b]
          refine kk2 s hbN ⟨hs1, hs2, fun b' h => ?_⟩
          by_cases e : b' = b
          · subst e; exact hs4
          · exact hs3 b' (by omega)
        | succ m ih =>
          intro s hm hs1 hs2 hs3 hs4
          obtain ⟨hIs, hPs⟩ := inpS s hs1
          unfold lM_tellMeetings_45 jM_tellMeetings_111
          rw [nI_dec, nI_pred, if_neg (nI_pos (by omega))]
          obtain ⟨e1, e2⟩ := hPs a m haN (by omega)
          rw [firstI_s (k := m) (N := stp D a) (by omega)] at ih
          refine ⟨7 * a + m, by omega, ix7 a m, ?_⟩
          rw [e2]
          refine sM_townOn hIs hL hPs hbN ?_
          by_cases h1 : pAt D b (pD D a m) = -1
          · rw [if_pos h1]
            refine ih s (by omega) hs1 hs2 hs3 ?_
            rw [hs4, if_neg]
            unfold pMeetC
            simp [h1]
          · rw [if_neg h1]
            refine ⟨7 * a + m, by omega, ix7 a m, ?_⟩
            rw [e1]
            obtain ⟨t, ht, htT⟩ := pT_nat hL haN (show m < stp D a by omega)
            obtain ⟨u, hu, huT⟩ := (pAt_nat hL hbN (pD D a m)).resolve_left h1
            have hc : pMeetC D a b m = pIsM D (pT D a m) (pAt D b (pD D a m)) (pD D a m) := by
              unfold pMeetC
              simp [h1]
            rw [hu, ht] at hc ⊢
            refine sM_isMeeting hIs hL hS htT huT ?_
            cases hm2 : pIsM D (nI t) (nI u) (pD D a m) with
            | false =>
              rw [b2_f, if_pos rfl]
              refine ih s (by omega) hs1 hs2 hs3 ?_
              rw [hs4, if_neg (by rw [hc, hm2]; decide)]
            | true =>
              rw [b2_t, if_neg (by decide)]
              refine ⟨5 * a + b, by omega, ix5 a b, ?_⟩
              refine ih _ (by omega) (fun q hq => by rw [s2_rowN hq]; exact hs1 q hq) (fun a' b' g1 g2 => by rw [s2_i (by omega)]; exact hs2 a' b' g1 g2) (fun b' g1 => by rw [s2_i (by omega)]; exact hs3 b' g1) ?_
              rw [s2_s, if_pos (by rw [hc, hm2])]
      exact ⟨stp D a + 1, down (stp D a) _ (Nat.le_refl _) (fun q hq => by rw [s2_rowN hq]; exact hs1 q hq) (fun a' b' g1 g2 => by rw [s2_i (by omega)]; exact hs2 a' b' g1 g2) (fun b' g1 => by rw [s2_i (by omega)]; exact hs3 b' g1) (by rw [s2_s, firstI_z])⟩
    · have eb : b = nJ D := by omega
      rw [if_pos (nI_le (by omega) (by omega)), nI_1]
      refine kk s haN ⟨hs1, fun a' b' g1 g2 => ?_⟩
      by_cases e : a' = a
      · subst e; exact hs3 b' (by omega)
      · exact hs2 a' b' (by omega) g2
  · have ea : a = nJ D := by omega
    rw [if_pos (nI_le (by omega) (by omega))]
    exact h s hs1 (fun a' b' g1 g2 => hs2 a' b' (by omega) g2)
