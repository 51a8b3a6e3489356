/-! PURE: the class's news, voids, floods, meetings -/
set_option maxRecDepth 100000
def pRch (D : MS) (j : Nat) (un tw fr : Int32) : Bool := anyI (fun i => decide (¬ un < pD D j i ∧ ¬ pD D j i < fr + clF (nw D tw (pT D j i)))) (stp D j) 0
/-- void, as the class looks for it -/
def pVoidX (D S : MS) (c j : Nat) : Bool := !bitI (D 0 41) (nI j) && ((decide (nI c = D 0 43) && bitI (D 0 42) (nI j)) || (anyI (fun o => decide (¬ o = j ∧ ¬ S 0 (5 * c + o) = -1 ∧ ¬ S 1 (5 * c + j) ≤ S 1 (5 * c + o)) && pRch D j (S 1 (5 * c + j)) (S 2 (5 * c + o)) (S 1 (5 * c + o))) (nJ D) 0 || anyI (fun w => decide (D 26 (3 * w) = nI c) && pRch D j (S 1 (5 * c + j)) (D 26 (3 * w + 1)) (D 26 (3 * w + 2))) (tn (D 0 30)) 0))
theorem clF_cmp {D : MS} (hL : lndOk D) (hF : farOk D) {a b d f : Nat} (ha : a < nT D) (hb : b < nT D) (hd : d ≤ 114) (hf : f ≤ 114) : (nI d < nI f + clF (nw D (nI a) (nI b))) ↔ (nI d < nI f + nw D (nI a) (nI b)) := by
  obtain ⟨w, h1, h2⟩ := nw_nat hL hF ha hb
  rw [h1]
  unfold clF
  rcases h2 with h2 | h2
  · rw [if_pos (show nI w < 100000 from nI_lt (b := 100000) (by omega) (by decide))]
  · subst h2
    rw [if_neg (show ¬ nI 100000 < 100000 by decide), show (9999 : Int32) = nI 9999 from rfl, nI_add, nI_add, nI_ltI (by omega) (by omega), nI_ltI (by omega) (by omega)]
    omega
/-- both look for the same -/
theorem pVoidX_eq {D S : MS} (hL : lndOk D) (hF : farOk D) (hO : stOk D) (hS : sOk D S) {c j : Nat} (hj : j < nJ D) (hs : ¬ S 0 (5 * c + j) = -1) : pVoidX D S c j = pVoid D S c j := by
  unfold pVoidX pVoid
  rw [show decide (¬ S 0 (5 * c + j) = -1) = true from decide_eq_true hs, Bool.true_and]
  congr 2
  apply Bool.eq_iff_iff.mpr
  rw [Bool.or_eq_true, anyI_iff, anyI_iff, anyI_iff]
  have hT9 := hL.1.2
  constructor
  · rintro (⟨o, -, ho, h⟩ | ⟨w, -, hw, h⟩)
    · rw [Bool.and_eq_true] at h
      obtain ⟨h1, h2⟩ := h
      obtain ⟨g1, g2, g3⟩ := of_decide_eq_true h1
      obtain ⟨i, -, hi, h4⟩ := (anyI_iff _ _).mp h2
      obtain ⟨k1, k2⟩ := of_decide_eq_true h4
      refine ⟨i, Nat.zero_le _, hi, ?_⟩
      unfold pVi
      rw [show decide (¬ S 1 (5 * c + j) < pD D j i) = true from decide_eq_true k1, Bool.true_and]
      have : pVJ D S c j (pT D j i) (pD D j i) = true := by
        refine (anyI_iff _ _).mpr ⟨o, Nat.zero_le _, ho, decide_eq_true ⟨g1, g2, g3, ?_⟩⟩
        obtain ⟨-, d, t, q1, q2, q3, q4⟩ := hS _ g2
        obtain ⟨u, u1, u2⟩ := pT_nat hL hj (show i < stp D j by omega)
        obtain ⟨e, e1, e2⟩ := pD_114 hL hO hj (show i < stp D j by omega)
        rw [q1, q3, u1, e1] at k2 ⊢
        exact fun z => k2 ((clF_cmp hL hF q4 u2 e2 q2).mpr z)
      rw [this, Bool.or_true]
    · rw [Bool.and_eq_true] at h
      obtain ⟨h1, h2⟩ := h
      have g1 := of_decide_eq_true h1
      obtain ⟨i, -, hi, h4⟩ := (anyI_iff _ _).mp h2
      obtain ⟨k1, k2⟩ := of_decide_eq_true h4
      refine ⟨i, Nat.zero_le _, hi, ?_⟩
      unfold pVi
      rw [show decide (¬ S 1 (5 * c + j) < pD D j i) = true from decide_eq_true k1, Bool.true_and]
      have : pVW D c (pT D j i) (pD D j i) = true := by
        refine (anyI_iff _ _).mpr ⟨w, Nat.zero_le _, hw, decide_eq_true ⟨g1, ?_⟩⟩
        obtain ⟨t, d, q3, q4, q1, q2⟩ := hO.2.2.2.2.1 w (by omega)
        obtain ⟨u, u1, u2⟩ := pT_nat hL hj (show i < stp D j by omega)
        obtain ⟨e, e1, e2⟩ := pD_114 hL hO hj (show i < stp D j by omega)
        rw [q1, q3, u1, e1] at k2 ⊢
        exact fun z => k2 ((clF_cmp hL hF q4 u2 e2 (by omega)).mpr z)
      rw [this, Bool.true_or]
  · rintro ⟨i, -, hi, h⟩
    unfold pVi at h
    rw [Bool.and_eq_true, Bool.or_eq_true] at h
    obtain ⟨h1, h2⟩ := h
    have k1 := of_decide_eq_true h1
    obtain ⟨u, u1, u2⟩ := pT_nat hL hj (show i < stp D j by omega)
    obtain ⟨e, e1, e2⟩ := pD_114 hL hO hj (show i < stp D j by omega)
    rcases h2 with h2 | h2
    · obtain ⟨w, -, hw, h3⟩ := (anyI_iff _ _).mp h2
      obtain ⟨g1, g2⟩ := of_decide_eq_true h3
      refine Or.inr ⟨w, Nat.zero_le _, hw, ?_⟩
      rw [Bool.and_eq_true]
      refine ⟨decide_eq_true g1, (anyI_iff _ _).mpr ⟨i, Nat.zero_le _, hi, decide_eq_true ⟨k1, ?_⟩⟩⟩
      obtain ⟨t, d, q3, q4, q1, q2⟩ := hO.2.2.2.2.1 w (by omega)
      rw [q1, q3, u1, e1] at g2 ⊢
      exact fun z => g2 ((clF_cmp hL hF q4 u2 e2 (by omega)).mp z)
    · obtain ⟨o, -, ho, h3⟩ := (anyI_iff _ _).mp h2
      obtain ⟨g1, g2, g3, g4⟩ := of_decide_eq_true h3
      refine Or.inl ⟨o, Nat.zero_le _, ho, ?_⟩
      rw [Bool.and_eq_true]
      refine ⟨decide_eq_true ⟨g1, g2, g3⟩, (anyI_iff _ _).mpr ⟨i, Nat.zero_le _, hi, decide_eq_true ⟨k1, ?_⟩⟩⟩
      obtain ⟨-, d, t, q1, q2, q3, q4⟩ := hS _ g2
      rw [q1, q3, u1, e1] at g4 ⊢
      exact fun z => g4 ((clF_cmp hL hF q4 u2 e2 q2).mp z)
section TR3
variable {ad : Nat → Nat} {T L : Nat → Nat} {V : w_V} {P : w_P} {tr l st jl ja cl ca vw : Nat} {D : MS} {lw : (Nat → Int32) → Int32}
theorem sX_far (hL : lndOk D) (hF : farR V l D) {a b : Nat} (ha : a < nT D) (hb : b < nT D) {post : Int32 → Prop} (hp : post (clF (D 25 (9 * a + b)))) : wX2_far ad T L V P l (nI a) (nI b) post := by
  have hT9 := hL.1.2
  unfold wX2_far
  exact ⟨9 * a + b, by omega, ix9 a b, by rw [hF a b ha hb]; exact hp⟩
theorem sX_newsL (hL : lndOk D) (hFo : farOk D) (h4 : lndR ad T L V P l jl ja cl ca vw D lw) (h5 : farR V l D) {a b : Nat} (ha : a < nT D) (hb : b < nT D) {post : Int32 → Prop} (hp : post (clF (nw D (nI a) (nI b)))) : wX2_news ad T L V P l (nI a) (nI b) post := by
  have hT9 := hL.1.2
  unfold wX2_news
  refine sX_far hL h5 ha hb ?_
  obtain ⟨f, hf, hf2⟩ := hFo a b ha hb
  obtain ⟨w, hw, hw2⟩ := nw_nat hL hFo ha hb
  have hwu : nw D (nI a) (nI b) = if D 25 (9 * a + b) < 100000 then (D 25 (9 * a + b) * D 4 3 + 9) / 10 else 100000 := by
    unfold nw
    rw [ix9, tn_nI (by omega)]
  rcases hf2 with hf2 | hf2
  · have hl : D 25 (9 * a + b) < 100000 := by rw [hf]; exact nI_lt (b := 100000) (by omega) (by decide)
    have ec : clF (D 25 (9 * a + b)) = D 25 (9 * a + b) := if_pos hl
    rw [ec, if_pos (show D 25 (9 * a + b) < 9999 by rw [hf]; exact nI_lt (b := 9999) (by omega) (by decide))]
    refine sX_far hL h5 ha hb ?_
    rw [ec, h4.1.2.2.2.1]
    rw [if_pos hl] at hwu
    rw [← hwu, hw]
    rw [hw] at hp
    have hw3 : w ≤ 400 := by
      rcases hw2 with q | q
      · exact q
      · exfalso
        obtain ⟨g, hg, hg2⟩ := hL.2.2.2.2.1
        rw [hf, hg, nI_mul, show (9 : Int32) = nI 9 from rfl, nI_add, show (10 : Int32) = nI 10 from rfl] at hwu
        have hfg : f * g ≤ 90 * 40 := Nat.mul_le_mul hf2 hg2
        rw [nI_div (by omega) (by decide), hw, nI_eq (by omega) (by omega)] at hwu
        omega
    rw [show clF (nI w) = nI w from if_pos (show nI w < 100000 from nI_lt (b := 100000) (by omega) (by decide))] at hp
    exact hp
  · subst hf2
    rw [hf] at hwu ⊢
    rw [if_neg (show ¬ nI 100000 < 100000 by decide)] at hwu
    rw [hwu] at hp
    rw [show clF (nI 100000) = 9999 from if_neg (by decide), if_neg (by decide)]
    exact hp
theorem sX_news (hL : lndOk D) (hFo : farOk D) (h : trW ad T L V P tr l st jl ja cl ca vw D lw) {a b : Nat} (ha : a < nT D) (hb : b < nT D) {post : Int32 → Prop} (hp : post (clF (nw D (nI a) (nI b)))) : wX2_news ad T L V P l (nI a) (nI b) post := sX_newsL hL hFo h.2.2.2.1 h.2.2.2.2.1 ha hb hp
theorem sX_isReached (hL : lndOk D) (hFo : farOk D) (h : trW ad T L V P tr l st jl ja cl ca vw D lw) (hP : stopX V tr D) {j t : Nat} (hj : j < nJ D) (ht : t < nT D) {un fr : Int32} {post : Int32 → Prop} (hp : post (b2 (pRch D j un (nI t) fr))) : wX7_isReached ad T L V P tr (nI j) un (nI t) fr post := by
  unfold wX7_isReached
  obtain ⟨-, h9, h91, h97, -⟩ := hL.2.2.2.2.2.1 j hj
  have hJ5 := hL.2.1.2
  obtain ⟨h1, h2, h3, h4, h5, h6, h7⟩ := id h
  refine loop0 (F := fun n i (_ : Unit) => lX7_isReached_3 ad T L V P tr (nI j) un (nI t) fr post n i) (stp D j) (fun k _ => pRch D j un (nI t) fr = anyI (fun i => decide (¬ un < pD D j i ∧ ¬ pD D j i < fr + clF (nw D (nI t) (pT D j i)))) (stp D j - k) k) () rfl (fun n k s hk hs kk => ?_)
  show lX7_isReached_3 ad T L V P tr (nI j) un (nI t) fr post (n + 1) (nI k)
  unfold lX7_isReached_3 jX7_isReached_63
  refine sX_towns hL h hj ?_
  by_cases hkN : k < stp D j
  · rw [if_neg (nI_ge hkN (by omega))]
    refine ⟨7 * j + k, by omega, ix7 j k, ?_⟩
    obtain ⟨e1, e2⟩ := hP j k hj hkN
    rw [e2]
    rw [anyI_s hkN] at hs
    have hn := kk () hkN
    rw [← nI_1] at hn
    by_cases q1 : un < pD D j k
    · rw [if_pos q1]
      refine hn ?_
      rw [hs, if_neg (by simp [q1])]
    · rw [if_neg q1]
      refine ⟨l, h2, h4.1.1, 7 * j + k, by omega, ix7 j k, ?_⟩
      rw [e1]
      obtain ⟨u, u1, u2⟩ := pT_nat hL hj hkN
      rw [u1] at hs ⊢
      refine sX_news hL hFo h ht u2 ?_
      by_cases q2 : pD D j k < fr + clF (nw D (nI t) (nI u))
      · rw [if_pos q2]
        refine hn ?_
        rw [hs, if_neg (by simp [q2])]
      · rw [if_neg q2]
        rw [if_pos (decide_eq_true ⟨q1, q2⟩)] at hs
        rw [hs] at hp
        exact hp
  · have ek : k = stp D j := by omega
    rw [if_pos (nI_le (by omega) (by omega))]
    rw [ek, anyI_z] at hs
    rw [hs] at hp
    exact hp
theorem sX_hears2 (hL : lndOk D) (h : trW ad T L V P tr l st jl ja cl ca vw D lw) {j : Nat} (hj : j < nJ D) {post : Int32 → Prop} (hp : post (b2 (!bitI (D 0 41) (nI j)))) : wX7_hears_2 ad T L V P tr (nI j) post := by
  have hJ5 := hL.2.1.2
  obtain ⟨h1, h2, h3, h4, h5, h6, h7⟩ := id h
  obtain ⟨j1, j2, j3⟩ := h4.2.2.1
  obtain ⟨ja1, hja, hjr⟩ := j3 j hj
  unfold wX7_hears_2
  refine ⟨l, h2, h4.1.1, jl, j1, j2.1, sJ2_get j2 hj (by omega) hja ⟨hjr.jT, ?_⟩⟩
  have ht := h7.2.1 j hj
  have fin : ∀ g : Bool, g = decide (¬ D 6 j = 1) → (∃ b14 : Nat, P tr 1 = some b14 ∧ T b14 = 6 ∧ (if (((((V b14 0 9) : Int32) >>> ((nI j : Int32) &&& 31)) &&& 1) = 1 : Prop) then (jX7_hears_2_37 ad T L V P tr 1 (b2 g) post) else (jX7_hears_2_37 ad T L V P tr 0 (b2 g) post))) := by
    intro g hg
    refine ⟨st, h3, h6.1, ?_⟩
    unfold jX7_hears_2_37
    unfold bitI at ht hp
    by_cases hk : D 6 j = 1
    · rw [decide_eq_false (fun q => q hk)] at hg
      rw [decide_eq_true hk] at ht
      subst hg
      by_cases hb : ((V st 0 9 >>> (nI j &&& 31)) &&& 1) = 1
      · rw [if_pos hb, b2_f, if_neg (by decide)]
        rw [decide_eq_true hb] at ht
        cases hx : decide (((D 0 41 >>> (nI j &&& 31)) &&& 1) = 1) with
        | true => rw [hx] at ht; cases ht
        | false => rw [hx] at hp; exact hp
      · rw [if_neg hb, b2_f, if_pos rfl]
        rw [decide_eq_false hb] at ht
        cases hx : decide (((D 0 41 >>> (nI j &&& 31)) &&& 1) = 1) with
        | true => rw [hx] at hp; exact hp
        | false => rw [hx] at ht; cases ht
    · rw [decide_eq_true hk] at hg
      rw [decide_eq_false hk] at ht
      subst hg
      by_cases hb : ((V st 0 9 >>> (nI j &&& 31)) &&& 1) = 1
      · rw [if_pos hb, b2_t, if_pos rfl]
        rw [decide_eq_true hb] at ht
        cases hx : decide (((D 0 41 >>> (nI j &&& 31)) &&& 1) = 1) with
        | true => rw [hx] at hp; exact hp
        | false => rw [hx] at ht; cases ht
      · rw [if_neg hb, b2_t, if_neg (by decide)]
        rw [decide_eq_false hb] at ht
        cases hx : decide (((D 0 41 >>> (nI j &&& 31)) &&& 1) = 1) with
        | true => rw [hx] at ht; cases ht
        | false => rw [hx] at hp; exact hp
  rcases hjr.1 with ⟨hk, hT⟩ | ⟨hk, hT⟩ | ⟨hk, hT⟩
  · refine ⟨fun _ => ?_, fun e => absurd (hT.symm.trans e) (by decide), fun e => absurd (hT.symm.trans e) (by decide)⟩
    unfold wX16_hears
    exact fin true (by rw [hk]; decide)
  · refine ⟨fun e => absurd (hT.symm.trans e) (by decide), fun _ => ?_, fun e => absurd (hT.symm.trans e) (by decide)⟩
    unfold wX17_hears wX16_hears
    show if (1 : Int32) = 0 then _ else _
    rw [if_neg (by decide)]
    exact fin false (by rw [hk]; decide)
  · refine ⟨fun e => absurd (hT.symm.trans e) (by decide), fun e => absurd (hT.symm.trans e) (by decide), fun _ => ?_⟩
    unfold wX16_hears
    exact fin true (by rw [hk]; decide)
theorem sX_isVoided (hL : lndOk D) (hFo : farOk D) (hO : stOk D) (h : trW ad T L V P tr l st jl ja cl ca vw D lw) (hP : stopX V tr D) {S : MS} (hS : cS V tr S) (hSo : sOk D S) {c j : Nat} (hc : c < nC D) (hj : j < nJ D) (hs : ¬ S 0 (5 * c + j) = -1) {post : Int32 → Prop} (hp : post (b2 (pVoid D S c j))) : wX7_isVoided ad T L V P tr (nI c) (nI j) post := by
  rw [← pVoidX_eq hL hFo hO hSo hj hs] at hp
  have hJ5 := hL.2.1.2
  have hC6 := hL.2.2.1.2
  obtain ⟨h1, h2, h3, h4, h5, h6, h7⟩ := id h
  obtain ⟨hW, hW5⟩ := hO.2.1
  unfold wX7_isVoided
  refine sX_hears2 hL h hj ?_
  unfold pVoidX at hp
  cases hb : bitI (D 0 41) (nI j) with
  | true =>
    rw [hb] at hp
    rw [Bool.not_true, b2_f, if_pos rfl]
    exact hp
  | false =>
  rw [hb, Bool.not_false, Bool.true_and] at hp
  rw [Bool.not_false, b2_t, if_neg (by decide)]
  refine ⟨st, h3, h6.1, ?_⟩
  obtain ⟨e1, e2, e3⟩ := hS (5 * c + j) (by omega)
  have rest : post (b2 (anyI (fun o => decide (¬ o = j ∧ ¬ S 0 (5 * c + o) = -1 ∧ ¬ S 1 (5 * c + j) ≤ S 1 (5 * c + o)) && pRch D j (S 1 (5 * c + j)) (S 2 (5 * c + o)) (S 1 (5 * c + o))) (nJ D) 0 || anyI (fun w => decide (D 26 (3 * w) = nI c) && pRch D j (S 1 (5 * c + j)) (D 26 (3 * w + 1)) (D 26 (3 * w + 2))) (tn (D 0 30)) 0)) → jX7_isVoided_38 ad T L V P tr (nI c) (nI j) post := by
    intro hp
    unfold jX7_isVoided_38
    refine ⟨5 * c + j, by omega, ix5 c j, ?_⟩
    rw [e2]
    refine loop0 (F := fun n i (_ : Unit) => lX7_isVoided_52 ad T L V P tr (nI c) (nI j) (S 1 (5 * c + j)) post _ n i) (nJ D) (fun o _ => anyI (fun o => decide (¬ o = j ∧ ¬ S 0 (5 * c + o) = -1 ∧ ¬ S 1 (5 * c + j) ≤ S 1 (5 * c + o)) && pRch D j (S 1 (5 * c + j)) (S 2 (5 * c + o)) (S 1 (5 * c + o))) (nJ D) 0 = anyI (fun o => decide (¬ o = j ∧ ¬ S 0 (5 * c + o) = -1 ∧ ¬ S 1 (5 * c + j) ≤ S 1 (5 * c + o)) && pRch D j (S 1 (5 * c + j)) (S 2 (5 * c + o)) (S 1 (5 * c + o))) (nJ D - o) o) () rfl (fun n o s ho hs1 kk => ?_)
    show lX7_isVoided_52 ad T L V P tr (nI c) (nI j) (S 1 (5 * c + j)) post _ (n + 1) (nI o)
    unfold lX7_isVoided_52 jX7_isVoided_122
    refine sX_judges h ?_
    by_cases hoN : o < nJ D
    · rw [if_neg (nI_ge hoN (by omega))]
      rw [anyI_s hoN] at hs1
      have hn := kk () hoN
      rw [← nI_1] at hn
      by_cases q1 : nI o = nI j
      · rw [if_pos q1]
        rw [nI_eq (by omega) (by omega)] at q1
        refine hn ?_
        rw [hs1, if_neg (by simp [q1])]
      rw [if_neg q1]
      rw [nI_eq (by omega) (by omega)] at q1
      obtain ⟨o1, o2, o3⟩ := hS (5 * c + o) (by omega)
      refine ⟨5 * c + o, by omega, ix5 c o, ?_⟩
      rw [o1]
      by_cases q2 : S 0 (5 * c + o) = -1
      · rw [if_pos q2]
        refine hn ?_
        rw [hs1, if_neg (by simp [q2])]
      rw [if_neg q2]
      refine ⟨5 * c + o, by omega, ix5 c o, ?_⟩
      rw [o2]
      by_cases q3 : S 1 (5 * c + j) ≤ S 1 (5 * c + o)
      · rw [if_pos q3]
        refine hn ?_
        rw [hs1, if_neg (by simp [q3])]
      rw [if_neg q3]
      refine ⟨5 * c + o, by omega, ix5 c o, 5 * c + o, by omega, ix5 c o, ?_⟩
      rw [o3, o2]
      obtain ⟨-, d, t, -, -, g3, g4⟩ := hSo _ q2
      rw [show decide (¬ o = j ∧ ¬ S 0 (5 * c + o) = -1 ∧ ¬ S 1 (5 * c + j) ≤ S 1 (5 * c + o)) = true from decide_eq_true ⟨q1, q2, q3⟩, Bool.true_and, g3] at hs1
      rw [g3]
      refine sX_isReached hL hFo h hP hj g4 ?_
      cases hr : pRch D j (S 1 (5 * c + j)) (nI t) (S 1 (5 * c + o)) with
      | false =>
        rw [b2_f, if_pos rfl]
        refine hn ?_
        rw [hs1, hr, if_neg (by decide)]
      | true =>
        rw [b2_t, if_neg (by decide)]
        rw [hr, if_pos rfl] at hs1
        rw [hs1, Bool.true_or] at hp
        exact hp
    · have eo : o = nJ D := by omega
      rw [if_pos (nI_le (by omega) (by omega))]
      rw [eo, anyI_z] at hs1
      rw [hs1, Bool.false_or] at hp
      refine loop0 (F := fun n i (_ : Unit) => lX7_isVoided_131 ad T L V P tr (nI c) (nI j) (S 1 (5 * c + j)) post n i) (tn (D 0 30)) (fun w _ => anyI (fun w => decide (D 26 (3 * w) = nI c) && pRch D j (S 1 (5 * c + j)) (D 26 (3 * w + 1)) (D 26 (3 * w + 2))) (tn (D 0 30)) 0 = anyI (fun w => decide (D 26 (3 * w) = nI c) && pRch D j (S 1 (5 * c + j)) (D 26 (3 * w + 1)) (D 26 (3 * w + 2))) (tn (D 0 30) - w) w) () rfl (fun n w s hw hs2 kk2 => ?_)
      show lX7_isVoided_131 ad T L V P tr (nI c) (nI j) (S 1 (5 * c + j)) post (n + 1) (nI w)
      unfold lX7_isVoided_131 jX7_isVoided_198
      refine ⟨st, h3, h6.1, ?_⟩
      rw [h6.2.2.2.1, hW]
      by_cases hwN : w < tn (D 0 30)
      · rw [if_neg (nI_ge hwN (by omega))]
        rw [anyI_s hwN] at hs2
        have hn := kk2 () hwN
        rw [← nI_1] at hn
        refine ⟨st, h3, h6.1, 3 * w, by omega, ix3 w, ?_⟩
        rw [h6.2.2.2.2.2.2.1 (3 * w) (by omega)]
        by_cases q1 : D 26 (3 * w) = nI c
        · rw [if_pos q1]
          refine ⟨st, h3, h6.1, 3 * w + 1, by omega, ix31 w, st, h3, h6.1, 3 * w + 2, by omega, ix32 w, ?_⟩
          rw [h6.2.2.2.2.2.2.1 (3 * w + 1) (by omega), h6.2.2.2.2.2.2.1 (3 * w + 2) (by omega)]
          obtain ⟨t, d, g1, g2, g3, g4⟩ := hO.2.2.2.2.1 w hwN
          rw [show decide (D 26 (3 * w) = nI c) = true from decide_eq_true q1, Bool.true_and, g1] at hs2
          rw [g1]
          refine sX_isReached hL hFo h hP hj g2 ?_
          cases hr : pRch D j (S 1 (5 * c + j)) (nI t) (D 26 (3 * w + 2)) with
          | false =>
            rw [b2_f, if_pos rfl]
            refine hn ?_
            rw [hs2, hr, if_neg (by decide)]
          | true =>
            rw [b2_t, if_neg (by decide)]
            rw [hr, if_pos rfl] at hs2
            rw [hs2] at hp
            exact hp
        · rw [if_neg q1]
          refine hn ?_
          rw [hs2, if_neg (by simp [q1])]
      · have ew : w = tn (D 0 30) := by omega
        rw [if_pos (nI_le (by omega) (by omega))]
        rw [ew, anyI_z] at hs2
        rw [hs2] at hp
        exact hp
  rw [h7.2.2.2]
  by_cases hc3 : D 0 43 = nI c
  · rw [if_pos hc3]
    rw [show decide (nI c = D 0 43) = true from decide_eq_true hc3.symm, Bool.true_and] at hp
    refine ⟨st, h3, h6.1, ?_⟩
    rw [h7.2.2.1]
    by_cases hm : ((D 0 42 >>> (nI j &&& 31)) &&& 1) = 1
    · rw [if_pos hm]
      rw [show bitI (D 0 42) (nI j) = true from decide_eq_true hm, Bool.true_or] at hp
      exact hp
    · rw [if_neg hm]
      rw [show bitI (D 0 42) (nI j) = false from decide_eq_false hm, Bool.false_or] at hp
      exact rest hp
  · rw [if_neg hc3]
    rw [show decide (nI c = D 0 43) = false from decide_eq_false (fun q => hc3 q.symm), Bool.false_and, Bool.false_or] at hp
    exact rest hp
theorem clF_wide {f w : Nat} (hw : w ≤ 20) (hf : f ≤ 90 ∨ f = 100000) : (nI w < clF (nI f)) ↔ (nI w < nI f) := by
  unfold clF
  rcases hf with h | h
  · rw [if_pos (show nI f < 100000 from nI_lt (b := 100000) (by omega) (by decide))]
  · subst h
    rw [if_neg (show ¬ nI 100000 < 100000 by decide), show (9999 : Int32) = nI 9999 from rfl, nI_ltI (by omega) (by omega), nI_ltI (by omega) (by omega)]
    omega
theorem sX_isFlooded (hL : lndOk D) (hFo : farOk D) (hO : stOk D) (h : trW ad T L V P tr l st jl ja cl ca vw D lw) {a b : Nat} (ha : a < nT D) (hb : b < nT D) {d : Int32} {post : Int32 → Prop} (hp : post (b2 (pFl D (nI a) (nI b) d))) : wX7_isFlooded ad T L V P tr (nI a) (nI b) d post := by
  have hT9 := hL.1.2
  obtain ⟨h1, h2, h3, h4, h5, h6, h7⟩ := id h
  obtain ⟨hF, hF6⟩ := hO.2.2.2.1
  unfold wX7_isFlooded
  refine loop0 (F := fun n i (_ : Unit) => lX7_isFlooded_3 ad T L V P tr (nI a) (nI b) d post n i) (tn (D 0 32)) (fun k _ => pFl D (nI a) (nI b) d = anyI (fun k => decide (D 28 (3 * k + 1) = d ∧ ¬ D 28 (3 * k + 2) < D 25 (tn ((9 : Int32) * nI a + D 28 (3 * k))) ∧ ¬ D 28 (3 * k + 2) < D 25 (tn ((9 : Int32) * nI b + D 28 (3 * k))))) (tn (D 0 32) - k) k) () rfl (fun n k s hk hs kk => ?_)
  show lX7_isFlooded_3 ad T L V P tr (nI a) (nI b) d post (n + 1) (nI k)
  unfold lX7_isFlooded_3 jX7_isFlooded_103
  refine ⟨st, h3, h6.1, ?_⟩
  rw [h6.2.2.2.2.2.1, hF]
  by_cases hkN : k < tn (D 0 32)
  · rw [if_neg (nI_ge hkN (by omega))]
    rw [anyI_s hkN] at hs
    have hn := kk () hkN
    rw [← nI_1] at hn
    obtain ⟨t, w, ht, htT, hw, hw2⟩ := hO.2.2.2.2.2 k hkN
    have r9 := h6.2.2.2.2.2.2.2.2
    refine ⟨st, h3, h6.1, 3 * k, by omega, ix3 k, st, h3, h6.1, 3 * k + 1, by omega, ix31 k, ?_⟩
    have e1 : tn ((9 : Int32) * nI a + D 28 (3 * k)) = 9 * a + t := by rw [ht, ix9, tn_nI (by omega)]
    have e2 : tn ((9 : Int32) * nI b + D 28 (3 * k)) = 9 * b + t := by rw [ht, ix9, tn_nI (by omega)]
    rw [e1, e2, hw] at hs
    obtain ⟨fa, hfa, hfa2⟩ := hFo a t ha htT
    obtain ⟨fb, hfb, hfb2⟩ := hFo b t hb htT
    rw [hfa, hfb] at hs
    rw [r9 (3 * k) (by omega), r9 (3 * k + 1) (by omega), ht]
    by_cases q1 : D 28 (3 * k + 1) = d
    · rw [if_pos q1]
      refine ⟨l, h2, h4.1.1, sX_far hL h5 ha htT ⟨st, h3, h6.1, 3 * k + 2, by omega, ix32 k, ?_⟩⟩
      rw [r9 (3 * k + 2) (by omega), hw, hfa]
      by_cases q2 : nI w < nI fa
      · rw [if_pos ((clF_wide hw2 hfa2).mpr q2)]
        refine hn ?_
        rw [hs, if_neg (by simp [q2])]
      · rw [if_neg (fun q => q2 ((clF_wide hw2 hfa2).mp q))]
        refine ⟨l, h2, h4.1.1, sX_far hL h5 hb htT ⟨st, h3, h6.1, 3 * k + 2, by omega, ix32 k, ?_⟩⟩
        rw [r9 (3 * k + 2) (by omega), hw, hfb]
        by_cases q3 : nI w < nI fb
        · rw [if_pos ((clF_wide hw2 hfb2).mpr q3)]
          refine hn ?_
          rw [hs, if_neg (by simp [q3])]
        · rw [if_neg (fun q => q3 ((clF_wide hw2 hfb2).mp q))]
          rw [if_pos (decide_eq_true ⟨q1, q2, q3⟩)] at hs
          rw [hs] at hp
          exact hp
    · rw [if_neg q1]
      refine hn ?_
      rw [hs, if_neg (by simp [q1])]
  · have ek : k = tn (D 0 32) := by omega
    rw [if_pos (nI_le (by omega) (by omega))]
    rw [ek, anyI_z] at hs
    rw [hs] at hp
    exact hp
theorem sX_meets (hL : lndOk D) (hFo : farOk D) (hO : stOk D) (h : trW ad T L V P tr l st jl ja cl ca vw D lw) (hP : stopX V tr D) {a b : Nat} (ha : a < nJ D) (hb : b < nJ D) {post : Int32 → Prop} (hp : post (clF (pMeet D a b))) : wX7_meets ad T L V P tr (nI a) (nI b) post := by
  have hJ5 := hL.2.1.2
  obtain ⟨-, h9, h91, h97, -⟩ := hL.2.2.2.2.2.1 a ha
  obtain ⟨h1, h2, h3, h4, h5, h6, h7⟩ := id h
  unfold wX7_meets
  refine loop0 (F := fun n i (_ : Unit) => lX7_meets_2 ad T L V P tr (nI a) (nI b) post n i) (stp D a) (fun k _ => pMeet D a b = firstI (pMeetC D a b) (fun i => pD D a i) 100000 (stp D a - k) k) () rfl (fun n k s hk hs kk => ?_)
  show lX7_meets_2 ad T L V P tr (nI a) (nI b) post (n + 1) (nI k)
  unfold lX7_meets_2 jX7_meets_78 jX7_meets_94
  refine sX_towns hL h ha ?_
  by_cases hkN : k < stp D a
  · rw [if_neg (nI_ge hkN (by omega))]
    rw [firstI_s hkN] at hs
    have hn := kk () hkN
    rw [← nI_1] at hn
    obtain ⟨e1, e2⟩ := hP a k ha hkN
    refine ⟨7 * a + k, by omega, ix7 a k, 7 * a + k, by omega, ix7 a k, ?_⟩
    rw [e1, e2]
    refine sX_at hL h hP hb ?_
    by_cases q1 : pAt D b (pD D a k) = -1
    · rw [if_pos q1]
      refine hn ?_
      rw [hs, if_neg (by unfold pMeetC; simp [q1])]
    rw [if_neg q1]
    obtain ⟨t, ht, htT⟩ := pT_nat hL ha hkN
    obtain ⟨u, hu, huT⟩ := (pAt_nat hL hb (pD D a k)).resolve_left q1
    obtain ⟨d, hd, hd2⟩ := pD_114 hL hO ha hkN
    have hc : pMeetC D a b k = pIsM D (nI t) (nI u) (pD D a k) := by
      unfold pMeetC
      rw [hu, ht]
      simp [show ¬ nI u = -1 from fun e => q1 (hu.trans e)]
    have yes : pMeetC D a b k = true → post (pD D a k) := by
      intro q
      rw [if_pos q] at hs
      rw [hs, hd] at hp
      rw [hd]
      rw [show clF (nI d) = nI d from if_pos (show nI d < 100000 from nI_lt (b := 100000) (by omega) (by decide))] at hp
      exact hp
    have fl : pIsM D (nI t) (nI u) (pD D a k) = pFl D (nI t) (nI u) (pD D a k) → wX7_isFlooded ad T L V P tr (nI t) (nI u) (pD D a k) (fun (r13 : Int32) => (if (r13 = 0 : Prop) then (lX7_meets_2 ad T L V P tr (nI a) (nI b) post n) (nI k + 1) else (post (pD D a k)))) := by
      intro e
      refine sX_isFlooded hL hFo hO h htT huT ?_
      cases hf : pFl D (nI t) (nI u) (pD D a k) with
      | false =>
        rw [b2_f, if_pos rfl]
        refine hn ?_
        rw [hs, if_neg (by rw [hc, e, hf]; decide)]
      | true =>
        rw [b2_t, if_neg (by decide)]
        exact yes (by rw [hc, e, hf])
    rw [ht, hu]
    by_cases q2 : nI t = nI u
    · rw [if_pos q2]
      refine ⟨st, h3, h6.1, ?_⟩
      rw [h6.2.2.1]
      by_cases q3 : ((D 0 29 >>> (nI t &&& 31)) &&& 1) = 1
      · rw [if_pos q3]
        refine yes ?_
        rw [hc]
        unfold pIsM
        rw [decide_eq_true ⟨q2, q3⟩, Bool.true_or]
      · rw [if_neg q3]
        refine fl ?_
        unfold pIsM
        rw [decide_eq_false (fun q => q3 q.2), Bool.false_or]
    · rw [if_neg q2]
      refine fl ?_
      unfold pIsM
      rw [decide_eq_false (fun q => q2 q.1), Bool.false_or]
  · have ek : k = stp D a := by omega
    rw [if_pos (nI_le (by omega) (by omega))]
    rw [ek, firstI_z] at hs
    rw [hs] at hp
    exact hp
end TR3
