/-! PURE: mercy, sent -/
set_option maxRecDepth 100000
/-- how many bits -/
def bcN (k : Nat) : Nat := k % 2 + k / 2 % 2 + k / 4 % 2 + k / 8 % 2 + k / 16 % 2
theorem bc_drop : ∀ k, k < 32 → k ≠ 0 → nI k &&& (nI k - 1) = nI (k &&& (k - 1)) ∧ k &&& (k - 1) < k ∧ bcN (k &&& (k - 1)) + 1 = bcN k := by decide +kernel
theorem bcN_lt : ∀ k, k < 32 → bcN k ≤ 5 := by decide +kernel
theorem sM_bits {sg : MS} {post : Int32 → Prop} : ∀ (f k a : Nat), k < f → k < 32 → post (nI (a + bcN k)) → lM_bitsOf_4 sg post f (nI a) (nI k)
  | 0, _, _, h, _, _ => absurd h (by omega)
  | f + 1, k, a, h1, h2, hp => by
    unfold lM_bitsOf_4
    by_cases h : k = 0
    · subst h
      rw [if_pos (show nI 0 = 0 from rfl)]
      exact hp
    · obtain ⟨e1, e2, e3⟩ := bc_drop k h2 h
      rw [if_neg (nI_ne0 (by omega) (by omega)), e1, nI_1]
      refine sM_bits f _ (a + 1) (by omega) (by omega) ?_
      rw [show a + 1 + bcN (k &&& (k - 1)) = a + bcN k by omega]
      exact hp
theorem sM_bitsOf {sg : MS} {k : Nat} (hk : k < 32) {post : Int32 → Prop} (hp : post (nI (bcN k))) : wM_bitsOf sg (nI k) post := by
  unfold wM_bitsOf
  exact ⟨33, sM_bits 33 k 0 (by omega) hk (by rw [Nat.zero_add]; exact hp)⟩
theorem sX_bits0 (ad : Nat → Nat) (T L : Nat → Nat) (V : w_V) (P : w_P) : ∀ k, k < 32 → wJ16_bitCount ad T L V P (nI k) (fun r => r = nI (bcN k)) := by
  unfold wJ16_bitCount
  decide +kernel
theorem sX_bits {ad : Nat → Nat} {T L : Nat → Nat} {V : w_V} {P : w_P} {k : Nat} (hk : k < 32) {post : Int32 → Prop} (hp : post (nI (bcN k))) : wJ16_bitCount ad T L V P (nI k) post := by
  have h := sX_bits0 ad T L V P k hk
  unfold wJ16_bitCount at h ⊢
  dsimp only at h
  rw [h]
  exact hp
theorem two_pow : ∀ n, n ≤ 5 → (1 : Int32) <<< (nI n &&& 31) = nI (2 ^ n) ∧ 2 ^ n ≤ 32 := by decide +kernel
theorem and_bits : ∀ k, k < 32 → ∀ m, m < 32 → (nI k &&& nI m = 0 ↔ ∀ j, j < 5 → ¬ (bitI (nI k) (nI j) = true ∧ bitI (nI m) (nI j) = true)) := by decide +kernel
theorem bit_hi : ∀ n, n ≤ 5 → ∀ k, k < 2 ^ n → ∀ j, j < 5 → n ≤ j → bitI (nI k) (nI j) = false := by decide +kernel
def mulD (sg : MS) (c k : Nat) : MS := s2 (s2 (gh sg) 0 43 (nI c)) 0 42 (nI k)
/-- none of the set k is deaf -/
def rchB (sg : MS) (k : Nat) : Bool := decide (nI k &&& gh sg 0 41 = 0)
def mcyF (sg : MS) (lw : (Nat → Int32) → Int32) (c : Nat) : Nat → Int32
  | 0 => -1
  | k + 1 => if (mcyF sg lw c k = -1 ∨ bcN k < bcN (tn (mcyF sg lw c k))) ∧ rchB sg k = true ∧ gB (mulD sg c k) lw c = false then nI k else mcyF sg lw c k
theorem mcyF_s {sg : MS} {lw : (Nat → Int32) → Int32} {c k : Nat} : mcyF sg lw c (k + 1) = if (mcyF sg lw c k = -1 ∨ bcN k < bcN (tn (mcyF sg lw c k))) ∧ rchB sg k = true ∧ gB (mulD sg c k) lw c = false then nI k else mcyF sg lw c k := rfl
theorem mcyF_nat {sg : MS} {lw : (Nat → Int32) → Int32} {c : Nat} : ∀ k, mcyF sg lw c k = -1 ∨ ∃ m, m < k ∧ mcyF sg lw c k = nI m
  | 0 => Or.inl rfl
  | k + 1 => by
    rw [mcyF_s]
    by_cases h : (mcyF sg lw c k = -1 ∨ bcN k < bcN (tn (mcyF sg lw c k))) ∧ rchB sg k = true ∧ gB (mulD sg c k) lw c = false
    · rw [if_pos h]; exact Or.inr ⟨k, by omega, rfl⟩
    · rw [if_neg h]
      rcases mcyF_nat (sg := sg) (lw := lw) (c := c) k with q | ⟨m, q1, q2⟩
      · exact Or.inl q
      · exact Or.inr ⟨m, by omega, q2⟩
section Q7
variable {ad : Nat → Nat} {T L : Nat → Nat} {V : w_V} {P : w_P} {t : Nat} {A : Nat → Nat} {sg : MS} {lw : (Nat → Int32) → Int32}
theorem mulD_ag {c k : Nat} : agL sg (mulD sg c k) := agL.of (fun q hq => by unfold mulD; rw [s2_rowN (by omega), s2_rowN (by omega), gh_k (by omega)])
theorem mulD_same {c k : Nat} : sameT (gh sg) (mulD sg c k) := ⟨fun q h _ => by unfold mulD; rw [s2_rowN h, s2_rowN h], fun j _ _ h1 h2 => by unfold mulD; rw [s2_i h1, s2_i h2]⟩
theorem mulD_st (h : stOk (gh sg)) {c k : Nat} : stOk (mulD sg c k) := (h.f (by decide) (by decide) (by decide)).f (by decide) (by decide) (by decide)
/-- whether none of a set is deaf, the class's loop -/
theorem sX_reaches (h : cR ad T L V P t A sg lw) (hb : bxP T L P t A) {k : Nat} (hk : k < 2 ^ nJ sg) {post : Int32 → Prop} (hp : post (b2 (rchB sg k))) : wX1_reaches ad T L V P t (nI k) post := by
  have hJ := h.1.1.2.1
  obtain ⟨g1, g2, g3⟩ := h.1.2.2.1.2.2.1
  obtain ⟨m, m1, m2, m3⟩ := dfS_bit (D := sg) (nJ sg) hJ.2
  have hk32 : k < 32 := Nat.lt_of_lt_of_le hk (two_pow (nJ sg) hJ.2).2
  have hr : rchB sg k = true ↔ ∀ j, j < nJ sg → ¬ (bitI (nI k) (nI j) = true ∧ sg 6 j = 1) := by
    unfold rchB
    rw [gh_41, m2, decide_eq_true_iff, and_bits k hk32 m m1]
    constructor
    · intro q j hj z
      exact q j (by omega) ⟨z.1, by rw [m3 j (by omega)]; exact decide_eq_true ⟨hj, z.2⟩⟩
    · intro q j hj z
      rw [m3 j hj] at z
      have z2 := of_decide_eq_true z.2
      exact q j z2.1 ⟨z.1, z2.2⟩
  unfold wX1_reaches
  refine loop0 (F := fun n i (_ : Unit) => lX1_reaches_2 ad T L V P t (nI k) post n i) (nJ sg) (fun j _ => ∀ i, i < j → ¬ (bitI (nI k) (nI i) = true ∧ sg 6 i = 1)) () (fun i hi => absurd hi (by omega)) (fun n j s hj hs kk => ?_)
  show lX1_reaches_2 ad T L V P t (nI k) post (n + 1) (nI j)
  unfold lX1_reaches_2 jX1_reaches_47
  refine ⟨A 5, hb.1.2.1, h.1.2.2.1.1.1, A 6, g1, g2.1, ?_⟩
  unfold wJ2_size
  rw [g2.2.1]
  dsimp only
  by_cases hjN : j < nJ sg
  · rw [if_neg (nI_ge hjN (by omega)), nI_1]
    have next : ¬ (bitI (nI k) (nI j) = true ∧ sg 6 j = 1) → lX1_reaches_2 ad T L V P t (nI k) post n (nI (j + 1)) := fun z => kk () hjN (fun i hi => by
      by_cases e : i = j
      · subst e; exact z
      · exact hs i (by omega))
    by_cases hbit : ((nI k >>> (nI j &&& 31)) &&& 1) = 1
    · rw [if_pos hbit]
      obtain ⟨a, ha, hr1⟩ := g3 j hjN
      refine ⟨A 5, hb.1.2.1, h.1.2.2.1.1.1, A 6, g1, g2.1, sJ2_get g2 hjN (by omega) ha ⟨hr1.jT, ?_⟩⟩
      unfold wX17_hears wX16_hears
      rcases hr1.1 with ⟨k1, k2⟩ | ⟨k1, k2⟩ | ⟨k1, k2⟩
      · refine ⟨fun _ => ?_, fun e => absurd (k2.symm.trans e) (by decide), fun e => absurd (k2.symm.trans e) (by decide)⟩
        dsimp only
        rw [if_neg (by decide)]
        exact next (fun z => absurd (k1.symm.trans z.2) (by decide))
      · refine ⟨fun e => absurd (k2.symm.trans e) (by decide), fun _ => ?_, fun e => absurd (k2.symm.trans e) (by decide)⟩
        dsimp only
        rw [if_neg (by decide), if_pos rfl]
        have e : rchB sg k = false := by
          cases q : rchB sg k with
          | false => rfl
          | true => exact absurd ⟨decide_eq_true hbit, k1⟩ (hr.mp q j hjN)
        rw [e] at hp
        exact hp
      · refine ⟨fun e => absurd (k2.symm.trans e) (by decide), fun e => absurd (k2.symm.trans e) (by decide), fun _ => ?_⟩
        dsimp only
        rw [if_neg (by decide)]
        exact next (fun z => absurd (k1.symm.trans z.2) (by decide))
    · rw [if_neg hbit]
      exact next (fun z => hbit (of_decide_eq_true z.1))
  · have ej : j = nJ sg := by omega
    rw [if_pos (nI_le (by omega) (by omega))]
    rw [hr.mpr (fun i hi => hs i (by omega))] at hp
    exact hp
theorem qX_mercy (h : cR ad T L V P t A sg lw) (hb : bxP T L P t A) {x : Int32} {post : Int32 → w_V → Prop} {xp : String → w_V → w_P → Prop} (hp : ∀ c, c < nC sg → x = nI c → ∀ V9, cfr V V9 t A → post (mcyF sg lw c (2 ^ nJ sg)) V9) (h0 : notN x (nC sg) → xp cNSE V P) : wX1_mercy ad T L V P t x post xp := by
  have hJ := h.1.1.2.1
  have hv := h.vw
  obtain ⟨-, g2, g3, g4, g5⟩ := h.M
  obtain ⟨p1, p2⟩ := two_pow (nJ sg) hJ.2
  unfold wX1_mercy
  refine sX_caseAt h hb (fun c hc ec => ?_) h0
  have hp' := hp c hc ec
  subst ec
  refine loop0 (F := fun n i (q : Int32 × w_V) => lX1_mercy_9 ad T L P t (nI c) post xp n q.1 i q.2) (2 ^ nJ sg) (fun k q => q.1 = mcyF sg lw c k ∧ cfr V q.2 t A) (-1, V) ⟨rfl, cfr.rf _ _ _⟩ (fun n k q hk hq kk => ?_)
  obtain ⟨x, W⟩ := q
  obtain ⟨hx, hW⟩ := hq
  dsimp only at hx hW
  have hR := h.fr hb hW
  obtain ⟨j1, j2, j3⟩ := hR.1.2.2.1.2.2.1
  show lX1_mercy_9 ad T L P t (nI c) post xp (n + 1) x (nI k) W
  unfold lX1_mercy_9
  refine ⟨A 5, hb.1.2.1, hR.1.2.2.1.1.1, A 6, j1, j2.1, ?_⟩
  unfold wJ2_size
  rw [j2.2.1]
  dsimp only
  rw [p1]
  by_cases hkN : k < 2 ^ nJ sg
  · rw [if_neg (nI_ge hkN (by omega))]
    have skip : ∀ W1, cfr V W1 t A → ¬ ((mcyF sg lw c k = -1 ∨ bcN k < bcN (tn (mcyF sg lw c k))) ∧ rchB sg k = true ∧ gB (mulD sg c k) lw c = false) → jX1_mercy_92 ad T L W1 P t (nI c) x (nI k) post xp (lX1_mercy_9 ad T L P t (nI c) post xp n) := fun W1 h1 h2 => by
      unfold jX1_mercy_92
      rw [nI_1]
      exact kk (x, W1) hkN ⟨by rw [mcyF_s, if_neg h2]; exact hx, h1⟩
    have try_ : (mcyF sg lw c k = -1 ∨ bcN k < bcN (tn (mcyF sg lw c k))) → jX1_mercy_44 ad T L W P t (nI c) x (nI k) post xp (lX1_mercy_9 ad T L P t (nI c) post xp n) := fun hq => by
      unfold jX1_mercy_44
      refine ⟨A 3, hb.1.2.2.2.2.2.1, bx_st hb stI3, A 2, hb.1.2.2.2.2.1, bx_st hb stI2, sX_like3g hR hb (fun V1 a1 a2 a3 a4 => ⟨A 3, hb.1.2.2.2.2.2.1, bx_st hb stI3, fun V2 e2 => ⟨A 3, hb.1.2.2.2.2.2.1, bx_st hb stI3, fun V3 e3 => ?_⟩⟩)⟩
      have c2 : cfr V1 V2 t A := by rw [e2]; exact cfr.up hb hv
      have c3 : cfr V2 V3 t A := by rw [e3]; exact cfr.up hb hv
      have hR3 := hR.fr hb (a2.tr (c2.tr c3))
      have hs : stR T V3 (A 3) (mulD sg c k) := by
        rw [e3, e2]
        exact ((((a3.v (Or.inr (Or.inr (Or.inr rfl)))).v (Or.inr (Or.inr (Or.inl rfl)))).f (by decide) (by decide) (by decide) (by decide)).f (by decide) (by decide) (by decide) (by decide))
      have he : exR V3 (A 3) (mulD sg c k) := by rw [e3, e2]; exact a4.mule
      refine sX_reaches hR3 hb hkN ?_
      cases hr : rchB sg k with
      | false =>
        rw [if_pos (show b2 false = 0 from rfl)]
        exact skip V3 (hW.tr (a2.tr (c2.tr c3))) (fun z => absurd (hr.symm.trans z.2.1) (by decide))
      | true =>
        rw [if_neg (show ¬ b2 true = 0 by decide)]
        refine sX_isGuilty hR3 hb mulD_ag (mulD_st g4) hs he hc (fun V4 d1 => ?_)
        have hW4 : cfr V V4 t A := hW.tr ((a2.tr (c2.tr c3)).tr d1)
        cases hg : gB (mulD sg c k) lw c with
        | false =>
          rw [if_pos (show b2 false = 0 from rfl)]
          unfold jX1_mercy_92
          rw [nI_1]
          exact kk (nI k, V4) hkN ⟨by rw [mcyF_s, if_pos ⟨hq, hr, hg⟩], hW4⟩
        | true =>
          rw [if_neg (show ¬ b2 true = 0 by decide)]
          exact skip V4 hW4 (fun z => absurd (hg.symm.trans z.2.2) (by decide))
    by_cases hm : x = -1
    · rw [if_pos hm]
      exact try_ (Or.inl (hx.symm.trans hm))
    · rw [if_neg hm]
      obtain ⟨m, m1, m2⟩ := (mcyF_nat (sg := sg) (lw := lw) (c := c) k).resolve_left (fun z => hm (hx.trans z))
      have hm32 : m < 32 := by omega
      have h1 := bcN_lt k (by omega)
      have h2 := bcN_lt m hm32
      refine sX_bits (by omega) ?_
      rw [show x = nI m from hx.trans m2]
      refine sX_bits hm32 ?_
      rw [← show x = nI m from hx.trans m2]
      by_cases hl : nI (bcN k) < nI (bcN m)
      · rw [if_pos hl]
        refine try_ (Or.inr ?_)
        rw [m2, tn_nI (by omega)]
        exact (nI_ltI (by omega) (by omega)).mp hl
      · rw [if_neg hl]
        refine skip W hW (fun z => ?_)
        rcases z.1 with q | q
        · exact hm (hx.trans q)
        · rw [m2, tn_nI (by omega)] at q
          exact hl (nI_lt q (by omega))
  · have ek : k = 2 ^ nJ sg := by omega
    rw [if_pos (nI_le (by omega) (by omega)), hx, ek]
    exact hp' W hW
/-- the model's state while mules are tried: what it is but for mules -/
def mlS (sg S : MS) (c : Nat) (s : MS) : Prop := (∀ q, offA q → q ≠ 0 → s q = gh sg q) ∧ (∀ j, j ≠ 42 → j ≠ 43 → s 0 j = s2 (gh sg) 0 2 0 0 j) ∧ s 0 43 = nI c ∧ judgeOn s (gh sg) S
theorem judgeOn.f0 {s D S : MS} {j : Nat} {x : Int32} (h : judgeOn s D S) : judgeOn (s2 s 0 j x) D S := by
  obtain ⟨t1, t2, t3⟩ := h
  exact ⟨fun j i x y => by rw [s2_rowN (by decide), s2_rowN (by decide)]; exact t1 j i x y, fun a b x y => by rw [s2_rowN (by decide)]; exact t2 a b x y, fun k hk => by rw [s2_rowN (by decide), s2_rowN (by decide), s2_rowN (by decide)]; exact t3 k hk⟩
theorem qM_mercy (h : cR ad T L V P t A sg lw) {c : Nat} (hc : c < nC sg) {post : Int32 → MS → Prop} (hp : ∀ s9 : MS, mfr sg s9 → s9 0 2 = 0 → post (mcyF sg lw c (2 ^ nJ sg)) s9) : wM_mercy sg (nI c) post := by
  have hL := h.1.1
  have hJ := hL.2.1
  have hC := h.1.1.2.2.1
  obtain ⟨-, g2, g3, g4, g5⟩ := h.M
  obtain ⟨p1, p2⟩ := two_pow (nJ sg) hJ.2
  unfold wM_mercy
  refine sM_isCase (s2c4 hC.1) (by omega) (fun _ _ _ => ?_) (fun q => absurd rfl (q c hc))
  rw [if_neg (by decide)]
  refine sM_now h (fun s a1 a2 a3 a4 a5 => ?_)
  refine loop0 (F := fun n i (q : Int32 × MS) => lM_mercy_33 (nI c) post n q.1 i q.2) (2 ^ nJ sg) (fun k q => q.1 = mcyF sg lw c k ∧ mlS sg (pTell (gh sg) lw) c q.2) (-1, s2 s 0 43 (nI c)) ⟨rfl, fun q hq a => by show s2 s 0 43 (nI c) q = _; rw [s2_rowN a, a3 q hq.1 hq.2, s2_rowN a], fun j _ hj => by show s2 s 0 43 (nI c) 0 j = _; rw [s2_i hj, a3 0 offA_0.1 offA_0.2], by show s2 s 0 43 (nI c) 0 43 = _; rw [s2_s], a5.1.f0⟩ (fun n k q hk hq kk => ?_)
  obtain ⟨x, s1⟩ := q
  obtain ⟨hx, hs⟩ := hq
  dsimp only at hx hs
  obtain ⟨h1, h2, h3, h4⟩ := id hs
  show lM_mercy_33 (nI c) post (n + 1) x (nI k) s1
  unfold lM_mercy_33 jM_mercy_73 jM_mercy_99 jM_mercy_100
  have e4 : s1 4 4 = nI (nJ sg) := by rw [h1 4 (offA_in (Or.inl rfl)) (by decide), gh_k (by decide)]; exact hJ.1
  have e41 : s1 0 41 = gh sg 0 41 := by rw [h2 41 (by decide) (by decide), s2_i (by decide)]
  rw [e4, p1, e41]
  by_cases hkN : k < 2 ^ nJ sg
  · rw [if_neg (nI_ge hkN (by omega)), nI_1]
    have skip : ¬ ((mcyF sg lw c k = -1 ∨ bcN k < bcN (tn (mcyF sg lw c k))) ∧ rchB sg k = true ∧ gB (mulD sg c k) lw c = false) → lM_mercy_33 (nI c) post n x (nI (k + 1)) s1 := fun h2 => kk (x, s1) hkN ⟨by rw [mcyF_s, if_neg h2]; exact hx, hs⟩
    by_cases hr : nI k &&& gh sg 0 41 = 0
    · rw [if_pos hr]
      have hr' : rchB sg k = true := decide_eq_true hr
      have try_ : (mcyF sg lw c k = -1 ∨ bcN k < bcN (tn (mcyF sg lw c k))) → wM_judgeCase (s2 s1 0 42 (nI k)) (nI c) (fun (g6 : MS) => (∃ i7 : Nat, i7 < 6 ∧ nI c = nI i7 ∧ (if ((g6 49 i7) < 100000 : Prop) then (lM_mercy_33 (nI c) post n x (nI (k + 1)) g6) else (lM_mercy_33 (nI c) post n (nI k) (nI (k + 1)) g6)))) := fun hq => by
        have hI : inp (s2 s1 0 42 (nI k)) (mulD sg c k) := by
          refine ⟨fun q hq => ?_, fun j hj => ?_⟩
          · have q0 : q ≠ 0 := fun e => by rw [e] at hq; cases hq
            unfold mulD
            rw [s2_rowN q0, s2_rowN q0, s2_rowN q0]
            exact h1 q (offA_in (Or.inl hq)) q0
          · unfold mulD
            by_cases e : j = 42
            · subst e; rw [s2_s, s2_s]
            · rw [s2_i e, s2_i e]
              by_cases e2 : j = 43
              · subst e2; rw [s2_s]; exact h3
              · rw [s2_i e2, h2 j e e2, s2_i (fun e => by rw [e] at hj; cases hj)]
        have eT : pTell (mulD sg c k) lw = pTell (gh sg) lw := mulD_same.tell lw
        refine sM_judgeCase hI (mulD_ag.lnd hL) (mulD_ag.far hL h.1.2.1) (mulD_st g4) (mulD_same.judgeOn h4.f0) (mulD_same.sOk (pTell_ok g2 lw)) (by rw [mulD_same.nC]; exact gh_c.mpr hc) (fun s3 d1 d2 _ => ⟨c, by omega, rfl, ?_⟩)
        rw [d2.2.1]
        have hs3 : mlS sg (pTell (gh sg) lw) c s3 := by
          have o0 : offJ 0 := offJ_in (Or.inr rfl)
          exact ⟨fun q hq a => by rw [d1 q hq.2, s2_rowN a]; exact h1 q hq a, fun j ha hb => by rw [d1 0 o0, s2_i ha]; exact h2 j ha hb, by rw [d1 0 o0, s2_i (by decide)]; exact h3, h4.f0.tr d1⟩
        by_cases hg : (pG (mulD sg c k) (pTell (gh sg) lw) c).1 < 100000
        · rw [if_pos hg]
          have e : gB (mulD sg c k) lw c = true := by unfold gB; rw [eT]; exact decide_eq_true (Int32.not_le.mpr hg)
          exact kk (x, s3) hkN ⟨by rw [mcyF_s, if_neg (fun z => absurd (e.symm.trans z.2.2) (by decide))]; exact hx, hs3⟩
        · rw [if_neg hg]
          have e : gB (mulD sg c k) lw c = false := by unfold gB; rw [eT]; exact decide_eq_false (fun z => z (Int32.not_lt.mp hg))
          exact kk (nI k, s3) hkN ⟨by rw [mcyF_s, if_pos ⟨hq, hr', e⟩], hs3⟩
      by_cases hm : x = -1
      · rw [if_pos hm]
        exact try_ (Or.inl (hx.symm.trans hm))
      · rw [if_neg hm]
        obtain ⟨m, m1, m2⟩ := (mcyF_nat (sg := sg) (lw := lw) (c := c) k).resolve_left (fun z => hm (hx.trans z))
        have hm32 : m < 32 := by omega
        have u1 := bcN_lt k (by omega)
        have u2 := bcN_lt m hm32
        refine sM_bitsOf (by omega) ?_
        rw [show x = nI m from hx.trans m2]
        refine sM_bitsOf hm32 ?_
        rw [← show x = nI m from hx.trans m2]
        by_cases hl : nI (bcN k) < nI (bcN m)
        · rw [if_pos hl]
          refine try_ (Or.inr ?_)
          rw [m2, tn_nI (by omega)]
          exact (nI_ltI (by omega) (by omega)).mp hl
        · rw [if_neg hl]
          refine skip (fun z => ?_)
          rcases z.1 with q | q
          · exact hm (hx.trans q)
          · rw [m2, tn_nI (by omega)] at q
            exact hl (nI_lt q (by omega))
    · rw [if_neg hr]
      exact skip (fun z => hr (of_decide_eq_true z.2.1))
  · have ek : k = 2 ^ nJ sg := by omega
    rw [if_pos (nI_le (by omega) (by omega)), hx, ek]
    refine hp s1 ⟨fun q q0 q26 q28 hq => ?_, fun j j2 j40 j41 j42 j43 _ => ?_, fun i _ => ?_, fun i _ => ?_⟩ ?_
    · rw [h1 q ?_ q0, gh_k q0]
      refine ⟨⟨⟨?_, ?_, ?_, ?_, ?_⟩, ?_, ?_, ?_⟩, ?_, ?_, ?_⟩ <;> (intro e; subst e; cases hq)
    · rw [h2 j j42 j43, s2_i j2, gh_0 j40 j41 j42 j43]
    · rw [h1 26 (offA_in (Or.inl rfl)) (by decide), gh_k (by decide)]
    · rw [h1 28 (offA_in (Or.inl rfl)) (by decide), gh_k (by decide)]
    · rw [h2 2 (by decide) (by decide), s2_s]
theorem qM_mercy0 (h : cR ad T L V P t A sg lw) {x : Int32} (hx : notN x (nC sg)) {post : Int32 → MS → Prop} (hp : ∀ b s9, mfr sg s9 → s9 0 2 = 1 → post b s9) : wM_mercy sg x post := by
  have hC := h.1.1.2.2.1
  unfold wM_mercy
  exact sM_isCase (s2c4 hC.1) (by omega) (fun k q1 q2 => absurd q2 (hx k q1)) (fun q => by rw [if_pos rfl]; exact sM_fail hp)
end Q7
