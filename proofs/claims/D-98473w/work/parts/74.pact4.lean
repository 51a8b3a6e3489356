/-! PURE: the acts start, inn, word, feast, flood -/
set_option maxRecDepth 100000
theorem and_1 (x : Int32) : x &&& 1 = 0 ∨ x &&& 1 = 1 := by
  have h : ∃ m, m ≤ 1 ∧ x &&& 1 = nI m := by
    refine ⟨(x &&& 1).toBitVec.toNat, ?_, ?_⟩
    · rw [Int32.toBitVec_and, BitVec.toNat_and]
      exact Nat.and_le_right
    · apply Int32.toBitVec_inj.mp
      apply BitVec.eq_of_toNat_eq
      show _ = (BitVec.ofNat 32 _).toNat
      rw [BitVec.toNat_ofNat, Nat.mod_eq_of_lt (BitVec.isLt _)]
  obtain ⟨m, h1, h2⟩ := h
  rw [h2]
  have : m = 0 ∨ m = 1 := by omega
  rcases this with e | e <;> subst e
  · exact Or.inl rfl
  · exact Or.inr rfl
/-- what an act leaves of the rest -/
def aF (T : Nat → Nat) (V V9 : w_V) (P P9 : w_P) (A : Nat → Nat) : Prop := (∀ b, T b ≠ 6 → T b ≠ 16 → b ≠ A 0 → V9 b = V b) ∧ ∀ b, T b ≠ 2004 → P9 b = P b
section AC
variable {ad : Nat → Nat} {T L : Nat → Nat} {V : w_V} {P : w_P} {t : Nat} {A : Nat → Nat} {sg : MS} {lw : (Nat → Int32) → Int32}
/-- an act: a keep, and what is now changed -/
theorem act_of (h : cR ad T L V P t A sg lw) (hb : bxP T L P t A) {V1 V9 : w_V} {P9 : w_P} {A' : Nat → Nat} {f : MS → MS} (hb9 : bxP T L P9 t A') (eA : ∀ n, n < 100 → A' n = A n) (e2 : V1 (A 2) = V (A 2)) (hk : ∀ s9 a, sg 0 33 = nI a → a ≤ 40 → kpM sg s9 a → cR ad T L V1 P9 t A' s9 lw) (hV : ∀ b, b ≠ A 2 → V9 b = V1 b)
    (hs : ∀ s q, q ≠ 0 → q ≠ 7 → q ≠ 26 → q ≠ 27 → q ≠ 28 → f s q = s q) (h0 : ∀ s j, j ≠ 2 → j ≠ 29 → j ≠ 30 → j ≠ 31 → j ≠ 32 → f s 0 j = s 0 j) (hr : ∀ s, pk s = pk sg → rwX V1 (A 2) (nJ sg) s → rwO (nT sg) (nJ sg) s → rwX V9 (A 2) (nJ sg) (f s) ∧ rwO (nT sg) (nJ sg) (f s)) : ∀ s9 a, sg 0 33 = nI a → a ≤ 40 → kpM sg s9 a → cR ad T L V9 P9 t A' (f s9) lw := by
  intro s9 a ha ha2 hkp
  have h9 := hk s9 a ha ha2 hkp
  have hJ := h.1.1.2.1.2
  have e9 := kp_pk hkp
  have hg : agL sg s9 := agL.of (fun k hk => hkp.1 k (by omega) (by omega))
  have hx := h.2.1
  have e2' := eA 2 (by decide)
  obtain ⟨r1, r2⟩ := rw_to (s := s9) (V := V1) (a := A 2) hJ (by rw [e9]; exact hx.1.e e2) (by rw [e9]; exact hx.2)
  obtain ⟨u1, u2⟩ := hr s9 e9 r1 r2
  obtain ⟨w1, w2⟩ := rw_of hJ u1 u2
  refine h9.now hb9 (fun b q => hV b (by rw [← e2']; exact q)) (fun q a b c d e => hs s9 q a b c d e) (fun j a b c d e => h0 s9 j a b c d e) ?_ ?_
  · rw [e2', hg.nJ]; exact w1
  · rw [hg.nJ, hg.nT]; exact w2
theorem qX_start (h : cR ad T L V P t A sg lw) (hb : bxP T L P t A) {x y : Int32} {post : Int32 → w_V → w_P → Prop} {xp : String → w_V → w_P → Prop} (hp : ∀ j d, j < nJ sg → x = nI j → d ≤ 60 → y = nI d → ∀ V9 P9 A', bxP T L P9 t A' → (∀ n, n < 100 → A' n = A n) → aF T V V9 P P9 A → (∀ s9 a, sg 0 33 = nI a → a ≤ 40 → kpM sg s9 a → cR ad T L V9 P9 t A' (s2 s9 7 j (nI d)) lw) → post (sg 7 j) V9 P9) (hr : ∀ j, j < nJ sg → x = nI j → (y < 0 ∨ 60 < y) → post (-1) (up3 V (A 0) 5 1 (V (A 0) 5 1 + 1)) P) (h0 : notN x (nJ sg) → xp cNSE V P) : wX1_start ad T L V P t x y post xp := by
  have hJ := h.1.1.2.1
  unfold wX1_start
  refine sX_judgeAt h hb (fun j a hj e hjr => sX_within (fun q1 q2 => ?_) (fun q => ?_)) h0
  · rw [if_neg (by decide)]
    obtain ⟨d, hd, ed⟩ := le_of2 (n := 60) (by decide) q1 q2
    subst e ed
    refine ⟨A 0, hb.1.2.2.1, hb.2.1.1, sX_keeps h hb (fun V1 P9 A' g1 g2 g3 g4 g5 g6 => ?_)⟩
    have e3 : P9 t 3 = some (A 2) := by rw [g1.1.2.2.2.2.1, g2 2 (by decide)]
    refine ⟨A 2, e3, bx_st hb stI2, j, by omega, rfl, A 2, e3, bx_st hb stI2, j, by omega, rfl, fun V9 e9 => ?_⟩
    rw [g5, h.2.1.1.1 j hj, pk_d (by omega)]
    refine hp j d hj rfl hd rfl V9 P9 A' g1 g2 ⟨fun b q1 q2 q3 => by rw [e9, up3_n (fun e => q1 (by rw [e]; exact bx_st hb stI2))]; exact g3 b q1 q2 q3, g4⟩ ?_
    refine act_of h hb g1 g2 g5 g6 (f := fun s => s2 s 7 j (nI d)) (fun b q => by rw [e9, up3_n q]) (fun s q _ q7 _ _ _ => s2_rowN q7) (fun s i _ _ _ _ _ => s2_k (by decide)) (fun s _ r1 r2 => ?_)
    rw [e9]
    exact ⟨r1.day, r2.day hd⟩
  · rw [if_pos rfl]
    exact sX_refuses hb (i := 1) (by decide) (hr j hj e q)
theorem kp_33 (h : cR ad T L V P t A sg lw) : ∃ a, sg 0 33 = nI a ∧ a ≤ 40 := by
  obtain ⟨-, ⟨a, a1, a2, -⟩, -⟩ := h.2.2.1
  exact ⟨a, a1, a2⟩
theorem qM_start (h : cR ad T L V P t A sg lw) {j d : Nat} (hj : j < nJ sg) (hd : d ≤ 60) {post : Int32 → MS → Prop} (hp : ∀ s9 a, sg 0 33 = nI a → a ≤ 40 → kpM (s2 sg 0 2 0) s9 a → post (sg 7 j) (s2 s9 7 j (nI d))) : wM_start sg (nI j) (nI d) post := by
  have hJ := h.1.1.2.1
  obtain ⟨a, a1, a2⟩ := kp_33 h
  unfold wM_start
  refine sM_isJudge (s2c4 hJ.1) (by omega) (fun _ _ _ => ?_) (fun q => absurd rfl (q j hj))
  rw [if_neg (by decide)]
  refine sM_isIn (a := 0) (b := 60) (by decide) (by decide) (fun _ _ => ?_) (fun q => absurd q (fun z => z.elim (nI_pos (by omega)) (nI_nlt (a := 60) hd (by decide))))
  rw [if_neg (by decide)]
  refine sM_keep (by rw [s2c0 (by decide)]; exact a1) a2 (fun s9 hk => ⟨j, by omega, rfl, j, by omega, rfl, ?_⟩)
  rw [hk.1 7 (by decide) (by decide), s2c (by decide)]
  exact hp s9 a a1 a2 hk
theorem qM_startR (h : cR ad T L V P t A sg lw) {j : Nat} (hj : j < nJ sg) {y : Int32} (hy : y < 0 ∨ 60 < y) {post : Int32 → MS → Prop} (hp : post (-1) (s2 (s2 sg 0 2 0) 13 1 (s2 sg 0 2 0 13 1 + 1))) : wM_start sg (nI j) y post := by
  have hJ := h.1.1.2.1
  unfold wM_start
  refine sM_isJudge (s2c4 hJ.1) (by omega) (fun _ _ _ => ?_) (fun q => absurd rfl (q j hj))
  rw [if_neg (by decide)]
  refine sM_isIn (a := 0) (b := 60) (by decide) (by decide) (fun q1 q2 => absurd hy (fun z => z.elim q1 q2)) (fun _ => ?_)
  rw [if_pos rfl]
  exact sM_refuse (i := 1) (by decide) hp
theorem qM_start0 (h : cR ad T L V P t A sg lw) {x y : Int32} (hx : notN x (nJ sg)) {post : Int32 → MS → Prop} (hp : ∀ b s9, mfr sg s9 → s9 0 2 = 1 → post b s9) : wM_start sg x y post := by
  have hJ := h.1.1.2.1
  unfold wM_start
  exact sM_isJudge (s2c4 hJ.1) (by omega) (fun k q1 q2 => absurd q2 (hx k q1)) (fun q => by rw [if_pos rfl]; exact sM_fail hp)
theorem qX_inn (h : cR ad T L V P t A sg lw) (hb : bxP T L P t A) {x y : Int32} (hy : y = 0 ∨ y = 1) {post : Int32 → w_V → w_P → Prop} {xp : String → w_V → w_P → Prop} (hp : ∀ k, k < nT sg → x = nI k → ¬ ((sg 0 29 >>> (x &&& 31)) &&& 1) = y → ∀ V9 P9 A', bxP T L P9 t A' → (∀ n, n < 100 → A' n = A n) → aF T V V9 P P9 A → (∀ s9 a, sg 0 33 = nI a → a ≤ 40 → kpM sg s9 a → cR ad T L V9 P9 t A' (s2 s9 0 29 (s9 0 29 ^^^ ((1 : Int32) <<< (x &&& 31)))) lw) → post 1 V9 P9) (hr : ∀ k, k < nT sg → x = nI k → ((sg 0 29 >>> (x &&& 31)) &&& 1) = y → post 0 (up3 V (A 0) 5 1 (V (A 0) 5 1 + 1)) P) (h0 : notN x (nT sg) → xp cNSE V P) : wX1_inn ad T L V P t x y post xp := by
  have hT := h.1.1.1
  have hJ := h.1.1.2.1
  unfold wX1_inn
  refine sX_townAt h hb (fun k hk e => ?_) h0
  refine ⟨A 2, hb.1.2.2.2.2.1, bx_st hb stI2, ?_⟩
  have ei : V (A 2) 0 4 = sg 0 29 := by rw [h.2.1.1.2.1, pk_5]
  rw [ei]
  have fin : ∀ t0 : Int32, ((sg 0 29 >>> (x &&& 31)) &&& 1) = t0 → jX1_inn_25 ad T L V P t x y t0 post xp := by
    intro t0 ht
    unfold jX1_inn_25
    by_cases q : t0 = y
    · rw [if_pos q]
      exact sX_refuses hb (i := 1) (by decide) (hr k hk e (ht.trans q))
    · rw [if_neg q]
      refine ⟨A 0, hb.1.2.2.1, hb.2.1.1, sX_keeps h hb (fun V1 P9 A' g1 g2 g3 g4 g5 g6 => ?_)⟩
      have e3 : P9 t 3 = some (A 2) := by rw [g1.1.2.2.2.2.1, g2 2 (by decide)]
      refine ⟨A 2, e3, bx_st hb stI2, fun V9 e9 => ?_⟩
      rw [g5, ei] at e9
      refine hp k hk e (fun z => q (ht.symm.trans z)) V9 P9 A' g1 g2 ⟨fun b q1 q2 q3 => by rw [e9, up3_n (fun e => q1 (by rw [e]; exact bx_st hb stI2))]; exact g3 b q1 q2 q3, g4⟩ ?_
      refine act_of h hb g1 g2 g5 g6 (f := fun s => s2 s 0 29 (s 0 29 ^^^ ((1 : Int32) <<< (x &&& 31)))) (fun b q => by rw [e9, up3_n q]) (fun s q q0 _ _ _ _ => s2_rowN q0) (fun s i _ q _ _ _ => s2_i q) (fun s es r1 r2 => ?_)
      have e29 : s 0 29 = sg 0 29 := by
        have := congrFun es 5
        rw [pk_5, pk_5] at this
        exact this
      obtain ⟨m, m1, m2⟩ := r2.2.2.2.2.2.2
      obtain ⟨i1, i2⟩ := inn_xor m m2 k (by omega)
      rw [e9, ← e29]
      refine ⟨r1.inn, ?_⟩
      rw [m1, e, i1]
      exact r2.inn i2
  by_cases c1 : ((sg 0 29 >>> (x &&& 31)) &&& 1) = 1
  · rw [if_pos c1]; exact fin 1 c1
  · rw [if_neg c1]; exact fin 0 ((and_1 _).resolve_right c1)
theorem qM_inn (h : cR ad T L V P t A sg lw) {k : Nat} (hk : k < nT sg) {y : Int32} (hy : y = 0 ∨ y = 1) (hn : ¬ ((sg 0 29 >>> (nI k &&& 31)) &&& 1) = y) {post : Int32 → MS → Prop} (hp : ∀ s9 a, sg 0 33 = nI a → a ≤ 40 → kpM (s2 sg 0 2 0) s9 a → post 1 (s2 s9 0 29 (s9 0 29 ^^^ ((1 : Int32) <<< (nI k &&& 31))))) : wM_inn sg (nI k) y post := by
  have hT := h.1.1.1
  obtain ⟨a, a1, a2⟩ := kp_33 h
  unfold wM_inn jM_inn_37
  refine sM_isTown (s2c4 hT.1) (by omega) (fun _ _ _ => ?_) (fun q => absurd rfl (q k hk))
  rw [if_neg (by decide), s2c0 (by decide)]
  have fin : ((sg 0 29 >>> (nI k &&& 31)) &&& 1) = y → False := hn
  have go : wM_keep (s2 sg 0 2 0) (fun (g4 : MS) => (post 1 (s2 g4 0 29 ((g4 0 29) ^^^ ((1 : Int32) <<< ((nI k : Int32) &&& 31)))))) := sM_keep (by rw [s2c0 (by decide)]; exact a1) a2 (fun s9 hk => hp s9 a a1 a2 hk)
  rcases hy with e | e <;> subst e
  · rw [if_pos rfl, if_neg hn]; exact go
  · rw [if_neg (by decide), if_neg hn]; exact go
theorem qM_innR (h : cR ad T L V P t A sg lw) {k : Nat} (hk : k < nT sg) {y : Int32} (hy : y = 0 ∨ y = 1) (hn : ((sg 0 29 >>> (nI k &&& 31)) &&& 1) = y) {post : Int32 → MS → Prop} (hp : post 0 (s2 (s2 sg 0 2 0) 13 1 (s2 sg 0 2 0 13 1 + 1))) : wM_inn sg (nI k) y post := by
  have hT := h.1.1.1
  unfold wM_inn jM_inn_37
  refine sM_isTown (s2c4 hT.1) (by omega) (fun _ _ _ => ?_) (fun q => absurd rfl (q k hk))
  rw [if_neg (by decide), s2c0 (by decide)]
  rcases hy with e | e <;> subst e
  · rw [if_pos rfl, if_pos hn]; exact hp
  · rw [if_neg (by decide), if_pos hn]; exact hp
theorem qM_inn0 (h : cR ad T L V P t A sg lw) {x y : Int32} (hx : notN x (nT sg)) {post : Int32 → MS → Prop} (hp : ∀ b s9, mfr sg s9 → s9 0 2 = 1 → post b s9) : wM_inn sg x y post := by
  have hT := h.1.1.1
  unfold wM_inn
  exact sM_isTown (s2c4 hT.1) (by omega) (fun k q1 q2 => absurd q2 (hx k q1)) (fun q => by rw [if_pos rfl]; exact hp _ _ ((mfr.code sg 0).tr (mfr.code _ 1)) s2_s)
end AC
