/-! PURE: the model's reader: the next token, what it is, faults noted, numbers, signs laid -/
set_option maxRecDepth 100000
section M
variable {b : Nat → Nat} {n p : Nat} {sg : MS}
theorem sM_isMark {c : Nat} (hc : c < 256) {post : Int32 → Prop} (k : post (b2 (tSn c))) : wM_isMark sg (nI c) post := by
  unfold wM_isMark
  rw [← sn256 c hc] at k
  exact ite_post k (fun k => ite_post k (fun k => ite_post k (fun k => ite_post k (fun k => ite_post k (fun k => ite_post k (fun k => ite_post k (fun k => ite_post k (fun k => ite_post k id))))))))
theorem sM_stepOn (ht : tOk b n) {q : Nat} (hT : rdT b n sg) (h2 : sg 0 15 = nI q) (hq : q ≤ n) {post : MS → Prop} (k : ∀ s9, fS sg s9 → rdM b n s9 (tSkp b n q) → post s9) : wM_stepOn sg post := by
  have hn6 := ht.1
  unfold wM_stepOn
  refine ⟨n - q + 1, sM_step0 ht (n - q) q sg (by omega) hT h2 (fun g5 f5 h5 => ?_)⟩
  have hp := t9skp_le (b := b) hq
  generalize tSkp b n q = p at h5 k hp
  have f19 : fS sg (s2 g5 0 19 (g5 0 15)) := f5.w rfl
  have e15 : s2 g5 0 19 (g5 0 15) 0 15 = nI p := by rw [s2_i (by decide)]; exact h5
  have e19 : s2 g5 0 19 (g5 0 15) 0 19 = nI p := by rw [s2_s]; exact h5
  generalize hg : s2 g5 0 19 (g5 0 15) = g at f19 e15 e19 ⊢
  have hTg := hT.f f19
  rw [e15]
  refine sM_byteAt hTg ht hp ?_
  by_cases hpn : p < n
  · have eB : mB b n p = nI (b p) := if_pos hpn
    have hc := ht.2 p
    rw [eB, if_neg (nI_ne1 (by omega)), ← eB]
    refine sM_isLetter ht ?_
    have eL : tqL b n p = tLt (b p) := by unfold tqL; rw [decide_eq_true hpn, Bool.true_and]
    have eD : tqD b n p = tDg (b p) := by unfold tqD; rw [decide_eq_true hpn, Bool.true_and]
    rw [eL]
    cases hl : tLt (b p) with
    | true =>
      have k1 : tKin b n p = 1 := t9kin_1.mpr ⟨hpn, hl⟩
      rw [if_neg (show ¬ b2 true = 0 by decide)]
      refine ⟨n - p + 1, sM_stepL ht (n - p) p g (by omega) hTg e15 (fun s9 a1 a2 a3 => ?_)⟩
      rw [← t9en_1 k1] at a2
      unfold jM_stepOn_212
      have ff : fS sg (s2 (s2 s9 0 17 1) 0 20 (s2 s9 0 17 1 0 15)) := ((f19.tr a1).w rfl).w rfl
      refine k _ ff ⟨hT.f ff, ?_, ?_, ?_, hp, ?_, fun q => by rw [k1] at q; cases q⟩
      · rw [s2_i (by decide), s2_i (by decide)]; exact a2
      · rw [s2_i (by decide), s2_i (by decide), a3 19 (by decide)]; exact e19
      · rw [s2_s, s2_i (by decide)]; exact a2
      · rw [s2_i (by decide), s2_s, k1]; rfl
    | false =>
      rw [if_pos (show b2 false = 0 from rfl)]
      refine sM_isDigit ht ?_
      rw [eD]
      cases hd : tDg (b p) with
      | true =>
        have k2 : tKin b n p = 2 := t9kin_2.mpr ⟨hpn, hd⟩
        rw [if_neg (show ¬ b2 true = 0 by decide)]
        have f18 : fS sg (s2 g 0 18 0) := f19.w rfl
        refine ⟨n - p + 1, sM_stepD (p := p) ht (n - p) p 0 (s2 g 0 18 0) (by omega) (Nat.le_refl _) (hT.f f18) (by rw [s2_i (by decide)]; exact e15) (by rw [s2_s]; rfl) (by decide) (fun _ => by rw [Nat.sub_self]; rfl) (fun i h1 h2 => absurd h2 (by omega)) (fun s9 a1 a2 a3 a4 => ?_)⟩
        rw [← t9en_2 k2] at a2 a3
        unfold jM_stepOn_212
        have ff : fS sg (s2 (s2 s9 0 17 2) 0 20 (s2 s9 0 17 2 0 15)) := ((f18.tr a1).w rfl).w rfl
        refine k _ ff ⟨hT.f ff, ?_, ?_, ?_, hp, ?_, fun _ q => ?_⟩
        · rw [s2_i (by decide), s2_i (by decide)]; exact a2
        · rw [s2_i (by decide), s2_i (by decide), a4 19 (by decide) (by decide), s2_i (by decide)]; exact e19
        · rw [s2_s, s2_i (by decide)]; exact a2
        · rw [s2_i (by decide), s2_s, k2]; rfl
        · rw [s2_i (by decide), s2_i (by decide)]; exact a3 q
      | false =>
        rw [if_pos (show b2 false = 0 from rfl)]
        have n1 : tKin b n p ≠ 1 := fun e => by have := (t9kin_1.mp e).2; rw [hl] at this; cases this
        have n2 : tKin b n p ≠ 2 := fun e => by have := (t9kin_2.mp e).2; rw [hd] at this; cases this
        have he : tEn b n p = p + 1 := t9en_s hpn n1 n2
        rw [eB]
        have last : ∀ t0 : Int32, t0 = nI (tKin b n p) → jM_stepOn_209 (s2 g 0 15 (nI p + 1)) t0 post := fun t0 e0 => by
          unfold jM_stepOn_209 jM_stepOn_212
          have ff : fS sg (s2 (s2 (s2 g 0 15 (nI p + 1)) 0 17 t0) 0 20 (s2 (s2 g 0 15 (nI p + 1)) 0 17 t0 0 15)) := ((f19.w rfl).w rfl).w rfl
          refine k _ ff ⟨hT.f ff, ?_, ?_, ?_, hp, ?_, fun q => absurd q n2⟩
          · rw [s2_i (by decide), s2_i (by decide), s2_s, nI_1, he]
          · rw [s2_i (by decide), s2_i (by decide), s2_i (by decide)]; exact e19
          · rw [s2_s, s2_i (by decide), s2_s, nI_1, he]
          · rw [s2_i (by decide), s2_s]; exact e0
        refine sM_isMark hc ?_
        cases hsn : tSn (b p) with
        | true =>
          rw [if_neg (show ¬ b2 true = 0 by decide)]
          exact last 3 (by rw [t9kin_3.mpr ⟨hpn, hsn⟩]; rfl)
        | false =>
          rw [if_pos (show b2 false = 0 from rfl)]
          refine last 4 ?_
          unfold tKin
          rw [if_neg (by omega), if_neg (by rw [hl]; decide), if_neg (by rw [hd]; decide), if_neg (by rw [hsn]; decide)]
          rfl
  · have k0 : tKin b n p = 0 := t9kin_0.mpr (by omega)
    have eB : mB b n p = -1 := if_neg hpn
    rw [eB, if_pos rfl]
    unfold jM_stepOn_212
    have ff : fS sg (s2 (s2 g 0 17 0) 0 20 (s2 g 0 17 0 0 15)) := (f19.w rfl).w rfl
    have he : tEn b n p = p := t9en_0 (by omega)
    refine k _ ff ⟨hT.f ff, ?_, ?_, ?_, hp, ?_, fun q => by rw [k0] at q; cases q⟩
    · rw [s2_i (by decide), s2_i (by decide), he]; exact e15
    · rw [s2_i (by decide), s2_i (by decide)]; exact e19
    · rw [s2_s, s2_i (by decide), he]; exact e15
    · rw [s2_i (by decide), s2_s, k0]; rfl
/-- on from the token p -/
theorem sM_go (ht : tOk b n) (h : rdM b n sg p) {post : MS → Prop} (k : ∀ s9, fS sg s9 → rdM b n s9 (tNx b n p) → post s9) : wM_stepOn sg post := sM_stepOn ht h.1 h.2.1 (t9en_le h.2.2.2.2.1) k
theorem nB_0 : nB 0 := rfl
theorem nB_1 : nB 1 := rfl
theorem sM_is35 {s : List Nat} {post : Int32 → Prop} (k : post 0) : jM_is_35 sg s post := by
  unfold jM_is_35 jM_is_36
  refine ⟨1, ?_⟩
  unfold lM_is_39
  rw [if_pos rfl]
  exact ⟨nB_0, k⟩
theorem sM_isB (hb : ¬ sg 0 21 = 0) {s : List Nat} {post : Int32 → Prop} (k : post 0) : wM_is sg s post := by
  unfold wM_is
  rw [if_neg hb]
  exact sM_is35 k
theorem sM_is (ht : tOk b n) (h : rdM b n sg p) (hb : sg 0 21 = 0) {c : Nat} {s : List Nat} (hc : tLt c = true) (hs : (c :: s).length ≤ 6 ∧ ∀ d ∈ c :: s, d < 256) {post : Int32 → Prop} (k : post (b2 (tIs b n p (c :: s)))) : wM_is sg (c :: s) post := by
  have hn6 := ht.1
  obtain ⟨hT, h15, h19, h20, hp, h17, h18⟩ := h
  unfold wM_is
  rw [if_pos hb, h17]
  by_cases k1 : tKin b n p = 1
  · rw [k1, if_pos (show nI 1 = 1 from rfl), h20, h19, nI_sub t9en_ge]
    have hen := t9en_le (b := b) hp
    have heg := t9en_ge (b := b) (n := n) (p := p)
    by_cases el : (c :: s).length = tEn b n p - p
    · rw [if_pos (by rw [el])]
      unfold jM_is_36
      refine loop0 (F := fun m i s' => lM_is_39 sg (c :: s) post m s' i) (c :: s).length (fun k s' => s' = b2 (decide (∀ i, i < k → b (p + i) = (c :: s).getD i 0))) 1 (by rw [decide_eq_true (fun i hi => absurd hi (by omega))]; rfl) (fun m j s' hj hI kk => ?_)
      show lM_is_39 sg (c :: s) post (m + 1) s' (nI j)
      unfold lM_is_39
      by_cases hall : ∀ i, i < j → b (p + i) = (c :: s).getD i 0
      · rw [decide_eq_true hall] at hI
        rw [hI, if_neg (show ¬ b2 true = 0 by decide)]
        by_cases hjl : j < (c :: s).length
        · rw [if_neg (nI_ge hjl (by omega))]
          refine ⟨j, hjl, rfl, p + j, by omega, by rw [h19, nI_add], ?_⟩
          rw [hT.2 (p + j) (by omega)]
          have a1 := getD_mem hs.2 hjl
          have a2 := ht.2 (p + j)
          unfold jM_is_75
          rw [nI_1]
          by_cases ee : (c :: s).getD j 0 = b (p + j)
          · rw [if_pos (by rw [ee])]
            refine kk 1 hjl ?_
            rw [decide_eq_true (fun i hi => by
              by_cases eij : i = j
              · rw [eij]; exact ee.symm
              · exact hall i (by omega))]
            rfl
          · rw [if_neg (fun q => ee ((nI_eq (by omega) (by omega)).mp q))]
            refine kk 0 hjl ?_
            rw [decide_eq_false (fun q => ee (q j (by omega)).symm)]
            rfl
        · rw [if_pos (nI_le (by omega) (by omega))]
          refine ⟨nB_1, ?_⟩
          have : tIs b n p (c :: s) = true := (t9tis_wd hc).mpr ⟨k1, getD_ext (by rw [t9wrd_len]; exact el.symm) (fun i hi => by
            rw [t9wrd_len] at hi
            rw [t9wrd_get hi]
            exact hall i (by omega))⟩
          rw [this] at k
          exact k
      · rw [decide_eq_false hall] at hI
        rw [hI, if_pos (show b2 false = 0 from rfl)]
        refine ⟨nB_0, ?_⟩
        have : tIs b n p (c :: s) = false := by
          cases e : tIs b n p (c :: s) with
          | false => rfl
          | true =>
            exfalso
            have e2 := ((t9tis_wd hc).mp e).2
            exact hall (fun i hi => by rw [← e2, t9wrd_get (by omega)])
        rw [this] at k
        exact k
    · rw [if_neg (fun q => el ((nI_eq (by have := hs.1; omega) (by omega)).mp q))]
      refine sM_is35 ?_
      have : tIs b n p (c :: s) = false := by
        cases e : tIs b n p (c :: s) with
        | false => rfl
        | true =>
          exfalso
          have e2 := ((t9tis_wd hc).mp e).2
          exact el (by rw [← e2, t9wrd_len])
      rw [this] at k
      exact k
  · have hk5 := t9kin_lt (b := b) (n := n) (p := p)
    rw [if_neg (show ¬ nI (tKin b n p) = 1 from fun e => k1 ((nI_eq (b := 1) (by omega) (by omega)).mp e))]
    refine sM_is35 ?_
    have : tIs b n p (c :: s) = false := by
      cases e : tIs b n p (c :: s) with
      | false => rfl
      | true => exact absurd ((t9tis_wd hc).mp e).1 k1
    rw [this] at k
    exact k
theorem sM_markedB (hb : ¬ sg 0 21 = 0) {c : Int32} {post : Int32 → Prop} (k : post 0) : wM_isMarked sg c post := by
  unfold wM_isMarked
  rw [if_neg hb]
  exact k
theorem sM_marked (ht : tOk b n) (h : rdM b n sg p) (hb : sg 0 21 = 0) {c : Nat} (hc : tLt c = false) (hc2 : c < 256) {post : Int32 → Prop} (k : post (b2 (tIs b n p [c]))) : wM_isMarked sg (nI c) post := by
  have hn6 := ht.1
  obtain ⟨hT, h15, h19, h20, hp, h17, h18⟩ := h
  have hk5 := t9kin_lt (b := b) (n := n) (p := p)
  unfold wM_isMarked
  rw [if_pos hb, h17]
  by_cases k3 : tKin b n p = 3
  · have hpn := (t9kin_3.mp k3).1
    rw [k3, if_pos (show nI 3 = 3 from rfl)]
    refine ⟨p, by omega, h19, ?_⟩
    rw [hT.2 p hpn]
    have a2 := ht.2 p
    by_cases ee : b p = c
    · rw [if_pos (by rw [ee])]
      rw [(t9tis_sg hc).mpr ⟨k3, ee⟩] at k
      exact k
    · rw [if_neg (fun q => ee ((nI_eq (by omega) (by omega)).mp q))]
      have : tIs b n p [c] = false := by
        cases e : tIs b n p [c] with
        | false => rfl
        | true => exact absurd ((t9tis_sg hc).mp e).2 ee
      rw [this] at k
      exact k
  · rw [if_neg (show ¬ nI (tKin b n p) = 3 from fun e => k3 ((nI_eq (b := 3) (by omega) (by omega)).mp e))]
    have : tIs b n p [c] = false := by
      cases e : tIs b n p [c] with
      | false => rfl
      | true => exact absurd ((t9tis_sg hc).mp e).1 k3
    rw [this] at k
    exact k
theorem wr_21 {k : Int32} : wr sg k p 0 21 = k := by unfold wr; rw [s2_i (by decide), s2_s]
theorem wr_22 {k : Int32} : wr sg k p 0 22 = nI p := by unfold wr; rw [s2_s]
theorem wr_k {k : Int32} {i : Nat} (h : i ≠ 0) : wr sg k p i = sg i := by unfold wr; rw [s2_rowN h, s2_rowN h]
theorem wr_j {k : Int32} {i : Nat} (h : i ≠ 21) (h2 : i ≠ 22) : wr sg k p 0 i = sg 0 i := by unfold wr; rw [s2_i h2, s2_i h]
theorem sM_wrong (h19 : sg 0 19 = nI p) (hb : sg 0 21 = 0) {kd : Int32} {post : MS → Prop} (k : post (wr sg kd p)) : wM_wrong sg kd post := by
  unfold wM_wrong
  rw [if_pos hb, s2_i (by decide), h19]
  exact k
theorem sM_wrongB (hb : ¬ sg 0 21 = 0) {kd : Int32} {post : MS → Prop} (k : post sg) : wM_wrong sg kd post := by
  unfold wM_wrong
  rw [if_neg hb]
  exact k
theorem sM_markB (hb : ¬ sg 0 21 = 0) {c : Int32} {post : MS → Prop} (k : post sg) : wM_mark sg c post := by
  unfold wM_mark jM_mark_20
  rw [if_neg hb, if_neg hb]
  exact k
theorem sM_mark (ht : tOk b n) (h : rdM b n sg p) (hb : sg 0 21 = 0) {c : Nat} (hc : tLt c = false) (hc2 : c < 256) {post : MS → Prop} (k : tIs b n p [c] = true → ∀ s9, fS sg s9 → rdM b n s9 (tNx b n p) → post s9) (kf : tIs b n p [c] = false → post (wr sg 1 p)) : wM_mark sg (nI c) post := by
  unfold wM_mark
  rw [if_pos hb]
  refine sM_marked ht h hb hc hc2 ?_
  cases e : tIs b n p [c] with
  | true =>
    rw [if_neg (show ¬ b2 true = 0 by decide)]
    unfold jM_mark_20
    rw [if_pos hb]
    exact sM_go ht h (k e)
  | false =>
    rw [if_pos (show b2 false = 0 from rfl)]
    refine sM_wrong h.2.2.1 hb ?_
    unfold jM_mark_20
    rw [wr_21, if_neg (by decide)]
    exact kf e
theorem sM_numB (hb : ¬ sg 0 21 = 0) {x y : Int32} {post : Int32 → MS → Prop} (k : post 0 sg) : wM_numberNow sg x y post := by
  unfold wM_numberNow
  rw [if_neg hb]
  exact k
theorem tNum_le {lo hi : Nat} : tNum b n p lo hi ≤ 2 := by
  unfold tNum
  split
  · decide
  · split <;> decide
theorem tOf_le {m : Nat} : tOf b n p m ≤ 3 := by
  unfold tOf
  split
  · decide
  · split
    · decide
    · split <;> decide
theorem wr_b {k : Nat} (h : k ≠ 0) (h2 : k < 100) : ¬ wr sg (nI k) p 0 21 = 0 := by
  rw [wr_21]
  exact nI_ne0 (by omega) (by omega)
theorem sM_numNow (h : rdM b n sg p) (hn6 : n ≤ 600) (hb : sg 0 21 = 0) {lo hi : Nat} (hlo : lo < 10000) (hhi : hi < 10000) {post : Int32 → MS → Prop} (k : tNum b n p lo hi = 0 → post (nI (tVl b n p)) sg) (kf : tNum b n p lo hi ≠ 0 → post 0 (wr sg (nI (tNum b n p lo hi)) p)) : wM_numberNow sg (nI lo) (nI hi) post := by
  obtain ⟨hT, h15, h19, h20, hp, h17, h18⟩ := h
  have hk5 := t9kin_lt (b := b) (n := n) (p := p)
  have hen := t9en_le (b := b) hp
  unfold wM_numberNow
  rw [if_pos hb, h17]
  by_cases k2 : tKin b n p = 2
  · have bad : tNum b n p lo hi = 2 → jM_numberNow_54 sg post := fun e => by
      have := kf (by rw [e]; decide)
      rw [e] at this
      unfold jM_numberNow_54
      refine sM_wrong h19 hb ?_
      unfold jM_numberNow_59
      rw [wr_21, if_neg (by decide)]
      exact this
    rw [k2, if_pos (show nI 2 = 2 from rfl), h20, h19, nI_sub t9en_ge]
    by_cases h4 : tEn b n p - p ≤ 4
    · have hv := t9vl_lt k2 h4
      rw [if_neg (show ¬ 4 < nI (tEn b n p - p) from nI_nlt (b := tEn b n p - p) (a := 4) h4 (by decide)), h18 k2 h4]
      by_cases hl : tVl b n p < lo
      · rw [if_pos (nI_lt hl (by omega))]
        exact bad (by unfold tNum; rw [if_neg (fun q => q k2), if_pos (Or.inr (Or.inl hl))])
      · rw [if_neg (nI_nlt (by omega) (by omega))]
        by_cases hh : hi < tVl b n p
        · rw [if_neg (nI_ge hh (by omega))]
          exact bad (by unfold tNum; rw [if_neg (fun q => q k2), if_pos (Or.inr (Or.inr hh))])
        · rw [if_pos (nI_le (by omega) (by omega))]
          unfold jM_numberNow_59
          rw [if_pos hb, h18 k2 h4]
          exact k (by unfold tNum; rw [if_neg (fun q => q k2), if_neg (by omega)])
    · rw [if_pos (show 4 < nI (tEn b n p - p) from nI_lt (a := 4) (by omega) (by omega))]
      exact bad (by unfold tNum; rw [if_neg (fun q => q k2), if_pos (Or.inl (by omega))])
  · have e1 : tNum b n p lo hi = 1 := by unfold tNum; rw [if_pos k2]
    have := kf (by rw [e1]; decide)
    rw [e1] at this
    rw [if_neg (show ¬ nI (tKin b n p) = 2 from fun e => k2 ((nI_eq (b := 2) (by omega) (by omega)).mp e))]
    refine sM_wrong h19 hb ?_
    unfold jM_numberNow_59
    rw [wr_21, if_neg (by decide)]
    exact this
theorem sM_readNumB (hb : ¬ sg 0 21 = 0) {x y : Int32} {post : Int32 → MS → Prop} (k : post 0 sg) : wM_readNumber sg x y post := by
  unfold wM_readNumber
  refine sM_numB hb ?_
  rw [if_neg hb]
  exact k
theorem sM_readNum (ht : tOk b n) (h : rdM b n sg p) (hb : sg 0 21 = 0) {lo hi : Nat} (hlo : lo < 10000) (hhi : hi < 10000) {post : Int32 → MS → Prop} (k : tNum b n p lo hi = 0 → ∀ s9, fS sg s9 → rdM b n s9 (tNx b n p) → post (nI (tVl b n p)) s9) (kf : tNum b n p lo hi ≠ 0 → post 0 (wr sg (nI (tNum b n p lo hi)) p)) : wM_readNumber sg (nI lo) (nI hi) post := by
  unfold wM_readNumber
  refine sM_numNow h ht.1 hb hlo hhi (fun e => ?_) (fun e => ?_)
  · rw [if_pos hb]
    exact sM_go ht h (k e)
  · rw [if_neg (wr_b e (by have := tNum_le (b := b) (n := n) (p := p) (lo := lo) (hi := hi); omega))]
    exact kf e
theorem sM_townB (hb : ¬ sg 0 21 = 0) {post : Int32 → MS → Prop} (k : post 0 sg) : wM_townNow sg post := by
  unfold wM_townNow
  refine sM_numB hb ?_
  rw [if_neg hb]
  unfold jM_townNow_32
  rw [if_neg hb]
  exact k
theorem sM_town (h : rdM b n sg p) (hn6 : n ≤ 600) (hb : sg 0 21 = 0) {m : Nat} (hm : sg 4 7 = nI m) (hm9 : m < 10000) {post : Int32 → MS → Prop} (k : tOf b n p m = 0 → post (nI (tVl b n p)) sg) (kf : tOf b n p m ≠ 0 → post 0 (wr sg (nI (tOf b n p m)) p)) : wM_townNow sg post := by
  have hof : tNum b n p 0 9999 = if tKin b n p ≠ 2 then 1 else if 4 < tEn b n p - p then 2 else 0 := by
    unfold tNum
    by_cases k2 : tKin b n p = 2
    · rw [if_neg (show ¬ tKin b n p ≠ 2 from fun q => q k2), if_neg (show ¬ tKin b n p ≠ 2 from fun q => q k2)]
      by_cases h4 : 4 < tEn b n p - p
      · rw [if_pos (Or.inl h4), if_pos h4]
      · have := t9vl_lt k2 (by omega)
        rw [if_neg (by omega), if_neg h4]
    · rw [if_pos k2, if_pos k2]
  unfold wM_townNow
  refine sM_numNow (lo := 0) (hi := 9999) h hn6 hb (by decide) (by decide) (fun e => ?_) (fun e => ?_)
  · rw [if_pos hb, hm]
    have k2 : tKin b n p = 2 := by
      rcases Nat.decEq (tKin b n p) 2 with q | q
      · rw [hof, if_pos q] at e; cases e
      · exact q
    have h4 : tEn b n p - p ≤ 4 := by
      rcases Nat.lt_or_ge 4 (tEn b n p - p) with q | q
      · rw [hof, if_neg (fun x => x k2), if_pos q] at e; cases e
      · exact q
    have hv := t9vl_lt k2 h4
    by_cases hl : tVl b n p < m
    · rw [if_pos (nI_lt hl (by omega))]
      unfold jM_townNow_32
      rw [if_pos hb]
      exact k (by unfold tOf; rw [if_neg (fun x => x k2), if_neg (by omega), if_neg (by omega)])
    · rw [if_neg (nI_nlt (by omega) (by omega))]
      have e3 : tOf b n p m = 3 := by unfold tOf; rw [if_neg (fun x => x k2), if_neg (by omega), if_pos (by omega)]
      have := kf (by rw [e3]; decide)
      rw [e3] at this
      refine sM_wrong h.2.2.1 hb ?_
      unfold jM_townNow_32
      rw [wr_21, if_neg (by decide)]
      exact this
  · have e2 : tOf b n p m = tNum b n p 0 9999 := by
      rw [hof] at e ⊢
      unfold tOf
      by_cases k2 : tKin b n p = 2
      · rw [if_neg (show ¬ tKin b n p ≠ 2 from fun q => q k2)] at e ⊢
        rw [if_neg (show ¬ tKin b n p ≠ 2 from fun q => q k2)]
        by_cases h4 : 4 < tEn b n p - p
        · rw [if_pos h4, if_pos h4]
        · rw [if_neg h4] at e; exact absurd rfl e
      · rw [if_pos k2, if_pos k2]
    have := kf (by rw [e2]; exact e)
    rw [e2] at this
    rw [if_neg (wr_b e (by have := tNum_le (b := b) (n := n) (p := p) (lo := 0) (hi := 9999); omega))]
    unfold jM_townNow_32
    rw [if_neg (wr_b e (by have := tNum_le (b := b) (n := n) (p := p) (lo := 0) (hi := 9999); omega))]
    exact this
theorem sM_layB (hb : ¬ sg 0 21 = 0) {x : Int32} {post : MS → Prop} (k : post sg) : wM_lay sg x post := by
  unfold wM_lay
  rw [if_neg hb]
  exact k
end M
