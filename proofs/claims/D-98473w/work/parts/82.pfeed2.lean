/-! PURE: feed -/
set_option maxRecDepth 100000
def wof (a b c d e : Int32) (k : Nat) : Int32 := if k < 4 then a else if k < 8 then b else if k < 12 then c else if k < 16 then d else e
def fedF (a b c d e : Int32) (k : Nat) : Int32 := byt (wof a b c d e k) (k % 4)
theorem tpX.rf {V : w_V} {t n : Nat} {f : Nat → Int32} (h : V t 0 8 = nI n) : tpX V V t n 0 f := ⟨fun _ _ => rfl, fun _ _ _ _ => rfl, h, fun _ _ => rfl, fun j hj => absurd hj (by omega)⟩
section FE
variable {ad : Nat → Nat} {T L : Nat → Nat} {V : w_V} {P : w_P} {t : Nat} {A : Nat → Nat} {sg : MS} {lw : (Nat → Int32) → Int32}
/-- what feeding leaves at the model -/
def fdM (sg s9 : MS) (n : Nat) (f : Nat → Int32) (m : Nat) : Prop := (∀ q, q ≠ 0 → q ≠ 14 → s9 q = sg q) ∧ (∀ j, j ≠ 14 → s9 0 j = sg 0 j) ∧ s9 0 14 = nI (n + m) ∧ (∀ i, i < n → s9 14 i = sg 14 i) ∧ ∀ j, j < m → s9 14 (n + j) = f j
theorem cR.fed {V9 : w_V} {s9 : MS} {n m : Nat} {f : Nat → Int32} (h : cR ad T L V P t A sg lw) (hb : bxP T L P t A) (hn : sg 0 14 = nI n) (hnm : n + m ≤ 600) (hV : tpX V V9 t n m f) (hs : fdM sg s9 n f m) : cR ad T L V9 P t A s9 lw := by
  obtain ⟨⟨a1, a2, a3, a4⟩, ⟨b1, b2'⟩, c1, ⟨d1, d2, d3⟩, ⟨n', e1, e2, e3, e4⟩, f1⟩ := h
  obtain ⟨v1, v2, v3, v4, v5⟩ := hV
  obtain ⟨m1, m2, m3, m4, m5⟩ := hs
  have en : n' = n := by
    have := hn.symm.trans e1
    rw [nI_eq (by omega) (by omega)] at this
    exact this.symm
  subst en
  have ha : agL sg s9 := agL.of (fun k hk => m1 k (by omega) (by omega))
  have k : ∀ b x, T b = x → x ≠ 2 → V9 b = V b := fun b x e q => v1 b (T_ne e hb.1.1 q)
  have sl : sameL T V V9 := fun b hb' => v1 b (fun e => by rw [e, hb.1.1] at hb'; cases hb')
  have st : ∀ i, stI i → V9 (A i) = V (A i) := fun i hi => k _ _ (bx_st hb hi) (by decide)
  have epk : pk s9 = pk sg := by
    unfold pk
    rw [m1 7 (by decide) (by decide), m1 26 (by decide) (by decide), m1 27 (by decide) (by decide), m1 28 (by decide) (by decide), m2 29 (by decide), m2 30 (by decide), m2 31 (by decide), m2 32 (by decide)]
  have el := k _ _ a3.1.1 (by decide)
  have e0 := k _ _ hb.2.1.1 (by decide)
  have e1' := k _ _ hb.2.2.1.1 (by decide)
  have e11 := k _ _ hb.2.2.2.2.2.1.1 (by decide)
  have e14 := k _ _ hb.2.2.2.2.2.2.1.1 (by decide)
  refine ⟨⟨ha.lnd a1, ha.far a1 a2, ha.land a1 (a3.V sl), ha.ways a1 (fun x y q1 q2 => by rw [el]; exact a4 x y q1 q2)⟩, ?_, ?_, ⟨?_, by rw [e14]; exact d2, ?_⟩, ⟨n' + m, m3, hnm, v3, fun i hi => ?_⟩, ?_⟩
  · rw [ha.nJ, ha.nT, epk]; exact ⟨b1.e (st 2 stI2), b2'⟩
  · rw [ha.nJ, ha.nT, ha.nC, m2 33 (by decide), m2 34 (by decide), m1 29 (by decide) (by decide), m1 51 (by decide) (by decide), m1 52 (by decide) (by decide), m1 53 (by decide) (by decide), m1 13 (by decide) (by decide)]
    exact c1.e e0 e11 (fun k hk => st _ (stIa hk))
  · rw [v2 0 6 (by decide) (by decide), m2 54 (by decide)]; exact d1
  · rw [m2 54 (by decide), m2 55 (by decide), m2 56 (by decide), m1 58 (by decide) (by decide), m1 59 (by decide) (by decide), m1 60 (by decide) (by decide), m1 61 (by decide) (by decide), m1 62 (by decide) (by decide), m1 63 (by decide) (by decide), ha.nJ, ha.nT, ha.nC]
    rcases d3 with q | ⟨q1, ⟨q2, q3⟩, q4⟩
    · exact Or.inl q
    · exact Or.inr ⟨q1, ⟨q2.e (st 13 stI13), q3⟩, q4.e e1' e14 (fun k hk => st _ (stIb hk))⟩
  · by_cases hin : i < n'
    · rw [v4 i hin, m4 i hin]; exact e4 i hin
    · obtain ⟨j, rfl⟩ : ∃ j, i = n' + j := ⟨i - n', by omega⟩
      rw [v5 j (by omega), m5 j (by omega)]
  · rw [v2 0 9 (by decide) (by decide), m2 23 (by decide)]; exact f1
theorem qX_feed (h : cR ad T L V P t A sg lw) {a b c d e : Int32} {post : Int32 → w_V → Prop} (h0 : (∃ n, sg 0 14 = nI n ∧ 580 < n ∧ n ≤ 600) → post (-1) V) (hp : ∀ n, sg 0 14 = nI n → n ≤ 580 → ∀ V9 : w_V, tpX V V9 t n 20 (fedF a b c d e) → post (nI (n + 20)) V9) : wX1_feed ad T L V P t a b c d e post := by
  obtain ⟨n, e1, e2, e3, e4⟩ := h.2.2.2.2.1
  unfold wX1_feed
  rw [e3, show nI n + 20 = nI (n + 20) from nI_add n 20]
  by_cases hn : n ≤ 580
  · rw [if_pos (show nI (n + 20) ≤ 600 from nI_le (b := 600) (by omega) (by decide))]
    refine sX_lay (V0 := V) (n := n) (m := 0) (f := fedF a b c d e) (tpX.rf e3) (by omega) (fun j hj => ?_) (fun V1 t1 => sX_lay t1 (by omega) (fun j hj => ?_) (fun V2 t2 => sX_lay t2 (by omega) (fun j hj => ?_) (fun V3 t3 => sX_lay t3 (by omega) (fun j hj => ?_) (fun V4 t4 => sX_lay t4 (by omega) (fun j hj => ?_) (fun V5 t5 => ?_)))))
    · unfold fedF wof; rw [if_pos (by omega), show (0 + j) % 4 = j by omega]
    · unfold fedF wof; rw [if_neg (by omega), if_pos (by omega), show (0 + 4 + j) % 4 = j by omega]
    · unfold fedF wof; rw [if_neg (by omega), if_neg (by omega), if_pos (by omega), show (0 + 4 + 4 + j) % 4 = j by omega]
    · unfold fedF wof; rw [if_neg (by omega), if_neg (by omega), if_neg (by omega), if_pos (by omega), show (0 + 4 + 4 + 4 + j) % 4 = j by omega]
    · unfold fedF wof; rw [if_neg (by omega), if_neg (by omega), if_neg (by omega), if_neg (by omega), show (0 + 4 + 4 + 4 + 4 + j) % 4 = j by omega]
    · rw [t5.2.2.1]
      exact hp n e1 hn V5 t5
  · rw [if_neg (show ¬ nI (n + 20) ≤ 600 from nI_ge (a := 600) (by omega) (by omega))]
    exact h0 ⟨n, e1, by omega, e2⟩
theorem qM_feed {n : Nat} (hn : sg 0 14 = nI n) (hn2 : n ≤ 580) {a b c d e : Int32} {post : Int32 → MS → Prop} (hp : ∀ s9, fdM (s2 sg 0 2 0) s9 n (fedF a b c d e) 20 → post (nI (n + 20)) s9) : wM_feed sg a b c d e post := by
  unfold wM_feed
  rw [s2c0 (by decide), hn, show nI n + 20 = nI (n + 20) from nI_add n 20, if_pos (show nI (n + 20) ≤ 600 from nI_le (b := 600) (by omega) (by decide))]
  refine loop0 (F := fun n i (s : MS) => lM_feed_23 a b c d e post n i s) 20 (fun k s => fdM (s2 sg 0 2 0) s n (fedF a b c d e) k) _ ⟨fun _ _ _ => rfl, fun _ _ => rfl, by rw [s2c0 (by decide)]; exact hn, fun _ _ => rfl, fun j hj => absurd hj (by omega)⟩ (fun n1 k s hk hs kk => ?_)
  show lM_feed_23 a b c d e post (n1 + 1) (nI k) s
  unfold lM_feed_23
  obtain ⟨m1, m2, m3, m4, m5⟩ := id hs
  by_cases hkN : k < 20
  · rw [if_neg (show ¬ (20 : Int32) ≤ nI k from nI_ge (b := 20) hkN (by decide))]
    have run : ∀ w : Int32, w = wof a b c d e k → jM_feed_76 s a b c d e (nI k) w post (lM_feed_23 a b c d e post n1) := by
      intro w hw
      unfold jM_feed_76
      refine ⟨n + k, by omega, m3, ?_⟩
      rw [nI_1]
      have eb : (w >>> (((24 - (8 * (nI k - nI k / 4 * 4))) : Int32) &&& 31)) &&& 255 = fedF a b c d e k := by
        rw [show (4 : Int32) = nI 4 from rfl, nI_mod (by omega) (by decide), show (8 : Int32) = nI 8 from rfl, nI_mul, show (24 : Int32) = nI 24 from rfl, nI_sub (by omega), hw]
        rfl
      rw [eb]
      refine kk _ hkN ⟨fun q h0 h14 => by rw [s2_rowN h0, s2_rowN h14]; exact m1 q h0 h14, fun j hj => by rw [s2_i hj, s2_k (by decide)]; exact m2 j hj, by rw [s2_s, s2_k (by decide), m3, nI_1]; rfl, fun i hi => by rw [s2_k (by decide), s2_i (by omega)]; exact m4 i hi, fun j hj => ?_⟩
      rw [s2_k (by decide)]
      by_cases ej : j = k
      · subst ej; rw [s2_s]
      · rw [s2_i (by omega)]; exact m5 j (by omega)
    have le : ∀ m, m ≤ 20 → ((nI m : Int32) ≤ nI k ↔ m ≤ k) := fun m hm => nI_leI (by omega) (by omega)
    by_cases c4 : 4 ≤ k
    · rw [if_pos (show (4 : Int32) ≤ nI k from (le 4 (by decide)).mpr c4)]
      by_cases c8 : 8 ≤ k
      · rw [if_pos (show (8 : Int32) ≤ nI k from (le 8 (by decide)).mpr c8)]
        by_cases c12 : 12 ≤ k
        · rw [if_pos (show (12 : Int32) ≤ nI k from (le 12 (by decide)).mpr c12)]
          by_cases c16 : 16 ≤ k
          · rw [if_pos (show (16 : Int32) ≤ nI k from (le 16 (by decide)).mpr c16)]
            exact run e (by unfold wof; rw [if_neg (by omega), if_neg (by omega), if_neg (by omega), if_neg (by omega)])
          · rw [if_neg (show ¬ (16 : Int32) ≤ nI k from fun z => c16 ((le 16 (by decide)).mp z))]
            exact run d (by unfold wof; rw [if_neg (by omega), if_neg (by omega), if_neg (by omega), if_pos (by omega)])
        · rw [if_neg (show ¬ (12 : Int32) ≤ nI k from fun z => c12 ((le 12 (by decide)).mp z))]
          exact run c (by unfold wof; rw [if_neg (by omega), if_neg (by omega), if_pos (by omega)])
      · rw [if_neg (show ¬ (8 : Int32) ≤ nI k from fun z => c8 ((le 8 (by decide)).mp z))]
        exact run b (by unfold wof; rw [if_neg (by omega), if_pos (by omega)])
    · rw [if_neg (show ¬ (4 : Int32) ≤ nI k from fun z => c4 ((le 4 (by decide)).mp z))]
      exact run a (by unfold wof; rw [if_pos (by omega)])
  · have ek : k = 20 := by omega
    subst ek
    rw [if_pos (show (20 : Int32) ≤ nI 20 by decide), m3]
    exact hp s hs
theorem qM_feed0 {n : Nat} (hn : sg 0 14 = nI n) (hn2 : 580 < n) (hn3 : n ≤ 600) {a b c d e : Int32} {post : Int32 → MS → Prop} (hp : post (-1) (s2 sg 0 2 0)) : wM_feed sg a b c d e post := by
  unfold wM_feed
  rw [s2c0 (by decide), hn, show nI n + 20 = nI (n + 20) from nI_add n 20, if_neg (show ¬ nI (n + 20) ≤ 600 from nI_ge (a := 600) (by omega) (by omega))]
  exact hp
end FE
