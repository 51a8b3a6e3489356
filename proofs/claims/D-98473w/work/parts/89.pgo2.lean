/-! PURE: the class's reader goes on: a token's text made, the token told -/
set_option maxRecDepth 100000
section G
variable {ad : Nat → Nat} {b : Nat → Nat} {n z : Nat} {T L : Nat → Nat} {V : w_V} {P : w_P} {r tx ax kx p : Nat} {T' L' : Nat → Nat} {V' : w_V} {P' : w_P}
/-- p's first j letters -/
def cut (b : Nat → Nat) (p j : Nat) : List Nat := (List.range j).map fun k => b (p + k)
theorem cut_len {j : Nat} : (cut b p j).length = j := by simp [cut]
theorem cut_get {j k : Nat} (h : k < j) : (cut b p j).getD k 0 = b (p + k) := by
  unfold cut
  rw [List.getD_eq_getElem?_getD, List.getElem?_map, List.getElem?_range h]
  rfl
theorem cut_take (j m : Nat) : (cut b p j).take m = cut b p (min m j) := by
  unfold cut
  rw [← List.map_take, List.take_range]
theorem sX_toString {U sb ar j : Nat} (hf : frs z T) (hs : sbX b p T L V P sb ar j) (hj : j ≤ 7) (hc : ∀ k, k < j → b (p + k) < 128) (hU : 5 ≤ U) {post : Nat → Nat → (Nat → Nat) → (Nat → Nat) → w_V → w_P → Prop}
    (k : ∀ (w z' : Nat) (T' L' : Nat → Nat) (V' : w_V) (P' : w_P), ext z T L V P z' T' L' V' P' → strX T' L' V' P' w (cut b p j) → post w z' T' L' V' P') : wFJ8_toString ad U z T L V P sb post := by
  obtain ⟨s1, s2', s3, s4, s5, s6, s7⟩ := hs
  unfold wFJ8_toString
  refine ⟨U - 1, by omega, ?_⟩
  intro o z1 T1 L1 V1 P1 hw
  obtain ⟨x1, x2, x3, x4, x5, x6⟩ := ext.nw hf hw
  obtain ⟨y1, y2, y3, y4⟩ := x1.2.2 sb (ne0 s1)
  obtain ⟨g1, g2, g3, g4⟩ := x1.2.2 ar (ne0 s5)
  have nso : sb ≠ o := fun e => by rw [e] at s1; rw [s1] at x2; cases x2
  have nao : ar ≠ o := fun e => by rw [e] at s5; rw [s5] at x2; cases x2
  refine ⟨y1.trans s1, U - 1, 0, rfl, ?_⟩
  unfold wFJ9_init wFJ9_init_2 wJ7_getValue
  refine ⟨U - 1, 0, rfl, ar, ar, 0, 7, by rw [y4]; exact s4, arr7 (g1.trans s5) (g2.trans s6), by decide, ar, 0, 7, arr7 (g1.trans s5) (g2.trans s6), by decide, ?_⟩
  unfold wJ8_length wJ7_length wJ7_isLatin1
  rw [y3, s3]
  dsimp only
  rw [if_pos s2', if_neg (by decide)]
  intro V30 e30
  have hV30 : ∀ a, a ≠ o → V30 a = V1 a := fun a ha => by rw [e30, up3_n ha]
  refine ⟨U - 1, 0, rfl, sX_cpR (V := V30) x1.1 (g1.trans s5) (g2.trans s6) hj (fun i hi => ⟨b (p + i), hc i hi, by rw [hV30 ar nao, g3]; exact s7 i hi⟩) (by omega) ?_⟩
  intro va z2 T2 L2 V2 P2 w1 w2 w3 w4 w5
  obtain ⟨u1, u2, u3, u4⟩ := w1.2.2 o (by rw [x3]; decide)
  have nvo : va ≠ o := fun e => by rw [e, x3] at w2; cases w2
  refine ⟨u1.trans x3, va, 0, j, ⟨by decide, Or.inr ⟨w3, rfl, w4.symm, rfl⟩⟩, by omega, fun P44 e44 => ⟨u1.trans x3, ?_⟩⟩
  refine k o z2 T2 L2 V2 P44 ?_ ⟨u1.trans x3, ?_, va, ?_, w3, ?_, fun i hi => ?_⟩
  · exact ext.put (V1 := V2) (P1 := P2) ((x1.put x2 (V2 := V30) (P2 := P1) (fun a ha => ⟨hV30 a ha, rfl⟩)).tr w1) x2 (fun a ha => ⟨rfl, by rw [e44]; exact up1_n ha⟩)
  · rw [u3, e30, up3_a, s2_s]
  · rw [e44]
    show up1 P2 o (up1 (P2 o) 0 (some va)) o 0 = some va
    rw [up1_s, up1_s]
  · rw [w4, cut_len]
  · rw [cut_len] at hi
    rw [w5 i hi, hV30 ar nao, g3, s7 i hi, cut_get hi]
theorem sX_char {U c : Nat} (hf : frs z T) (hc : c < 128) (hU : 4 ≤ U) {post : Nat → Nat → (Nat → Nat) → (Nat → Nat) → w_V → w_P → Prop}
    (k : ∀ (w z' : Nat) (T' L' : Nat → Nat) (V' : w_V) (P' : w_P), ext z T L V P z' T' L' V' P' → strX T' L' V' P' w [c] → post w z' T' L' V' P') : wFJ9_valueOf ad U z T L V P ((nI c).toUInt32 % 65536).toInt32 post := by
  obtain ⟨c1, c2⟩ := ch128 c hc
  unfold wFJ9_valueOf wJ15_canEncode
  rw [if_neg c2]
  dsimp only
  rw [if_neg (by decide)]
  refine ⟨U - 1, by omega, ?_⟩
  intro o z1 T1 L1 V1 P1 hw
  obtain ⟨x1, x2, x3, x4, x5, x6⟩ := ext.nw hf hw
  refine ⟨U - 1, 0, rfl, ?_⟩
  unfold wFJ15_toBytes
  refine ⟨U - 2, by omega, ?_⟩
  intro va z2 T2 L2 V2 P2 hw2
  obtain ⟨w1, w2, w3, w4, w5, w6⟩ := ext.nw x1.1 hw2
  obtain ⟨u1, u2, u3, u4⟩ := w1.2.2 o (by rw [x3]; decide)
  have nvo : va ≠ o := fun e => by rw [e, x3] at w2; cases w2
  intro V8 e8
  rw [c1] at e8
  refine ⟨u1.trans x3, va, 0, 1, ⟨by decide, Or.inr ⟨w3, rfl, w4.symm, rfl⟩⟩, by decide, 0, 0, rfl, ?_⟩
  unfold wFJ9_init_3
  intro Pa ea
  refine ⟨by decide, by decide, fun V4 e4 => ⟨u1.trans x3, ?_⟩⟩
  refine k o z2 T2 L2 V4 Pa ?_ ⟨u1.trans x3, by rw [e4, up3_a, s2_s], va, ?_, w3, by rw [w4]; rfl, fun i hi => ?_⟩
  · refine ext.put (V1 := V8) (P1 := P2) (o := o) (x1.tr (w1.put w2 (V2 := V8) (P2 := P2) (fun a ha => ⟨by rw [e8, up3_n ha], rfl⟩))) x2 (fun a ha => ⟨by rw [e4, up3_n ha], by rw [ea]; exact up1_n ha⟩)
  · rw [ea]
    show up1 P2 o (up1 (P2 o) 0 (some va)) o 0 = some va
    rw [up1_s, up1_s]
  · have ei : i = 0 := by have h : i < 1 := hi; omega
    rw [ei, e4, up3_n nvo, e8, up3_a, s2_s]
    rfl
/-- the reader comes to the next token -/
theorem sX_go (hA : hAd ad) (ht : tOk b n) {U q : Nat} (hf : frs z T) (hB : rdB b n T L V P r tx ax kx) (h2 : V r 0 2 = nI q) (hq : q ≤ n) (hU : 10 ≤ U) {post : Nat → (Nat → Nat) → (Nat → Nat) → w_V → w_P → Prop}
    (k : ∀ (z' : Nat) (T' L' : Nat → Nat) (V' : w_V) (P' : w_P), xr r z T L V P z' T' L' V' P' → rdX ad b n T' L' V' P' r tx ax kx (tSkp b n q) → post z' T' L' V' P') : wFX9_go ad U z T L V P r post := by
  have hn6 := ht.1
  have hr0 : T r ≠ 0 := ne0 hB.1
  unfold wFX9_go
  refine ⟨n - q + 1, sX_go0 ht (n - q) q V (by omega) hB h2 (fun V8 a1 a2 a3 => ?_)⟩
  have hp := t9skp_le (b := b) hq
  generalize ep : tSkp b n q = p at a3 k hp
  have hB8 : rdB b n T L V8 P r tx ax kx := hB.v (a1 ax hB.ne) (a2 0 1 (by decide)) rfl
  unfold jFX9_go_50
  intro V13 e13 s14 hs14 P16 e16 V17 e17
  have nsr : s14 ≠ r := fun e => hr0 (by rw [← e]; exact hs14)
  have v17 : ∀ a, a ≠ r → V17 a = V a := fun a ha => by rw [e17, up3_n ha, e13, up3_n ha]; exact a1 a ha
  have f2 : V17 r 0 2 = nI p := by rw [e17, up3_a, s2_i (by decide), e13, up3_a, s2_i (by decide)]; exact a3
  have f3 : V17 r 0 3 = nI p := by rw [e17, up3_a, s2_i (by decide), e13, up3_a, s2_s]; exact a3
  have f1 : V17 r 0 1 = nI n := by rw [e17, up3_a, s2_i (by decide), e13, up3_a, s2_i (by decide)]; exact hB8.2.1
  have fc : chR r (fun i => i == 2 || i == 3 || i == 5) V V17 := by
    refine (chR.tr (V' := V8) (fun k i h => a2 k i (fun q => h ⟨q.1, by have := q.2; simp at this; simp [this]⟩)) ?_)
    exact chR.tr (V' := V13) (by rw [e13]; exact up3_chR rfl) (by rw [e17]; exact up3_chR rfl)
  have p16 : ∀ a, a ≠ r → P16 a = P a := fun a ha => by rw [e16]; exact up1_n ha
  have p16j : ∀ j, j ≠ 7 → P16 r j = P r j := fun j hj => by
    rw [e16]
    show up1 P r (up1 (P r) 7 (some s14)) r j = P r j
    rw [up1_s, up1_n hj]
  have hB17 : rdB b n T L V17 P16 r tx ax kx := hB.v (v17 ax hB.ne) (by rw [f1]; exact hB.2.1.symm) (p16j 0 (by decide))
  -- the end: what is to be shown of the last state
  have fin : ∀ (z' : Nat) (T' L' : Nat → Nat) (V' : w_V) (P' : w_P), frs z' T' → z ≤ z' → (∀ a, T a ≠ 0 → T' a = T a ∧ L' a = L a ∧ (a ≠ r → V' a = V17 a ∧ P' a = P16 a)) → chR r (fun i => i == 2 || i == 4 || i == 5) V17 V' → (∀ j, j ≠ 6 → j ≠ 7 → P' r j = P16 r j) →
      V' r 0 2 = nI (tEn b n p) → P' r 6 = some (ad (srt (tKin b n p))) → ((tKin b n p = 1 ∨ tKin b n p = 3) → ∃ w, P' r 7 = some w ∧ strX T' L' V' P' w ((tWrd b n p).take 7)) → (tKin b n p = 2 → V' r 0 5 = (if tEn b n p - p ≤ 4 then 0 else 1) ∧ (tEn b n p - p ≤ 4 → V' r 0 4 = nI (tVl b n p))) → post z' T' L' V' P' := by
    intro z' T' L' V' P' g1 g2 g3 g4 g5 g6 g7 g8 g9
    refine k z' T' L' V' P' ⟨g1, g2, fun a ha => ⟨(g3 a ha).1, (g3 a ha).2.1, fun har => ⟨((g3 a ha).2.2 har).1.trans (v17 a har), ((g3 a ha).2.2 har).2.trans (p16 a har)⟩⟩, ?_⟩ ⟨⟨(g3 r hr0).1.trans hB.1, ?_, ?_, ?_, ?_, ?_⟩, ?_, g6, hp, g7, g8, g9⟩
    · funext i
      exact (g4 9 i (by intro h; cases h.1)).trans (fc 9 i (by intro h; cases h.1))
    · rw [g4 0 1 (by decide)]; exact f1
    · rw [g5 0 (by decide) (by decide), p16j 0 (by decide)]; exact hB.2.2.1
    · obtain ⟨c1, c2, c3⟩ := g3 ax (ne0 hB.2.2.2.2.1)
      exact hB.2.2.2.1.x c1 c2
    · exact (g3 ax (ne0 hB.2.2.2.2.1)).1.trans hB.2.2.2.2.1
    · intro i hi
      rw [((g3 ax (ne0 hB.2.2.2.2.1)).2.2 hB.ne).1, v17 ax hB.ne]
      exact hB.2.2.2.2.2 i hi
    · rw [g4 0 3 (by decide)]; exact f3
  rw [f2, f1]
  refine sX_byteAt hB17 ht hp ?_
  by_cases hpn : p < n
  · have eB : tB b n p = b p := if_pos hpn
    have hc := ht.2 p
    rw [if_pos (nI_lt hpn (by omega)), eB]
    refine sX_isLetter hc ?_
    cases hl : tLt (b p) with
    | true =>
      have k1 : tKin b n p = 1 := t9kin_1.mpr ⟨hpn, hl⟩
      rw [show b2 true = 1 from rfl, if_neg (by decide)]
      refine ⟨U - 1, by omega, ?_⟩
      intro sb z1 T1 L1 V1 P1 hw
      obtain ⟨x1, x2, x3, x4, x5, x6⟩ := ext.nw hf hw
      obtain ⟨y1, y2, y3, y4⟩ := x1.2.2 r hr0
      refine ⟨y1.trans hB.1, 1, U - 2, by omega, ?_⟩
      unfold wFJ8_init_2 wFJ7_init
      refine ⟨1, 0, rfl, 7, 1, 0, rfl, by decide, Nat.le_refl _, by decide, rfl, ?_⟩
      intro ar z2 T2 L2 V2 P2 hw2
      obtain ⟨w1, w2, w3, w4, w5, w6⟩ := ext.nw x1.1 hw2
      obtain ⟨u1, u2, u3, u4⟩ := w1.2.2 sb (by rw [x3]; decide)
      have nas : ar ≠ sb := fun e => by rw [e, x3] at w2; cases w2
      have nsbr : sb ≠ r := fun e => hr0 (by rw [← e]; exact x2)
      have ar0 : T ar = 0 := by
        cases e : T ar with
        | zero => rfl
        | succ m => have := (x1.2.2 ar (by rw [e]; omega)).1; rw [w2, e] at this; cases this
      have narr : ar ≠ r := fun e => hr0 (by rw [← e]; exact ar0)
      have hrT : T2 r = 8 := (w1.2.2 r (by rw [y1]; exact hr0)).1.trans (y1.trans hB.1)
      refine ⟨u1.trans x3, fun P10 e10 V11 e11 => ⟨u1.trans x3, hrT, ?_⟩⟩
      have x12 := x1.tr w1
      have hV11 : ∀ a, a ≠ sb → V11 a = V2 a := fun a ha => by rw [e11, up3_n ha]
      have hP10 : ∀ a, a ≠ sb → P10 a = P2 a := fun a ha => by rw [e10]; exact up1_n ha
      have h17 : ∀ a, T a ≠ 0 → T2 a = T a ∧ L2 a = L a ∧ V11 a = V17 a ∧ P10 a = P16 a := fun a ha => by
        obtain ⟨c1, c2, c3, c4⟩ := x12.2.2 a ha
        have na : a ≠ sb := fun e => ha (by rw [e]; exact x2)
        exact ⟨c1, c2, (hV11 a na).trans c3, (hP10 a na).trans c4⟩
      have hB11 : rdB b n T2 L2 V11 P10 r tx ax kx := hB17.x (fun a ha => h17 a (by rcases ha with e | e <;> (rw [e]; decide)))
      have sb0 : sbX b p T2 L2 V11 P10 sb ar (min 7 (p - p)) := by
        refine ⟨u1.trans x3, by rw [e11, up3_a, s2_s], by rw [e11, up3_a, s2_i (by decide), u3, x5, Nat.sub_self]; rfl, ?_, w3, w4, fun k hk => absurd hk (by rw [Nat.sub_self]; omega)⟩
        rw [e10]
        show up1 P2 sb (up1 (P2 sb) 0 (some ar)) sb 0 = some ar
        rw [up1_s, up1_s]
      refine ⟨n - p + 1, sX_goL ht (n - p) p V11 (by omega) (Nat.le_refl _) hB11 (by rw [(h17 r hr0).2.2.1]; exact f2) sb0 (fun V5 g1 g2 g3 g4 => ?_)⟩
      rw [← t9en_1 k1] at g3 g4
      refine ⟨U - 2, 0, rfl, sX_toString x12.1 g4 (by omega) (fun k hk => lt_128 (t9en_lt k1 (by omega) (by omega))) (by omega) ?_⟩
      intro w z3 T3 L3 V3 P3 m1 m2
      have hT3 : T3 r = 8 := (m1.2.2 r (by rw [hrT]; decide)).1.trans hrT
      refine ⟨hT3, m2.1, fun P116 e116 P117 e117 => ?_⟩
      have pw : ∀ a, a ≠ r → P117 a = P3 a := fun a ha => by rw [e117, e116]; exact (up1_n ha).trans (up1_n ha)
      have pr : ∀ j, P117 r j = if j = 6 then some (ad 5) else if j = 7 then some w else P3 r j := fun j => by
        rw [e117, e116]
        show up1 _ r (up1 _ 6 (some (ad 5))) r j = _
        rw [up1_s]
        by_cases e6 : j = 6
        · rw [if_pos e6, e6, up1_s]
        · rw [if_neg e6, up1_n e6]
          show up1 _ r (up1 (P3 r) 7 (some w)) r j = _
          rw [up1_s]
          by_cases e7 : j = 7
          · rw [if_pos e7, e7, up1_s]
          · rw [if_neg e7, up1_n e7]
      obtain ⟨c1, c2, c3, c4⟩ := m1.2.2 r (by rw [hrT]; decide)
      refine fin z3 T3 L3 V3 P117 m1.1 (Nat.le_trans x12.2.1 m1.2.1) (fun a ha => ?_) ?_ (fun j j6 j7 => ?_) ?_ ?_ (fun _ => ⟨w, ?_, ?_⟩) (fun q => by rw [k1] at q; cases q)
      · obtain ⟨d1, d2, d3, d4⟩ := h17 a ha
        obtain ⟨i1, i2, i3, i4⟩ := m1.2.2 a (by rw [d1]; exact ha)
        have na : a ≠ sb := fun e => ha (by rw [e]; exact x2)
        have na2 : a ≠ ar := fun e => ha (by rw [e]; exact ar0)
        exact ⟨i1.trans d1, i2.trans d2, fun har => ⟨i3.trans ((g1 a har na na2).trans d3), (pw a har).trans (i4.trans d4)⟩⟩
      · intro kk i hki
        rw [c3, g2 kk i (fun q => hki ⟨q.1, by have := q.2; simp at this; simp [this]⟩), (h17 r hr0).2.2.1]
      · rw [pr, if_neg j6, if_neg j7, c4, (h17 r hr0).2.2.2]
      · rw [c3]; exact g3
      · rw [pr, if_pos rfl, k1]; rfl
      · rw [pr, if_neg (by decide), if_pos rfl]
      · have e2 : (tWrd b n p).take 7 = cut b p (min 7 (tEn b n p - p)) := cut_take _ _
        rw [e2]
        exact m2.x (fun a ha => ⟨rfl, rfl, rfl, pw a (fun e => by rw [e, hT3] at ha; rcases ha with h | h <;> cases h)⟩)
    | false =>
      rw [show b2 false = 0 from rfl, if_pos rfl]
      refine sX_isDigit hc ?_
      cases hd : tDg (b p) with
      | true =>
        have k2 : tKin b n p = 2 := t9kin_2.mpr ⟨hpn, hd⟩
        rw [show b2 true = 1 from rfl, if_neg (by decide)]
        intro V45 e45
        have h45 : ∀ a, a ≠ r → V45 a = V17 a := fun a ha => by rw [e45, up3_n ha]
        have hB45 : rdB b n T L V45 P16 r tx ax kx := hB17.v (h45 ax hB.ne) (by rw [e45, up3_a, s2_i (by decide)]) rfl
        refine ⟨n - p + 1, sX_goD ht (n - p) p V45 (by omega) (Nat.le_refl _) hB45 (by rw [e45, up3_a, s2_i (by decide)]; exact f2) (by rw [e45, up3_a, s2_i (by decide)]; exact f3) (by rw [e45, up3_a, s2_s, Nat.sub_self]; rfl) (fun i h1 h2 => absurd h2 (by omega)) (fun V5 g1 g2 g3 g4 => ?_)⟩
        rw [← t9en_2 k2] at g3 g4
        have hen := t9en_ge (b := b) (n := n) (p := p)
        have henl := t9en_le (b := b) hp
        have g5 : V5 r 0 3 = nI p := by rw [g2 0 3 (by decide), e45, up3_a, s2_i (by decide)]; exact f3
        rw [g3, g5, nI_sub hen]
        have last : ∀ t0 : Int32, (t0 = 0 ∨ t0 = 1) → t0 = (if tEn b n p - p ≤ 4 then 0 else 1) → jFX9_go_278 ad U z T L V5 P16 r t0 r post := fun t0 h0 h1 => by
          unfold jFX9_go_278
          refine ⟨by rcases h0 with e | e <;> (rw [e]; rfl), by rcases h0 with e | e <;> (rw [e]; decide), fun V64 e64 P65 e65 => ?_⟩
          have p65 : ∀ j, j ≠ 6 → P65 r j = P16 r j := fun j hj => by
            rw [e65]
            show up1 P16 r (up1 (P16 r) 6 _) r j = P16 r j
            rw [up1_s, up1_n hj]
          refine fin z T L V64 P65 hf (Nat.le_refl _) (fun a ha => ⟨rfl, rfl, fun har => ⟨?_, ?_⟩⟩) ?_ (fun j j6 j7 => p65 j j6) ?_ ?_ (fun q => by rw [k2] at q; rcases q with q | q <;> cases q) (fun _ => ⟨?_, fun h4 => ?_⟩)
          · rw [e64, up3_n har, g1 a har]; exact h45 a har
          · rw [e65]; exact up1_n har
          · refine chR.tr (V' := V45) (by rw [e45]; exact up3_chR rfl) (chR.tr (V' := V5) (fun kk i h => g2 kk i (fun q => h ⟨q.1, by have := q.2; simp at this; rcases this with e | e <;> simp [e]⟩)) (by rw [e64]; exact up3_chR rfl))
          · rw [e64, up3_a, s2_i (by decide)]; exact g3
          · rw [e65]
            show up1 P16 r (up1 (P16 r) 6 (some (ad 6))) r 6 = _
            rw [up1_s, up1_s, k2]; rfl
          · rw [e64, up3_a, s2_s]; exact h1
          · rw [e64, up3_a, s2_i (by decide), g4, show min 4 (tEn b n p - p) = tEn b n p - p by omega]; rfl
        by_cases h4 : tEn b n p - p ≤ 4
        · rw [if_pos (show nI (tEn b n p - p) ≤ 4 from nI_le (b := 4) h4 (by decide))]
          exact last 0 (Or.inl rfl) (by rw [if_pos h4])
        · rw [if_neg (show ¬ nI (tEn b n p - p) ≤ 4 from nI_ge (a := 4) (by omega) (by omega))]
          exact last 1 (Or.inr rfl) (by rw [if_neg h4])
      | false =>
        rw [show b2 false = 0 from rfl, if_pos rfl]
        refine sX_isSign hc ?_
        have n1 : tKin b n p ≠ 1 := fun e => by have := (t9kin_1.mp e).2; rw [hl] at this; cases this
        have n2 : tKin b n p ≠ 2 := fun e => by have := (t9kin_2.mp e).2; rw [hd] at this; cases this
        have he : tEn b n p = p + 1 := t9en_s hpn n1 n2
        cases hsn : tSn (b p) with
        | true =>
          have k3 : tKin b n p = 3 := t9kin_3.mpr ⟨hpn, hsn⟩
          rw [show b2 true = 1 from rfl, if_neg (by decide)]
          unfold jFX9_go_308
          intro P30 e30
          have p30 : ∀ a, a ≠ r → P30 a = P16 a := fun a ha => by rw [e30]; exact up1_n ha
          have p30j : ∀ j, P30 r j = if j = 6 then some (ad 7) else P16 r j := fun j => by
            rw [e30]
            show up1 P16 r (up1 (P16 r) 6 (some (ad 7))) r j = _
            rw [up1_s]
            by_cases e6 : j = 6
            · rw [if_pos e6, e6, up1_s]
            · rw [if_neg e6, up1_n e6]
          refine ⟨ad 7, by rw [p30j, if_pos rfl], ?_⟩
          rw [if_pos rfl]
          refine ⟨U, 0, rfl, sX_char hf (t9sn_n hsn).2.2 (by omega) ?_⟩
          intro w z3 T3 L3 V3 P3 m1 m2
          obtain ⟨c1, c2, c3, c4⟩ := m1.2.2 r hr0
          refine ⟨c1.trans hB.1, m2.1, fun P44 e44 => ?_⟩
          unfold jFX9_go_330
          intro V34 e34
          have v34 : ∀ a, a ≠ r → V34 a = V3 a := fun a ha => by rw [e34, up3_n ha]
          have p44 : ∀ a, a ≠ r → P44 a = P3 a := fun a ha => by rw [e44]; exact up1_n ha
          have p44j : ∀ j, P44 r j = if j = 7 then some w else P3 r j := fun j => by
            rw [e44]
            show up1 P3 r (up1 (P3 r) 7 (some w)) r j = _
            rw [up1_s]
            by_cases e6 : j = 7
            · rw [if_pos e6, e6, up1_s]
            · rw [if_neg e6, up1_n e6]
          refine fin z3 T3 L3 V34 P44 m1.1 m1.2.1 (fun a ha => ?_) ?_ (fun j j6 j7 => ?_) ?_ ?_ (fun _ => ⟨w, ?_, ?_⟩) (fun q => absurd q n2)
          · obtain ⟨d1, d2, d3, d4⟩ := m1.2.2 a ha
            exact ⟨d1, d2, fun har => ⟨(v34 a har).trans d3, (p44 a har).trans (d4.trans (p30 a har))⟩⟩
          · intro kk i hki
            rw [e34, up3_chR (S := fun i => i == 2 || i == 4 || i == 5) rfl kk i hki, c3]
          · rw [p44j, if_neg j7, c4, p30j, if_neg j6]
          · rw [e34, up3_a, s2_s, c3, f2, nI_1, he]
          · rw [p44j, if_neg (by decide), c4, p30j, if_pos rfl, k3]; rfl
          · rw [p44j, if_pos rfl]
          · rw [t9wrd_3 k3]
            exact m2.x (fun a ha => by
              have har : a ≠ r := fun e => by rw [e, c1, hB.1] at ha; rcases ha with h | h <;> cases h
              exact ⟨rfl, rfl, v34 a har, p44 a har⟩)
        | false =>
          have k4 : tKin b n p = 4 := by
            unfold tKin
            rw [if_neg (by omega), if_neg (by rw [hl]; decide), if_neg (by rw [hd]; decide), if_neg (by rw [hsn]; decide)]
          rw [show b2 false = 0 from rfl, if_pos rfl]
          unfold jFX9_go_308
          intro P30 e30
          have p30j : ∀ j, P30 r j = if j = 6 then some (ad 8) else P16 r j := fun j => by
            rw [e30]
            show up1 P16 r (up1 (P16 r) 6 (some (ad 8))) r j = _
            rw [up1_s]
            by_cases e6 : j = 6
            · rw [if_pos e6, e6, up1_s]
            · rw [if_neg e6, up1_n e6]
          refine ⟨ad 8, by rw [p30j, if_pos rfl], ?_⟩
          rw [if_neg (fun e => by have := hA 3 2 (by decide) (by decide) e; cases this)]
          unfold jFX9_go_330
          intro V34 e34
          refine fin z T L V34 P30 hf (Nat.le_refl _) (fun a ha => ⟨rfl, rfl, fun har => ⟨by rw [e34, up3_n har], by rw [e30]; exact up1_n har⟩⟩) (by rw [e34]; exact up3_chR rfl) (fun j j6 _ => by rw [p30j, if_neg j6]) (by rw [e34, up3_a, s2_s, f2, nI_1, he]) (by rw [p30j, if_pos rfl, k4]; rfl) (fun q => by rw [k4] at q; rcases q with q | q <;> cases q) (fun q => absurd q n2)
  · have epn : p = n := by omega
    have k0 : tKin b n p = 0 := t9kin_0.mpr (by omega)
    rw [if_neg (nI_nlt (by omega) (by omega))]
    intro P119 e119
    have p9 : ∀ j, P119 r j = if j = 6 then some (ad 9) else P16 r j := fun j => by
      rw [e119]
      show up1 P16 r (up1 (P16 r) 6 (some (ad 9))) r j = _
      rw [up1_s]
      by_cases e6 : j = 6
      · rw [if_pos e6, e6, up1_s]
      · rw [if_neg e6, up1_n e6]
    refine fin z T L V17 P119 hf (Nat.le_refl _) (fun a ha => ⟨rfl, rfl, fun har => ⟨rfl, by rw [e119]; exact up1_n har⟩⟩) (fun _ _ _ => rfl) (fun j j6 _ => by rw [p9, if_neg j6]) (by rw [t9en_0 (by omega)]; exact f2) (by rw [p9, if_pos rfl, k0]; rfl) (fun q => by rw [k0] at q; rcases q with q | q <;> cases q) (fun q => by rw [k0] at q; cases q)
end G
