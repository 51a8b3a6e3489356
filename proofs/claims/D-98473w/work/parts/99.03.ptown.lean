/-! PURE: town, gossip, law at both -/
set_option maxRecDepth 100000
theorem inn_or : ∀ m, m < 512 → ∀ k, k < 9 → nI m ||| ((1 : Int32) <<< (nI k &&& 31)) = nI (m ||| 2 ^ k) ∧ m ||| 2 ^ k < 512 := by decide +kernel
section L
variable {ad b : Nat → Nat} {n : Nat} {B : bsE} {r tx ax kx l jl cl vw : Nat} {D : MS} {lw : (Nat → Int32) → Int32} {g w : Bool} {p z : Nat} {T L : Nat → Nat} {V : w_V} {P : w_P}
/-- a land's numbers changed within bounds -/
theorem DOk.w4 {D' : MS} (h : DOk D) (e5 : ∀ k, 5 ≤ k → D' k = D k) (ej : D' 4 4 = D 4 4) (ec : D' 4 5 = D 4 5) (es : D' 4 6 = D 4 6) (e0 : ∃ t, D' 4 0 = nI t ∧ nT D ≤ t ∧ t ≤ 9) (e3 : ∃ x, D' 4 3 = nI x ∧ x ≤ 40) (e1 : ∃ m, D' 4 1 = nI m ∧ m < 512) (e2 : ∃ k, D' 4 2 = nI k ∧ k ≤ 14) : DOk D' := by
  obtain ⟨⟨⟨a1, a2⟩, ⟨a3, a4⟩, ⟨a5, a6⟩, ⟨a7, a8⟩, a9, a10, a11⟩, -, -, a12⟩ := h
  obtain ⟨t, t1, t2, t3⟩ := e0
  have eT : nT D' = t := by show tn (D' 4 0) = t; rw [t1]; exact tn_nI (by omega)
  have eJ : nJ D' = nJ D := by show tn (D' 4 4) = tn (D 4 4); rw [ej]
  have eC : nC D' = nC D := by show tn (D' 4 5) = tn (D 4 5); rw [ec]
  have eS : nS D' = nS D := by show tn (D' 4 6) = tn (D 4 6); rw [es]
  have est : ∀ j, stp D' j = stp D j := fun j => by show tn (D' 9 j) = tn (D 9 j); rw [e5 9 (by decide)]
  refine ⟨⟨⟨by rw [eT]; exact t1, by rw [eT]; exact t3⟩, ⟨by rw [eJ, ej]; exact a3, by rw [eJ]; exact a4⟩, ⟨by rw [eC, ec]; exact a5, by rw [eC]; exact a6⟩, ⟨by rw [eS, es]; exact a7, by rw [eS]; exact a8⟩, e3, fun j hj => ?_, fun x y hx hy => by rw [e5 5 (by decide)]; exact a11 x y hx hy⟩, e1, e2, fun j hj => by rw [eJ] at hj; rw [e5 7 (by decide)]; exact a12 j hj⟩
  rw [eJ] at hj
  obtain ⟨b1, b2', b3, b4, b5, b6⟩ := a10 j hj
  refine ⟨by rw [e5 6 (by decide)]; exact b1, by rw [est, e5 9 (by decide)]; exact b2', by rw [est]; exact b3, by rw [est]; exact b4, fun i hi => ?_, fun i hi => ?_⟩
  · rw [est] at hi
    obtain ⟨y, y1, y2⟩ := b5 i hi
    exact ⟨y, by rw [e5 10 (by decide)]; exact y1, by omega⟩
  · rw [est] at hi
    obtain ⟨y, y', y1, y2, y3, y4, y5⟩ := b6 i hi
    exact ⟨y, y', by rw [e5 10 (by decide)]; exact y1, by rw [e5 10 (by decide)]; exact y2, by omega, by omega, by rw [e5 5 (by decide)]; exact y5⟩
theorem mAg.w4 {sg : MS} {i : Nat} {x : Int32} (h : mAg sg D) (hi : i < 4) : mAg (s2 sg 4 (7 + i) x) (s2 D 4 i x) := by
  obtain ⟨a1, a2, a3, a4, a5⟩ := h
  have eJ : nJ (s2 D 4 i x) = nJ D := by show tn (s2 D 4 i x 4 4) = tn (D 4 4); rw [s2_i (by omega)]
  have eC : nC (s2 D 4 i x) = nC D := by show tn (s2 D 4 i x 4 5) = tn (D 4 5); rw [s2_i (by omega)]
  have eS : nS (s2 D 4 i x) = nS D := by show tn (s2 D 4 i x 4 6) = tn (D 4 6); rw [s2_i (by omega)]
  refine ⟨fun j hj => ?_, fun j hj => by rw [s2_k (by decide), s2_k (by decide)]; exact a2 j hj, fun j hj => ?_, fun c t hc ht => ?_, fun j hj => ?_⟩
  · by_cases e : j = i
    · rw [e, s2_s, s2_s]
    · rw [s2_i (by omega), s2_i e]; exact a1 j hj
  · rw [eJ] at hj
    obtain ⟨b1, b2', b3, b4, b5⟩ := a3 j hj
    refine ⟨by rw [s2_k (by decide), s2_k (by decide)]; exact b1, by rw [s2_k (by decide), s2_k (by decide)]; exact b2', by rw [s2_k (by decide), s2_k (by decide)]; exact b3, by rw [s2_k (by decide), s2_k (by decide)]; exact b4, fun q hq => ?_⟩
    have est : stp (s2 D 4 i x) j = stp D j := by show tn (s2 D 4 i x 9 j) = tn (D 9 j); rw [s2_k (by decide)]
    rw [est] at hq
    rw [s2_k (by decide), s2_k (by decide)]
    exact b5 q hq
  · rw [eC] at hc
    rw [s2_k (by decide), s2_k (by decide)]
    exact a4 c t hc ht
  · rw [eS] at hj
    rw [s2_k (by decide), s2_k (by decide)]
    exact a5 j hj
theorem ML.w4 {sg0 sg : MS} {i : Nat} {x : Int32} (h : ML b n sg0 D p sg) (hi : i < 4) : ML b n sg0 (s2 D 4 i x) p (s2 sg 4 (7 + i) x) := by
  obtain ⟨h1, h2, h3, h4⟩ := h
  refine ⟨h1.f (by rw [s2_rowN (by decide)]) (fun j _ => by rw [s2_k (by decide)]), by rw [s2_k (by decide)]; exact h2, h3.w4 hi, h4.w ⟨by decide, Nat.le_add_right 7 i⟩⟩
theorem sM_another (ht : tOk b n) {sg : MS} {i c m : Nat} (hM : rdM b n sg p) (h0 : sg 0 21 = 0) (hi : i < 7) (hc : sg 4 (7 + i) = nI c) (hc2 : c < 1000) (hm : m < 1000) {post : Int32 → MS → Prop} (k : c ≠ m → ∀ s9, fS sg s9 → rdM b n s9 (tNx b n p) → post 1 s9) (kf : c = m → post 0 (wr sg 2 p)) : wM_another sg (nI i) (nI m) post := by
  unfold wM_another
  refine ⟨7 + i, by omega, by rw [show (7 : Int32) = nI 7 from rfl, nI_add], ?_⟩
  rw [hc]
  by_cases e : c = m
  · rw [if_pos (by rw [e])]
    refine sM_wrong hM.2.2.1 h0 ?_
    unfold jM_another_18
    rw [if_neg (by rw [wr_21]; decide)]
    exact kf e
  · rw [if_neg (fun q => e ((nI_eq (by omega) (by omega)).mp q))]
    unfold jM_another_18
    rw [if_pos h0]
    exact sM_go ht hM (k e)
theorem b_town (hA : hAd ad) (ht : tOk b n) (hD : DOk D) (hw : w = false → nS D = 0) (hp : p ≤ n) (e : tIs b n p [116, 111, 119, 110] = true) : bRun ad b n B r tx ax kx l jl cl vw D lw g w g w p (fun post kb xp U z T L V P => if (9 ≤ (V l 0 0) : Prop) then (jFX9_land_42 ad U z T L V P r l 0 r post xp kb) else (jFX9_land_42 ad U z T L V P r l 1 r post xp kb)) (fun sg post => wM_readTown sg post) := by
  have hpn : p < n := tis_lt e
  have hp2 := t9nx_gt (b := b) hpn
  have hp2n := t9nx_le (b := b) hp
  obtain ⟨⟨hT, hT9⟩, -⟩ := hD.1
  by_cases h9 : nT D = 9
  · refine Or.inr ⟨2, p, by decide, Nat.le_refl _, hp, ?_, ?_⟩
    · intro post kb xp U z T L V P hU hc k
      rw [hc.2.2.2.2.2.2.1.2.1, hT, h9, if_pos (by decide)]
      unfold jFX9_land_42
      exact ⟨U, 0, rfl, sX_check0 hc.1 hc.2.1 (by omega) (k.c hc)⟩
    · intro sg0 sg post hM k
      show wM_readTown sg post
      unfold wM_readTown
      refine sM_another (i := 0) (c := nT D) (m := 9) ht hM.1 hM.2.1 (by decide) (by rw [hM.2.2.1.1 0 (by decide), hT]) (by omega) (by decide) (fun q => absurd h9 q) (fun _ => ?_)
      rw [if_pos rfl]
      exact k _ (hM.2.2.2.tr (fB.wr _ _ _).U) wr_21 wr_22
  · have t9 : nT D < 9 := by omega
    -- the towns are one more
    have inc : ∀ D1 : MS, D1 4 0 = D 4 0 → D1 4 0 + 1 = nI (nT D + 1) := fun D1 q => by rw [q, hT, nI_1]
    have fin : ∀ (D1 : MS), DOk D1 → D1 4 0 = D 4 0 → DOk (s2 D1 4 0 (D1 4 0 + 1)) := fun D1 h1 q => by
      have eT : nT D1 = nT D := by show tn (D1 4 0) = tn (D 4 0); rw [q]
      obtain ⟨-, -, -, -, g5, -⟩ := h1.1
      exact h1.w4 (fun k hk => s2_rowN (by omega)) (s2_i (by decide)) (s2_i (by decide)) (s2_i (by decide)) ⟨nT D + 1, by rw [s2_s]; exact inc D1 q, by omega, by omega⟩ (by rw [s2_i (by decide)]; exact g5) (by rw [s2_i (by decide)]; exact h1.2.1) (by rw [s2_i (by decide)]; exact h1.2.2.1)
    have cfin : ∀ (D1 : MS) (p1 U z : Nat) (T L : Nat → Nat) (V : w_V) (P : w_P) (post kb : lpT) (xp : w_Xp), CL ad b n B r tx ax kx l jl cl vw D1 lw g w p1 z T L V P → (∀ V', CL ad b n B r tx ax kx l jl cl vw (s2 D1 4 0 (D1 4 0 + 1)) lw g w p1 z T L V' P → jFX9_land_283 ad U z T L V' P r l post xp kb) → jFX9_land_78 ad U z T L V P r l post xp kb := fun D1 p1 U z T L V P post kb xp hc k => by
      unfold jFX9_land_78
      intro V2 e2
      obtain ⟨c0, c1, c2, c3, c4⟩ := hc.2.2.2.2.2.2.1
      refine k V2 (hc.lnd (fun a ha => by rw [e2, up3_n ha]) ⟨?_, ?_, ?_, ?_⟩ (fun k hk => ?_) (fun k hk => s2_rowN (by omega)) (s2_i (by decide)) (s2_i (by decide)) (s2_i (by decide)))
      · rw [e2, up3_a, s2_s, s2_s, c1]
      · rw [e2, up3_a, s2_i (by decide), s2_i (by decide)]; exact c2
      · rw [e2, up3_a, s2_i (by decide), s2_i (by decide)]; exact c3
      · rw [e2, up3_a, s2_i (by decide), s2_i (by decide)]; exact c4
      · rw [e2, up3_a, s2_k (by decide), s2_k (by decide)]; exact hc.2.2.2.2.2.2.2.1 k hk
    have cgo : ∀ (U z : Nat) (T L : Nat → Nat) (V : w_V) (P : w_P) (post kb : lpT) (xp : w_Xp), 10 ≤ U → CL ad b n B r tx ax kx l jl cl vw D lw g w p z T L V P → (∀ (z' : Nat) (T' L' : Nat → Nat) (V' : w_V) (P' : w_P), z ≤ z' → CL ad b n B r tx ax kx l jl cl vw D lw g w (tNx b n p) z' T' L' V' P' → (tIs b n (tNx b n p) [105, 110, 110] = false → jFX9_land_78 ad (U - 10) z' T' L' V' P' r l post xp kb) ∧ (tIs b n (tNx b n p) [105, 110, 110] = true → (∀ V222 : w_V, V222 = (up3 V' l 0 3 ((V' l 0 3) ||| ((1 : Int32) <<< (((V' l 0 0) : Int32) &&& 31)))) → (∃ c223 U224 : Nat, U - 10 = c223 + U224 ∧ wFX9_go ad c223 z' T' L' V222 P' r (fun (z : Nat) (T L : Nat → Nat) (V226 : w_V) (P227 : w_P) => (T r = 8 ∧ T l = 3 ∧ (jFX9_land_78 ad U224 z T L V226 P227 r l post xp kb))))))) → (if (9 ≤ (V l 0 0) : Prop) then (jFX9_land_42 ad U z T L V P r l 0 r post xp kb) else (jFX9_land_42 ad U z T L V P r l 1 r post xp kb)) := by
      intro U z T L V P post kb xp hU hc k
      rw [hc.2.2.2.2.2.2.1.2.1, hT, if_neg (show ¬ (9 : Int32) ≤ nI (nT D) from nI_ge (b := 9) t9 (by omega))]
      unfold jFX9_land_42
      refine ⟨0, U, (Nat.zero_add U).symm, sX_check1 ⟨hc.2.1.1.1, hc.2.2.2.2.2.2.1.1, 10, U - 10, by omega, sX_goX hA ht hc.1 hc.2.1 (Nat.le_refl _) (fun z' T' L' V' P' g1 g2 => ?_)⟩⟩
      have hc2 := hc.x g1 g2
      obtain ⟨k1, k2⟩ := k z' T' L' V' P' g1.2.1 hc2
      refine ⟨g2.1.1, hc2.2.2.2.2.2.2.1.1, fun s hs => sX_is hA ht g2 (by decide) hs ?_⟩
      cases ei : tIs b n (tNx b n p) [105, 110, 110] with
      | false => rw [if_pos (show b2 false = 0 from rfl)]; exact k1 ei
      | true => rw [if_neg (show ¬ b2 true = 0 by decide)]; exact k2 ei
    have mgo : ∀ (sg0 sg : MS) (post : MS → Prop), ML b n sg0 D p sg → (∀ s9, ML b n sg0 D (tNx b n p) s9 → (tIs b n (tNx b n p) [105, 110, 110] = false → jM_readTown_44 s9 post) ∧ (tIs b n (tNx b n p) [105, 110, 110] = true → wM_stepOn (s2 s9 4 8 ((s9 4 8) ||| ((1 : Int32) <<< (((s9 4 7) : Int32) &&& 31)))) (fun (g8 : MS) => (jM_readTown_44 g8 post)))) → wM_readTown sg post := by
      intro sg0 sg post hM k
      unfold wM_readTown
      refine sM_another (i := 0) (c := nT D) (m := 9) ht hM.1 hM.2.1 (by decide) (by rw [hM.2.2.1.1 0 (by decide), hT]) (by omega) (by decide) (fun _ s9 f9 m9 => ?_) (fun q => absurd q h9)
      rw [if_neg (by decide)]
      have hM9 := hM.s f9 m9
      obtain ⟨k1, k2⟩ := k s9 hM9
      refine sM_is ht m9 hM9.2.1 (by decide) (by decide) ?_
      cases ei : tIs b n (tNx b n p) [105, 110, 110] with
      | false => rw [if_pos (show b2 false = 0 from rfl)]; exact k1 ei
      | true => rw [if_neg (show ¬ b2 true = 0 by decide)]; exact k2 ei
    have mfin : ∀ (D1 sg0 s9 : MS) (p1 : Nat) (post : MS → Prop), ML b n sg0 D1 p1 s9 → (∀ s8, ML b n sg0 (s2 D1 4 0 (D1 4 0 + 1)) p1 s8 → post s8) → jM_readTown_44 s9 post := fun D1 sg0 s9 p1 post hM k => by
      unfold jM_readTown_44
      have e0 : s9 4 7 = D1 4 0 := hM.2.2.1.1 0 (by decide)
      rw [e0]
      exact k _ (hM.w4 (i := 0) (by decide))
    cases ei : tIs b n (tNx b n p) [105, 110, 110] with
    | false =>
      refine Or.inl ⟨s2 D 4 0 (D 4 0 + 1), lw, tNx b n p, fin D hD rfl, fun q => ?_, hp2, hp2n, ?_, ?_⟩
      · have : nS (s2 D 4 0 (D 4 0 + 1)) = nS D := by show tn (s2 D 4 0 (D 4 0 + 1) 4 6) = tn (D 4 6); rw [s2_i (by decide)]
        rw [this]; exact hw q
      · intro post kb xp U z T L V P hU hc k
        exact cgo U z T L V P post kb xp (by omega) hc (fun z' T' L' V' P' hz hc2 => ⟨fun _ => cfin D _ _ _ _ _ _ _ _ _ _ hc2 (fun V' hc3 => k _ _ _ _ _ _ (by omega) hz hc3), fun q => by rw [ei] at q; cases q⟩)
      · intro sg0 sg post hM k
        exact mgo sg0 sg post hM (fun s9 hM9 => ⟨fun _ => mfin D sg0 s9 _ post hM9 k, fun q => by rw [ei] at q; cases q⟩)
    | true =>
      have hp1n : tNx b n p < n := tis_lt ei
      have hp3 := t9nx_gt (b := b) hp1n
      have hp3n := t9nx_le (b := b) hp2n
      obtain ⟨m, m1, m2⟩ := hD.2.1
      obtain ⟨i1, i2⟩ := inn_or m m2 (nT D) t9
      have hD1 : DOk (s2 D 4 1 (nI (m ||| 2 ^ nT D))) := by
        obtain ⟨-, -, -, -, g5, -⟩ := hD.1
        exact hD.w4 (fun k hk => s2_rowN (by omega)) (s2_i (by decide)) (s2_i (by decide)) (s2_i (by decide)) ⟨nT D, by rw [s2_i (by decide)]; exact hT, Nat.le_refl _, hT9⟩ (by rw [s2_i (by decide)]; exact g5) ⟨_, s2_s, i2⟩ (by rw [s2_i (by decide)]; exact hD.2.2.1)
      refine Or.inl ⟨s2 (s2 D 4 1 (nI (m ||| 2 ^ nT D))) 4 0 (s2 D 4 1 (nI (m ||| 2 ^ nT D)) 4 0 + 1), lw, tNx b n (tNx b n p), fin _ hD1 (s2_i (by decide)), fun q => ?_, by omega, hp3n, ?_, ?_⟩
      · have : nS (s2 (s2 D 4 1 (nI (m ||| 2 ^ nT D))) 4 0 (s2 D 4 1 (nI (m ||| 2 ^ nT D)) 4 0 + 1)) = nS D := by show tn (s2 (s2 D 4 1 (nI (m ||| 2 ^ nT D))) 4 0 _ 4 6) = tn (D 4 6); rw [s2_i (by decide), s2_i (by decide)]
        rw [this]; exact hw q
      · intro post kb xp U z T L V P hU hc k
        refine cgo U z T L V P post kb xp (by omega) hc (fun z' T' L' V' P' hz hc2 => ⟨fun q => (by rw [ei] at q; cases q), fun _ V222 e222 => ?_⟩)
        obtain ⟨c0, c1, c2, c3, c4⟩ := hc2.2.2.2.2.2.2.1
        rw [c4, c1, hT, m1, i1] at e222
        have hc3 : CL ad b n B r tx ax kx l jl cl vw (s2 D 4 1 (nI (m ||| 2 ^ nT D))) lw g w (tNx b n p) z' T' L' V222 P' := by
          refine hc2.lnd (fun a ha => by rw [e222, up3_n ha]) ⟨?_, ?_, ?_, ?_⟩ (fun k hk => ?_) (fun k hk => s2_rowN (by omega)) (s2_i (by decide)) (s2_i (by decide)) (s2_i (by decide))
          · rw [e222, up3_a, s2_i (by decide), s2_i (by decide)]; exact c1
          · rw [e222, up3_a, s2_i (by decide), s2_i (by decide)]; exact c2
          · rw [e222, up3_a, s2_i (by decide), s2_i (by decide)]; exact c3
          · rw [e222, up3_a, s2_s, s2_s]
          · rw [e222, up3_a, s2_k (by decide), s2_k (by decide)]; exact hc2.2.2.2.2.2.2.2.1 k hk
        refine ⟨10, U - 20, by omega, sX_goX hA ht hc3.1 hc3.2.1 (Nat.le_refl _) (fun z2 T2 L2 V2 P2 g1 g2 => ?_)⟩
        have hc4 := hc3.x g1 g2
        exact ⟨g2.1.1, hc4.2.2.2.2.2.2.1.1, cfin _ _ _ _ _ _ _ _ _ _ _ hc4 (fun V' hc5 => k _ _ _ _ _ _ (by omega) (Nat.le_trans hz g1.2.1) hc5)⟩
      · intro sg0 sg post hM k
        refine mgo sg0 sg post hM (fun s9 hM9 => ⟨fun q => (by rw [ei] at q; cases q), fun _ => ?_⟩)
        have e8 : s9 4 8 = nI m := (hM9.2.2.1.1 1 (by decide)).trans m1
        have e7 : s9 4 7 = nI (nT D) := (hM9.2.2.1.1 0 (by decide)).trans hT
        rw [e8, e7, i1]
        have hM8 : ML b n sg0 (s2 D 4 1 (nI (m ||| 2 ^ nT D))) (tNx b n p) (s2 s9 4 8 (nI (m ||| 2 ^ nT D))) := hM9.w4 (i := 1) (by decide)
        exact sM_go ht hM8.1 (fun s7 f7 m7 => mfin _ sg0 s7 _ post (hM8.s f7 m7) k)
end L
