/-! PURE: road at both -/
set_option maxRecDepth 100000
section L
variable {ad b : Nat → Nat} {n : Nat} {B : bsE} {r tx ax kx l jl cl vw : Nat} {D : MS} {lw : (Nat → Int32) → Int32} {g w : Bool} {p z : Nat} {T L : Nat → Nat} {V : w_V} {P : w_P}
/-- the land with a road -/
def roadD (D : MS) (x y : Nat) (v : Int32) : MS := fun k i => if k = 4 ∧ i = 2 then D 4 2 + 1 else if k = 5 ∧ (i = 9 * x + y ∨ i = 9 * y + x) then v else D k i
theorem roadD_k {x y : Nat} {v : Int32} {k : Nat} (h : k ≠ 4) (h2 : k ≠ 5) : roadD D x y v k = D k := by
  funext i
  unfold roadD
  rw [if_neg (fun q => h q.1), if_neg (fun q => h2 q.1)]
theorem roadD_4 {x y : Nat} {v : Int32} {i : Nat} (h : i ≠ 2) : roadD D x y v 4 i = D 4 i := by unfold roadD; rw [if_neg (fun q => h q.2), if_neg (fun q => absurd q.1 (by decide))]
theorem roadD_42 {x y : Nat} {v : Int32} : roadD D x y v 4 2 = D 4 2 + 1 := if_pos ⟨rfl, rfl⟩
theorem roadD_5 {x y : Nat} {v : Int32} {i : Nat} : roadD D x y v 5 i = if i = 9 * x + y ∨ i = 9 * y + x then v else D 5 i := by
  unfold roadD
  rw [if_neg (fun q => absurd q.1 (by decide))]
  by_cases h : i = 9 * x + y ∨ i = 9 * y + x
  · rw [if_pos ⟨rfl, h⟩, if_pos h]
  · rw [if_neg (fun q => h q.2), if_neg h]
theorem DOk.road {x y : Nat} {v : Nat} (h : DOk D) (hx : x < 9) (hy : y < 9) (hv : v ≤ 9) (hv1 : 1 ≤ v) (h14 : tn (D 4 2) ≠ 14) : DOk (roadD D x y (nI v)) := by
  obtain ⟨⟨⟨a1, a2⟩, ⟨a3, a4⟩, ⟨a5, a6⟩, ⟨a7, a8⟩, a9, a10, a11⟩, b1, ⟨k, k1, k2⟩, a12⟩ := h
  have ek : tn (D 4 2) = k := by rw [k1]; exact tn_nI (by omega)
  have eT : nT (roadD D x y (nI v)) = nT D := by show tn (roadD D x y _ 4 0) = tn (D 4 0); rw [roadD_4 (by decide)]
  have eJ : nJ (roadD D x y (nI v)) = nJ D := by show tn (roadD D x y _ 4 4) = tn (D 4 4); rw [roadD_4 (by decide)]
  have eC : nC (roadD D x y (nI v)) = nC D := by show tn (roadD D x y _ 4 5) = tn (D 4 5); rw [roadD_4 (by decide)]
  have eS : nS (roadD D x y (nI v)) = nS D := by show tn (roadD D x y _ 4 6) = tn (D 4 6); rw [roadD_4 (by decide)]
  have est : ∀ j, stp (roadD D x y (nI v)) j = stp D j := fun j => by show tn (roadD D x y _ 9 j) = tn (D 9 j); rw [roadD_k (by decide) (by decide)]
  refine ⟨⟨⟨by rw [eT, roadD_4 (by decide)]; exact a1, by rw [eT]; exact a2⟩, ⟨by rw [eJ, roadD_4 (by decide)]; exact a3, by rw [eJ]; exact a4⟩, ⟨by rw [eC, roadD_4 (by decide)]; exact a5, by rw [eC]; exact a6⟩, ⟨by rw [eS, roadD_4 (by decide)]; exact a7, by rw [eS]; exact a8⟩, by rw [roadD_4 (by decide)]; exact a9, fun j hj => ?_, fun i j hi hj => ?_⟩, by rw [roadD_4 (by decide)]; exact b1, ⟨k + 1, by rw [roadD_42, k1, nI_1], by omega⟩, fun j hj => by rw [eJ] at hj; rw [roadD_k (k := 7) (by decide) (by decide)]; exact a12 j hj⟩
  · rw [eJ] at hj
    rw [est, eT, roadD_k (k := 6) (by decide) (by decide), roadD_k (k := 9) (by decide) (by decide), roadD_k (k := 10) (by decide) (by decide)]
    obtain ⟨q1, q2, q3, q4, q5, q6⟩ := a10 j hj
    refine ⟨q1, q2, q3, q4, q5, fun i hi => ?_⟩
    obtain ⟨c, d, c1, c2, c3, c4, c5⟩ := q6 i hi
    refine ⟨c, d, c1, c2, c3, c4, ?_⟩
    rw [roadD_5]
    split
    · exact nI_ne0 (by omega) (by omega)
    · exact c5
  · rw [roadD_5, roadD_5]
    by_cases e : 9 * i + j = 9 * x + y ∨ 9 * i + j = 9 * y + x
    · exact ⟨v, by rw [if_pos e], hv, by rw [if_pos (by omega)]⟩
    · obtain ⟨c, c1, c2, c3⟩ := a11 i j hi hj
      exact ⟨c, by rw [if_neg e]; exact c1, c2, by rw [if_neg (by omega)]; exact c3⟩
theorem tOf_v {m : Nat} (h : tOf b n p m = 0) : tKin b n p = 2 ∧ tVl b n p < m := by
  unfold tOf at h
  by_cases k2 : tKin b n p = 2
  · rw [if_neg (fun q => q k2)] at h
    by_cases h4 : 4 < tEn b n p - p
    · rw [if_pos h4] at h; cases h
    · rw [if_neg h4] at h
      by_cases hm : m ≤ tVl b n p
      · rw [if_pos hm] at h; cases h
      · exact ⟨k2, by omega⟩
  · rw [if_pos k2] at h; cases h
theorem tNum_v {lo hi : Nat} (h : tNum b n p lo hi = 0) : tKin b n p = 2 ∧ lo ≤ tVl b n p ∧ tVl b n p ≤ hi := by
  unfold tNum at h
  by_cases k2 : tKin b n p = 2
  · rw [if_neg (fun q => q k2)] at h
    by_cases h4 : 4 < tEn b n p - p ∨ tVl b n p < lo ∨ hi < tVl b n p
    · rw [if_pos h4] at h; cases h
    · exact ⟨k2, by omega, by omega⟩
  · rw [if_pos k2] at h; cases h
/-- a town's number at both -/
theorem wr_of {sg : MS} {m : Nat} (h : tOf b n p m ≠ 0) : ¬ wr sg (nI (tOf b n p m)) p 0 21 = 0 := wr_b h (by have := tOf_le (b := b) (n := n) (p := p) (m := m); omega)
theorem b_road (hA : hAd ad) (ht : tOk b n) (hD : DOk D) (hw : w = false → nS D = 0) (hp : p ≤ n) (e : tIs b n p [114, 111, 97, 100] = true) : bRun ad b n B r tx ax kx l jl cl vw D lw g w g w p (fun post kb xp U z T L V P => if (14 ≤ (V l 0 1) : Prop) then (jFX9_land_115 ad U z T L V P r l 0 r post xp kb) else (jFX9_land_115 ad U z T L V P r l 1 r post xp kb)) (fun sg post => wM_readRoad sg post) := by
  have hn6 := ht.1
  have hpn : p < n := tis_lt e
  have hp2 := t9nx_gt (b := b) hpn
  have hp2n := t9nx_le (b := b) hp
  obtain ⟨⟨hT, hT9⟩, -⟩ := hD.1
  obtain ⟨kr, kr1, kr2⟩ := hD.2.2.1
  have ekr : tn (D 4 2) = kr := by rw [kr1]; exact tn_nI (by omega)
  by_cases h14 : kr = 14
  · refine Or.inr ⟨2, p, by decide, Nat.le_refl _, hp, ?_, ?_⟩
    · intro post kb xp U z T L V P hU hc k
      rw [hc.2.2.2.2.2.2.1.2.2.1, kr1, h14, if_pos (by decide)]
      unfold jFX9_land_115
      exact ⟨U, 0, rfl, sX_check0 hc.1 hc.2.1 (by omega) (k.c hc)⟩
    · intro sg0 sg post hM k
      show wM_readRoad sg post
      unfold wM_readRoad
      refine sM_another (i := 2) (c := kr) (m := 14) ht hM.1 hM.2.1 (by decide) (by rw [hM.2.2.1.1 2 (by decide), kr1]) (by omega) (by decide) (fun q => absurd h14 q) (fun _ => ?_)
      rw [if_pos rfl]
      exact k _ (hM.2.2.2.tr (fB.wr _ _ _).U) wr_21 wr_22
  · have mgo : ∀ (sg0 sg : MS) (post : MS → Prop), ML b n sg0 D p sg → (∀ s9, ML b n sg0 D (tNx b n p) s9 → wM_townNow s9 (fun (r3 : Int32) (g4 : MS) => (if ((g4 0 21) = 0 : Prop) then (wM_stepOn g4 (fun (g29 : MS) => (jM_readRoad_27 g29 r3 post))) else (jM_readRoad_27 g4 r3 post)))) → wM_readRoad sg post := by
      intro sg0 sg post hM k
      unfold wM_readRoad
      refine sM_another (i := 2) (c := kr) (m := 14) ht hM.1 hM.2.1 (by decide) (by rw [hM.2.2.1.1 2 (by decide), kr1]) (by omega) (by decide) (fun _ s9 f9 m9 => ?_) (fun q => absurd q h14)
      rw [if_neg (by decide)]
      exact k s9 (hM.s f9 m9)
    -- a bad model goes through
    have bad78 : ∀ (sg : MS) (x y c : Int32) (post : MS → Prop), ¬ sg 0 21 = 0 → post sg → jM_readRoad_78 sg x y c post := fun sg x y c post hb k => by
      unfold jM_readRoad_78
      refine sM_readNumB hb ?_
      rw [if_neg hb]; exact k
    have bad67 : ∀ (sg : MS) (x y c : Int32) (post : MS → Prop), ¬ sg 0 21 = 0 → post sg → jM_readRoad_67 sg x y c post := fun sg x y c post hb k => by
      unfold jM_readRoad_67
      rw [if_neg hb]; exact bad78 sg x y c post hb k
    have bad27 : ∀ (sg : MS) (x : Int32) (post : MS → Prop), ¬ sg 0 21 = 0 → post sg → jM_readRoad_27 sg x post := fun sg x post hb k => by
      unfold jM_readRoad_27
      refine sM_townB hb ?_
      rw [if_neg hb]; exact bad67 _ _ _ _ _ hb k
    have e7 : ∀ (sg0 s9 : MS) (p1 : Nat), ML b n sg0 D p1 s9 → s9 4 7 = nI (nT D) := fun sg0 s9 p1 hM => (hM.2.2.1.1 0 (by decide)).trans hT
    have cls : ∀ (post kb : lpT) (xp : w_Xp) (U z : Nat) (T L : Nat → Nat) (V : w_V) (P : w_P), 30 ≤ U → CL ad b n B r tx ax kx l jl cl vw D lw g w p z T L V P → (∀ (z' : Nat) (T' L' : Nat → Nat) (V' : w_V) (P' : w_P), z ≤ z' → CL ad b n B r tx ax kx l jl cl vw D lw g w (tNx b n p) z' T' L' V' P' → ∃ c189 U190 : Nat, U - 10 = c189 + U190 ∧ wFX9_road ad c189 z' T' L' V' P' r l (fun (z : Nat) (T L : Nat → Nat) (V192 : w_V) (P193 : w_P) => (T r = 8 ∧ T l = 3 ∧ (jFX9_land_283 ad U190 z T L V192 P193 r l post xp kb))) xp) → (if (14 ≤ (V l 0 1) : Prop) then (jFX9_land_115 ad U z T L V P r l 0 r post xp kb) else (jFX9_land_115 ad U z T L V P r l 1 r post xp kb)) := by
      intro post kb xp U z T L V P hU hc k
      rw [hc.2.2.2.2.2.2.1.2.2.1, kr1, if_neg (show ¬ (14 : Int32) ≤ nI kr from nI_ge (b := 14) (by omega) (by omega))]
      unfold jFX9_land_115
      refine ⟨0, U, (Nat.zero_add U).symm, sX_check1 ⟨hc.2.1.1.1, hc.2.2.2.2.2.2.1.1, 10, U - 10, by omega, sX_goX hA ht hc.1 hc.2.1 (Nat.le_refl _) (fun z' T' L' V' P' g1 g2 => ?_)⟩⟩
      have hc2 := hc.x g1 g2
      exact ⟨g2.1.1, hc2.2.2.2.2.2.2.1.1, k z' T' L' V' P' g1.2.1 hc2⟩
    by_cases o1 : tOf b n (tNx b n p) (nT D) = 0
    · obtain ⟨t1, t2⟩ := tOf_v o1
      have hq1n := (t9kin_2.mp t1).1
      have hq2 := t9nx_gt (b := b) hq1n
      have hq2n := t9nx_le (b := b) hp2n
      generalize ep2 : tNx b n (tNx b n p) = p2 at hq2 hq2n
      generalize ex : tVl b n (tNx b n p) = x at t2
      -- the class up to the second town
      have cl2 : ∀ (xp : w_Xp) (U z : Nat) (T L : Nat → Nat) (V : w_V) (P : w_P) (post : Nat → (Nat → Nat) → (Nat → Nat) → w_V → w_P → Prop), 20 ≤ U → CL ad b n B r tx ax kx l jl cl vw D lw g w (tNx b n p) z T L V P → (∀ (z' : Nat) (T' L' : Nat → Nat) (V' : w_V) (P' : w_P), z ≤ z' → CL ad b n B r tx ax kx l jl cl vw D lw g w p2 z' T' L' V' P' → (tOf b n p2 (nT D) = 0 → if (nI (tVl b n p2) = nI x : Prop) then (jFX9_road_46 ad (U - 14) z' T' L' V' P' r l (nI x) (nI (tVl b n p2)) r post xp) else (∃ i66 : Nat, i66 < 81 ∧ ((9 * nI x) + nI (tVl b n p2)) = nI i66 ∧ (if ((V' l 5 i66) = 0 : Prop) then (jFX9_road_47 ad (U - 14) z' T' L' V' P' r l (nI x) (nI (tVl b n p2)) 1 r post xp) else (jFX9_road_46 ad (U - 14) z' T' L' V' P' r l (nI x) (nI (tVl b n p2)) r post xp))))) → (tOf b n p2 (nT D) ≠ 0 → xfL B xp z (nI (tOf b n p2 (nT D))) p2) → wFX9_road ad U z T L V P r l post xp := by
        intro xp U z T L V P post hU hc k kf
        unfold wFX9_road
        rw [hc.2.2.2.2.2.2.1.2.1, hT]
        refine ⟨2, U - 2, by omega, sX_among hA hc.1 hc.2.1 (by omega) (Nat.le_refl _) (fun _ => ⟨hc.2.1.1.1, hc.2.2.2.2.2.2.1.1, 10, U - 12, by omega, sX_goX hA ht hc.1 hc.2.1 (Nat.le_refl _) (fun z' T' L' V' P' g1 g2 => ?_)⟩) (fun q => absurd o1 q)⟩
        rw [ep2] at g2
        have hc2 := hc.x g1 g2
        refine ⟨g2.1.1, hc2.2.2.2.2.2.2.1.1, 2, U - 14, by omega, ?_⟩
        rw [hc2.2.2.2.2.2.2.1.2.1, hT, ex]
        exact sX_among hA hc2.1 hc2.2.1 (by omega) (Nat.le_refl _) (fun q => ⟨g2.1.1, hc2.2.2.2.2.2.2.1.1, k z' T' L' V' P' g1.2.1 hc2 q⟩) (fun q => ((kf q).m g1.2.1).c hc2)
      have ml2 : ∀ (sg0 s9 : MS) (post : MS → Prop), ML b n sg0 D (tNx b n p) s9 → (∀ s8, ML b n sg0 D p2 s8 → jM_readRoad_27 s8 (nI x) post) → wM_townNow s9 (fun (r3 : Int32) (g4 : MS) => (if ((g4 0 21) = 0 : Prop) then (wM_stepOn g4 (fun (g29 : MS) => (jM_readRoad_27 g29 r3 post))) else (jM_readRoad_27 g4 r3 post))) := by
        intro sg0 s9 post hM k
        refine sM_town hM.1 hn6 hM.2.1 (e7 _ _ _ hM) (by omega) (fun _ => ?_) (fun q => absurd o1 q)
        rw [if_pos hM.2.1, ex]
        refine sM_go ht hM.1 (fun s8 f8 m8 => ?_)
        rw [ep2] at m8
        exact k s8 (hM.s f8 m8)
      by_cases o2 : tOf b n p2 (nT D) = 0
      · obtain ⟨u1, u2⟩ := tOf_v o2
        have hq3n := (t9kin_2.mp u1).1
        have hq4 := t9nx_gt (b := b) hq3n
        have hq4n := t9nx_le (b := b) hq2n
        generalize ep3 : tNx b n p2 = p3 at hq4 hq4n
        generalize ey : tVl b n p2 = y at u2
        have hx9 : x < 9 := by omega
        have hy9 : y < 9 := by omega
        have e57 : (9 : Int32) * nI x + nI y = nI (9 * x + y) := ix9 x y
        have e75 : (9 : Int32) * nI y + nI x = nI (9 * y + x) := ix9 y x
        obtain ⟨rd, rd1, rd2, rd3⟩ := hD.1.2.2.2.2.2.2 x y hx9 hy9
        by_cases tk : x = y ∨ rd ≠ 0
        · refine Or.inr ⟨4, p2, by decide, by omega, hq2n, ?_, ?_⟩
          · intro post kb xp U z T L V P hU hc k
            refine cls post kb xp U z T L V P (by omega) hc (fun z' T' L' V' P' hz hc2 => ⟨U - 10, 0, rfl, cl2 xp _ z' T' L' V' P' _ (by omega) hc2 (fun z2 T2 L2 V2 P2 hz2 hc3 _ => ?_) (fun q => absurd o2 q)⟩)
            rw [ey]
            have bad : ∀ post2, jFX9_road_46 ad (U - 10 - 14) z2 T2 L2 V2 P2 r l (nI x) (nI y) r post2 xp := fun post2 => by
              unfold jFX9_road_46 jFX9_road_47
              exact ⟨U - 10 - 14, 0, rfl, sX_check0 (U := U - 10 - 14) hc3.1 hc3.2.1 (by omega) ((k.m (Nat.le_trans hz hz2)).c hc3)⟩
            by_cases exy : y = x
            · rw [if_pos (by rw [exy])]; exact bad _
            · rw [if_neg (fun q => exy ((nI_eq (by omega) (by omega)).mp q))]
              refine ⟨9 * x + y, by omega, e57, ?_⟩
              rw [hc3.2.2.2.2.2.2.2.1 _ (by omega), rd1, if_neg (nI_ne0 (by omega) (by omega))]
              exact bad _
          · intro sg0 sg post hM k
            refine mgo sg0 sg post hM (fun s9 hM9 => ml2 sg0 s9 post hM9 (fun s8 hM8 => ?_))
            unfold jM_readRoad_27
            refine sM_town hM8.1 hn6 hM8.2.1 (e7 _ _ _ hM8) (by omega) (fun _ => ?_) (fun q => absurd o2 q)
            rw [if_pos hM8.2.1, ey]
            have bad : jM_readRoad_62 s8 (nI x) (nI y) 81 post := by
              unfold jM_readRoad_62
              refine sM_wrong hM8.1.2.2.1 hM8.2.1 (bad67 _ _ _ _ _ (by rw [wr_21]; decide) (k _ (hM8.2.2.2.tr (fB.wr _ _ _).U) wr_21 wr_22))
            by_cases exy : x = y
            · rw [if_pos (by rw [exy])]; exact bad
            · rw [if_neg (fun q => exy ((nI_eq (by omega) (by omega)).mp q))]
              unfold wM_couple
              rw [e57]
              refine ⟨81 + (9 * x + y), by omega, by rw [show (81 : Int32) = nI 81 from rfl, nI_add], ?_⟩
              rw [hM8.2.2.1.2.1 _ (by omega), rd1, if_neg (nI_nle (by omega) (by omega))]
              exact bad
        · have exy : ¬ x = y := fun q => tk (Or.inl q)
          have erd : rd = 0 := by
            rcases Nat.decEq rd 0 with q | q
            · exact absurd (Or.inr q) tk
            · exact q
          subst erd
          have cl3 : ∀ (post kb : lpT) (xp : w_Xp) (U z : Nat) (T L : Nat → Nat) (V : w_V) (P : w_P), 90 ≤ U → CL ad b n B r tx ax kx l jl cl vw D lw g w p z T L V P → (tNum b n p3 1 9 = 0 → ∀ (z' : Nat) (T' L' : Nat → Nat) (V' : w_V) (P' : w_P), z ≤ z' → CL ad b n B r tx ax kx l jl cl vw (roadD D x y (nI (tVl b n p3))) lw g w (tNx b n p3) z' T' L' V' P' → jFX9_land_283 ad (U - 90) z' T' L' V' P' r l post xp kb) → (tNum b n p3 1 9 ≠ 0 → xfL B xp z (nI (tNum b n p3 1 9)) p3) → (if (14 ≤ (V l 0 1) : Prop) then (jFX9_land_115 ad U z T L V P r l 0 r post xp kb) else (jFX9_land_115 ad U z T L V P r l 1 r post xp kb)) := by
            intro post kb xp U z T L V P hU hc k kf
            refine cls post kb xp U z T L V P (by omega) hc (fun z' T' L' V' P' hz hc2 => ⟨80, U - 90, by omega, cl2 xp _ z' T' L' V' P' _ (by omega) hc2 (fun z2 T2 L2 V2 P2 hz2 hc3 _ => ?_) (fun q => absurd o2 q)⟩)
            rw [ey, if_neg (fun q => exy ((nI_eq (by omega) (by omega)).mp q).symm)]
            refine ⟨9 * x + y, by omega, e57, ?_⟩
            rw [hc3.2.2.2.2.2.2.2.1 _ (by omega), rd1, if_pos (show nI 0 = 0 from rfl)]
            unfold jFX9_road_47
            refine ⟨0, _, (Nat.zero_add _).symm, sX_check1 ⟨hc3.2.1.1.1, hc3.2.2.2.2.2.2.1.1, 20, 46, by omega, sX_goX hA ht hc3.1 hc3.2.1 (by omega) (fun z4 T4 L4 V4 P4 g1 g2 => ?_)⟩⟩
            rw [ep3] at g2
            have hc4 := hc3.x g1 g2
            refine ⟨g2.1.1, hc4.2.2.2.2.2.2.1.1, 46, 0, rfl, sX_number (lo := 1) (hi := 9) hA ht hc4.1 hc4.2.1 (by decide) (by decide) (by omega) (fun q0 => ?_) (fun q0 => ((kf q0).m (Nat.le_trans hz (Nat.le_trans hz2 g1.2.1))).c hc4)⟩
            intro z5 T5 L5 V5 P5 x1 x2
            have hc5 := hc4.x x1 x2
            obtain ⟨r0, r1, r2, r3, r4⟩ := hc5.2.2.2.2.2.2.1
            refine ⟨r0, 9 * x + y, by omega, e57, fun V57 e57' => ⟨9 * x + y, by omega, e57, 9 * y + x, by omega, e75, fun V64 e64 V65 e65 => ?_⟩⟩
            have ev : V57 l 5 (9 * x + y) = nI (tVl b n p3) := by rw [e57', up3_a, s2_s]
            rw [ev] at e64
            have vn : ∀ a, a ≠ l → V65 a = V5 a := fun a ha => by rw [e65, up3_n ha, e64, up3_n ha, e57', up3_n ha]
            have v0 : ∀ i, V65 l 0 i = if i = 1 then V5 l 0 1 + 1 else V5 l 0 i := fun i => by
              rw [e65, up3_a]
              by_cases ei : i = 1
              · rw [if_pos ei, ei, s2_s, e64, up3_a, s2_k (by decide), e57', up3_a, s2_k (by decide)]
              · rw [if_neg ei, s2_i ei, e64, up3_a, s2_k (by decide), e57', up3_a, s2_k (by decide)]
            refine ⟨x2.1.1, r0, k q0 _ _ _ _ _ (Nat.le_trans hz (Nat.le_trans hz2 (Nat.le_trans g1.2.1 x1.2.1))) (hc5.lnd vn ⟨?_, ?_, ?_, ?_⟩ (fun i hi => ?_) (fun k hk => roadD_k (by omega) (by omega)) (roadD_4 (by decide)) (roadD_4 (by decide)) (roadD_4 (by decide)))⟩
            · rw [v0, if_neg (by decide), roadD_4 (by decide)]; exact r1
            · rw [v0, if_pos rfl, roadD_42, r2]
            · rw [v0, if_neg (by decide), roadD_4 (by decide)]; exact r3
            · rw [v0, if_neg (by decide), roadD_4 (by decide)]; exact r4
            · rw [e65, up3_a, s2_k (by decide), e64, up3_a, roadD_5]
              by_cases q1 : i = 9 * y + x
              · rw [if_pos (Or.inr q1), q1, s2_s]
              · rw [s2_i q1, e57', up3_a]
                by_cases q2 : i = 9 * x + y
                · rw [if_pos (Or.inl q2), q2, s2_s]
                · rw [s2_i q2, if_neg (by omega)]
                  exact hc5.2.2.2.2.2.2.2.1 i hi
          have ml3 : ∀ (sg0 sg : MS) (post : MS → Prop), ML b n sg0 D p sg → (tNum b n p3 1 9 = 0 → ∀ s9, ML b n sg0 (roadD D x y (nI (tVl b n p3))) (tNx b n p3) s9 → post s9) → (tNum b n p3 1 9 ≠ 0 → ∀ s9, fU sg0 s9 → s9 0 21 = nI (tNum b n p3 1 9) → s9 0 22 = nI p3 → post s9) → wM_readRoad sg post := by
            intro sg0 sg post hM k kf
            refine mgo sg0 sg post hM (fun s9 hM9 => ml2 sg0 s9 post hM9 (fun s8 hM8 => ?_))
            unfold jM_readRoad_27
            refine sM_town hM8.1 hn6 hM8.2.1 (e7 _ _ _ hM8) (by omega) (fun _ => ?_) (fun q => absurd o2 q)
            rw [if_pos hM8.2.1, ey, if_neg (fun q => exy ((nI_eq (by omega) (by omega)).mp q))]
            unfold wM_couple
            rw [e57]
            refine ⟨81 + (9 * x + y), by omega, by rw [show (81 : Int32) = nI 81 from rfl, nI_add], ?_⟩
            rw [hM8.2.2.1.2.1 _ (by omega), rd1, if_pos (by decide)]
            unfold jM_readRoad_67
            rw [if_pos hM8.2.1]
            refine sM_go ht hM8.1 (fun s7 f7 m7 => ?_)
            rw [ep3] at m7
            have hM7 := hM8.s f7 m7
            unfold jM_readRoad_78
            refine sM_readNum (lo := 1) (hi := 9) ht m7 hM7.2.1 (by decide) (by decide) (fun q0 s6 f6 m6 => ?_) (fun q0 => ?_)
            · have hM6 := hM7.s f6 m6
              rw [if_pos hM6.2.1]
              unfold wM_couple
              rw [e57]
              refine ⟨81 + (9 * x + y), by omega, by rw [show (81 : Int32) = nI 81 from rfl, nI_add], ?_⟩
              rw [e75]
              refine ⟨81 + (9 * y + x), by omega, by rw [show (81 : Int32) = nI 81 from rfl, nI_add], ?_⟩
              obtain ⟨j1, j2, j3, j4, j5⟩ := hM6.2.2.1
              have eJ : nJ (roadD D x y (nI (tVl b n p3))) = nJ D := by show tn (roadD D x y _ 4 4) = tn (D 4 4); rw [roadD_4 (by decide)]
              have eC : nC (roadD D x y (nI (tVl b n p3))) = nC D := by show tn (roadD D x y _ 4 5) = tn (D 4 5); rw [roadD_4 (by decide)]
              have eS : nS (roadD D x y (nI (tVl b n p3))) = nS D := by show tn (roadD D x y _ 4 6) = tn (D 4 6); rw [roadD_4 (by decide)]
              have est : ∀ j, stp (roadD D x y (nI (tVl b n p3))) j = stp D j := fun j => by show tn (roadD D x y _ 9 j) = tn (D 9 j); rw [roadD_k (by decide) (by decide)]
              refine k q0 _ ⟨?_, by rw [s2_k (by decide), s2_k (by decide), s2_k (by decide)]; exact hM6.2.1, ⟨fun i hi => ?_, fun i hi => ?_, fun j hj => ?_, fun c t hc htt => ?_, fun i hi => ?_⟩, ((hM6.2.2.2.w ⟨by decide, Nat.le_add_right 81 _⟩).w ⟨by decide, Nat.le_add_right 81 _⟩).w ⟨by decide, by decide⟩⟩
              · exact hM6.1.f (by rw [s2_rowN (by decide), s2_rowN (by decide), s2_rowN (by decide)]) (fun j _ => by rw [s2_k (by decide), s2_k (by decide), s2_k (by decide)])
              · by_cases e2 : i = 2
                · rw [e2, s2_s, roadD_42, s2_k (by decide), s2_k (by decide)]
                  have := j1 2 (by decide)
                  rw [← this]
                · rw [s2_i (by omega), s2_k (by decide), s2_k (by decide), roadD_4 e2]; exact j1 i hi
              · rw [s2_k (by decide), roadD_5]
                by_cases q1 : i = 9 * y + x
                · rw [if_pos (Or.inr q1), q1, s2_s]
                · rw [s2_i (by omega)]
                  by_cases q2 : i = 9 * x + y
                  · rw [if_pos (Or.inl q2), q2, s2_s]
                  · rw [s2_i (by omega), if_neg (by omega)]; exact j2 i hi
              · rw [eJ] at hj
                rw [est, roadD_k (k := 6) (by decide) (by decide), roadD_k (k := 7) (by decide) (by decide), roadD_k (k := 8) (by decide) (by decide), roadD_k (k := 9) (by decide) (by decide), roadD_k (k := 10) (by decide) (by decide), s2_rowN (a := 6) (by decide), s2_rowN (a := 6) (by decide), s2_rowN (a := 6) (by decide), s2_rowN (a := 7) (by decide), s2_rowN (a := 7) (by decide), s2_rowN (a := 7) (by decide), s2_rowN (a := 8) (by decide), s2_rowN (a := 8) (by decide), s2_rowN (a := 8) (by decide), s2_rowN (a := 9) (by decide), s2_rowN (a := 9) (by decide), s2_rowN (a := 9) (by decide), s2_rowN (a := 10) (by decide), s2_rowN (a := 10) (by decide), s2_rowN (a := 10) (by decide)]
                exact j3 j hj
              · rw [eC] at hc
                rw [roadD_k (k := 11) (by decide) (by decide), s2_k (by decide), s2_k (by decide), s2_k (by decide)]; exact j4 c t hc htt
              · rw [eS] at hi
                rw [roadD_k (k := 12) (by decide) (by decide), s2_k (by decide), s2_k (by decide), s2_k (by decide)]; exact j5 i hi
            · have hb : ¬ wr s7 (nI (tNum b n p3 1 9)) p3 0 21 = 0 := wr_b q0 (by have := tNum_le (b := b) (n := n) (p := p3) (lo := 1) (hi := 9); omega)
              rw [if_neg hb]
              exact kf q0 _ (hM7.2.2.2.tr (fB.wr _ _ _).U) wr_21 wr_22
          by_cases q0 : tNum b n p3 1 9 = 0
          · obtain ⟨v1, v2, v3⟩ := tNum_v q0
            have hq5n := (t9kin_2.mp v1).1
            have hq6 := t9nx_gt (b := b) hq5n
            have hq6n := t9nx_le (b := b) hq4n
            refine Or.inl ⟨roadD D x y (nI (tVl b n p3)), lw, tNx b n p3, hD.road hx9 hy9 v3 v2 (by rw [ekr]; exact h14), fun q => ?_, by omega, hq6n, ?_, ?_⟩
            · have eS : nS (roadD D x y (nI (tVl b n p3))) = nS D := by show tn (roadD D x y _ 4 6) = tn (D 4 6); rw [roadD_4 (by decide)]
              rw [eS]; exact hw q
            · intro post kb xp U z T L V P hU hc k
              exact cl3 post kb xp U z T L V P (by omega) hc (fun _ z' T' L' V' P' hz hc2 => k _ _ _ _ _ _ (by omega) hz hc2) (fun q => absurd q0 q)
            · intro sg0 sg post hM k
              exact ml3 sg0 sg post hM (fun _ => k) (fun q => absurd q0 q)
          · have hk : nI (tNum b n p3 1 9) ≠ 0 := nI_ne0 (by omega) (by have := tNum_le (b := b) (n := n) (p := p3) (lo := 1) (hi := 9); omega)
            refine Or.inr ⟨nI (tNum b n p3 1 9), p3, hk, by omega, hq4n, ?_, ?_⟩
            · intro post kb xp U z T L V P hU hc k
              exact cl3 post kb xp U z T L V P (by omega) hc (fun q => absurd q q0) (fun _ => k)
            · intro sg0 sg post hM k
              exact ml3 sg0 sg post hM (fun q => absurd q q0) (fun _ => k)
      · have hk : nI (tOf b n p2 (nT D)) ≠ 0 := nI_ne0 (by omega) (by have := tOf_le (b := b) (n := n) (p := p2) (m := nT D); omega)
        refine Or.inr ⟨nI (tOf b n p2 (nT D)), p2, hk, by omega, hq2n, ?_, ?_⟩
        · intro post kb xp U z T L V P hU hc k
          exact cls post kb xp U z T L V P (by omega) hc (fun z' T' L' V' P' hz hc2 => ⟨U - 10, 0, rfl, cl2 xp _ z' T' L' V' P' _ (by omega) hc2 (fun z2 T2 L2 V2 P2 hz2 hc3 q => absurd q o2) (fun q => k.m hz)⟩)
        · intro sg0 sg post hM k
          refine mgo sg0 sg post hM (fun s9 hM9 => ml2 sg0 s9 post hM9 (fun s8 hM8 => ?_))
          unfold jM_readRoad_27
          refine sM_town hM8.1 hn6 hM8.2.1 (e7 _ _ _ hM8) (by omega) (fun q => absurd q o2) (fun _ => ?_)
          rw [if_neg (wr_of o2)]
          exact bad67 _ _ _ _ _ (wr_of o2) (k _ (hM8.2.2.2.tr (fB.wr _ _ _).U) wr_21 wr_22)
    · have hk : nI (tOf b n (tNx b n p) (nT D)) ≠ 0 := nI_ne0 (by omega) (by have := tOf_le (b := b) (n := n) (p := tNx b n p) (m := nT D); omega)
      refine Or.inr ⟨nI (tOf b n (tNx b n p) (nT D)), tNx b n p, hk, by omega, hp2n, ?_, ?_⟩
      · intro post kb xp U z T L V P hU hc k
        refine cls post kb xp U z T L V P (by omega) hc (fun z' T' L' V' P' hz hc2 => ⟨U - 10, 0, rfl, ?_⟩)
        unfold wFX9_road
        rw [hc2.2.2.2.2.2.2.1.2.1, hT]
        exact ⟨U - 10, 0, rfl, sX_among hA hc2.1 hc2.2.1 (by omega) (by omega) (fun q => absurd q o1) (fun q => (k.m hz).c hc2)⟩
      · intro sg0 sg post hM k
        refine mgo sg0 sg post hM (fun s9 hM9 => ?_)
        refine sM_town hM9.1 hn6 hM9.2.1 (e7 _ _ _ hM9) (by omega) (fun q => absurd q o1) (fun _ => ?_)
        rw [if_neg (wr_of o1)]
        exact bad27 _ _ _ (wr_of o1) (k _ (hM9.2.2.2.tr (fB.wr _ _ _).U) wr_21 wr_22)
end L
