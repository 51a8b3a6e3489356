/-! PURE: case at both, joined -/
set_option maxRecDepth 100000
section L
variable {ad b : Nat → Nat} {n : Nat} {B : bsE} {r tx ax kx l jl cl vw : Nat} {D : MS} {lw : (Nat → Int32) → Int32} {g w : Bool} {p z : Nat} {T L : Nat → Nat} {V : w_V} {P : w_P}
/-- the land with a case -/
def casD (D : MS) (f : Nat → Int32) : MS := fun k i => if k = 4 ∧ i = 5 then nI (nC D + 1) else if k = 11 ∧ 9 * nC D ≤ i then f (i - 9 * nC D) else D k i
theorem casD_k {f : Nat → Int32} {k : Nat} (h : k ≠ 4) (h2 : k ≠ 11) : casD D f k = D k := by
  funext i
  unfold casD
  rw [if_neg (fun q => h q.1), if_neg (fun q => h2 q.1)]
theorem casD_4 {f : Nat → Int32} {i : Nat} (h : i ≠ 5) : casD D f 4 i = D 4 i := by unfold casD; rw [if_neg (fun q => h q.2), if_neg (fun q => absurd q.1 (by decide))]
theorem casD_45 {f : Nat → Int32} : casD D f 4 5 = nI (nC D + 1) := if_pos ⟨rfl, rfl⟩
theorem casD_old {f : Nat → Int32} {c t : Nat} (hc : c < nC D) (ht : t < 9) : casD D f 11 (9 * c + t) = D 11 (9 * c + t) := by unfold casD; rw [if_neg (fun q => absurd q.1 (by decide)), if_neg (fun q => by have := q.2; omega)]
theorem casD_new {f : Nat → Int32} {t : Nat} : casD D f 11 (9 * nC D + t) = f t := by unfold casD; rw [if_neg (fun q => absurd q.1 (by decide)), if_pos ⟨rfl, by omega⟩, Nat.add_sub_cancel_left]
theorem DOk.cas {f : Nat → Int32} (h : DOk D) (hC5 : nC D < 6) : DOk (casD D f) := by
  obtain ⟨⟨⟨a1, a2⟩, ⟨a3, a4⟩, ⟨a5, a6⟩, ⟨a7, a8⟩, a9, a10, a11⟩, b1, b2', a12⟩ := h
  have eT : nT (casD D f) = nT D := by show tn (casD D f 4 0) = tn (D 4 0); rw [casD_4 (by decide)]
  have eJ : nJ (casD D f) = nJ D := by show tn (casD D f 4 4) = tn (D 4 4); rw [casD_4 (by decide)]
  have eC : nC (casD D f) = nC D + 1 := by show tn (casD D f 4 5) = _; rw [casD_45]; exact tn_nI (by omega)
  have eS : nS (casD D f) = nS D := by show tn (casD D f 4 6) = tn (D 4 6); rw [casD_4 (by decide)]
  have est : ∀ j, stp (casD D f) j = stp D j := fun j => by show tn (casD D f 9 j) = tn (D 9 j); rw [casD_k (by decide) (by decide)]
  refine ⟨⟨⟨by rw [eT, casD_4 (by decide)]; exact a1, by rw [eT]; exact a2⟩, ⟨by rw [eJ, casD_4 (by decide)]; exact a3, by rw [eJ]; exact a4⟩, ⟨by rw [eC, casD_45], by rw [eC]; omega⟩, ⟨by rw [eS, casD_4 (by decide)]; exact a7, by rw [eS]; exact a8⟩, by rw [casD_4 (by decide)]; exact a9, fun j hj => ?_, fun x y hx hy => by rw [casD_k (k := 5) (by decide) (by decide)]; exact a11 x y hx hy⟩, by rw [casD_4 (by decide)]; exact b1, by rw [casD_4 (by decide)]; exact b2', fun j hj => by rw [eJ] at hj; rw [casD_k (k := 7) (by decide) (by decide)]; exact a12 j hj⟩
  rw [eJ] at hj
  rw [est, eT, casD_k (k := 6) (by decide) (by decide), casD_k (k := 9) (by decide) (by decide), casD_k (k := 10) (by decide) (by decide), casD_k (k := 5) (by decide) (by decide)]
  exact a10 j hj
theorem fill9 {o : Nat} {post : Nat → (Nat → Nat) → (Nat → Nat) → w_V → w_P → Prop} {xp : w_Xp} {ke : lpT} {U : Nat} : ∀ (m k : Nat) (V : w_V), k + m = 9 → CLo ad b n B r tx ax kx l jl cl vw D lw g w o p z T L V P → (∀ t, t < k → V o 0 t = -1) → (∀ V', CLo ad b n B r tx ax kx l jl cl vw D lw g w o p z T L V' P → (∀ t, t < 9 → V' o 0 t = -1) → ke U z T L V' P) → lFX9_cause_7 ad r l o o 0 9 post xp ke (m + 1) U z T L V P (nI k) := by
  intro m
  induction m with
  | zero =>
    intro k V hk hc hV kk
    unfold lFX9_cause_7
    rw [if_pos (show (9 : Int32) ≤ nI k from nI_le (a := 9) (by omega) (by omega))]
    exact kk V hc (fun t ht => hV t (by omega))
  | succ m ih =>
    intro k V hk hc hV kk
    unfold lFX9_cause_7
    rw [if_neg (show ¬ (9 : Int32) ≤ nI k from nI_ge (b := 9) (by omega) (by omega))]
    refine ⟨k, by omega, rfl, fun V13 e13 => ?_⟩
    rw [nI_1]
    refine ih (k + 1) V13 (by omega) (hc.put (fun a ha => by rw [e13, up3_n ha])) (fun t ht => ?_) kk
    rw [e13, up3_a]
    by_cases e : t = k
    · rw [e, s2_s]
    · rw [s2_i e]; exact hV t (by omega)
theorem fillM {sg0 : MS} {post ke : MS → Prop} (hC5 : nC D < 6) : ∀ (m k : Nat) (sg : MS), k + m = 9 → ML b n sg0 D p sg → (∀ t, t < k → sg 11 (54 + (9 * nC D + t)) = -1) → (∀ s9, ML b n sg0 D p s9 → rowC s9 D (fun _ => -1) → ke s9) → lM_readCase_27 (nI (9 * (6 + nC D))) post ke (m + 1) (nI k) sg := by
  intro m
  induction m with
  | zero =>
    intro k sg hk hM hV kk
    unfold lM_readCase_27
    rw [if_pos (show (9 : Int32) ≤ nI k from nI_le (a := 9) (by omega) (by omega))]
    exact kk sg hM (fun t ht => hV t (by omega))
  | succ m ih =>
    intro k sg hk hM hV kk
    unfold lM_readCase_27
    rw [if_neg (show ¬ (9 : Int32) ≤ nI k from nI_ge (b := 9) (by omega) (by omega))]
    refine ⟨54 + (9 * nC D + k), by omega, by rw [nI_add]; congr 1; omega, ?_⟩
    rw [nI_1]
    obtain ⟨j1, j2, j3, j4, j5⟩ := hM.2.2.1
    refine ih (k + 1) _ (by omega) ⟨hM.1.f (by rw [s2_rowN (by decide)]) (fun j _ => by rw [s2_k (by decide)]), by rw [s2_k (by decide)]; exact hM.2.1, ⟨fun i hi => by rw [s2_k (by decide)]; exact j1 i hi, fun i hi => by rw [s2_k (by decide)]; exact j2 i hi, fun j hj => ?_, fun c t hc htt => ?_, fun i hi => by rw [s2_k (by decide)]; exact j5 i hi⟩, hM.2.2.2.w ⟨by decide, Nat.le_add_right 54 _⟩⟩ (fun t ht => ?_) kk
    · rw [s2_rowN (a := 6) (by decide), s2_rowN (a := 7) (by decide), s2_rowN (a := 8) (by decide), s2_rowN (a := 9) (by decide), s2_rowN (a := 10) (by decide)]; exact j3 j hj
    · rw [s2_i (by omega)]; exact j4 c t hc htt
    · by_cases e : t = k
      · rw [e, s2_s]
      · rw [s2_i (by omega)]; exact hV t (by omega)
theorem b_case (hA : hAd ad) (ht : tOk b n) (hD : DOk D) (hw : w = false → nS D = 0) (hp : p ≤ n) (e : tIs b n p [99, 97, 115, 101] = true) : bRun ad b n B r tx ax kx l jl cl vw D lw g w g w p (fun post kb xp U z T L V P => (∃ b117 : Nat, P l 7 = some b117 ∧ T b117 = 16 ∧ (wJ2_size ad T L V P b117 (fun (r120 : Int32) => (if (6 ≤ r120 : Prop) then (jFX9_land_204 ad U z T L V P r l 0 r post xp kb) else (jFX9_land_204 ad U z T L V P r l 1 r post xp kb)))))) (fun sg post => wM_readCase sg post) := by
  have hn6 := ht.1
  have hpn : p < n := tis_lt e
  have hp2 := t9nx_gt (b := b) hpn
  have hp2n := t9nx_le (b := b) hp
  obtain ⟨-, -, ⟨hC, hC6⟩, -⟩ := hD.1
  have c1 : ∀ (post kb : lpT) (xp : w_Xp) (U z : Nat) (T L : Nat → Nat) (V : w_V) (P : w_P), CL ad b n B r tx ax kx l jl cl vw D lw g w p z T L V P → (nC D = 6 → jFX9_land_204 ad U z T L V P r l 0 r post xp kb) → (nC D ≠ 6 → jFX9_land_204 ad U z T L V P r l 1 r post xp kb) → (∃ b117 : Nat, P l 7 = some b117 ∧ T b117 = 16 ∧ (wJ2_size ad T L V P b117 (fun (r120 : Int32) => (if (6 ≤ r120 : Prop) then (jFX9_land_204 ad U z T L V P r l 0 r post xp kb) else (jFX9_land_204 ad U z T L V P r l 1 r post xp kb))))) := by
    intro post kb xp U z T L V P hc ka kb'
    obtain ⟨-, -, -, -, -, -, -, -, -, -, ja, ca, -, -, -, -, i5, -⟩ := hc
    refine ⟨cl, i5.1, i5.2.1.1, ?_⟩
    unfold wJ2_size
    rw [i5.2.1.2.1]
    dsimp only
    by_cases q : nC D = 6
    · rw [if_pos (show (6 : Int32) ≤ nI (nC D) from nI_le (a := 6) (by omega) (by omega))]; exact ka q
    · rw [if_neg (show ¬ (6 : Int32) ≤ nI (nC D) from nI_ge (b := 6) (by omega) (by omega))]; exact kb' q
  by_cases h6 : nC D = 6
  · refine Or.inr ⟨2, p, by decide, Nat.le_refl _, hp, ?_, ?_⟩
    · intro post kb xp U z T L V P hU hc k
      refine c1 post kb xp U z T L V P hc (fun _ => ?_) (fun q => absurd h6 q)
      unfold jFX9_land_204
      exact ⟨U, 0, rfl, sX_check0 hc.1 hc.2.1 (by omega) (k.c hc)⟩
    · intro sg0 sg post hM k
      show wM_readCase sg post
      unfold wM_readCase
      refine sM_another (i := 5) (c := nC D) (m := 6) ht hM.1 hM.2.1 (by decide) (by rw [hM.2.2.1.1 5 (by decide), hC]) (by omega) (by decide) (fun q => absurd h6 q) (fun _ => ?_)
      rw [if_pos rfl]
      exact k _ (hM.2.2.2.tr (fB.wr _ _ _).U) wr_21 wr_22
  · have hC5 : nC D < 6 := by omega
    have hbnd : (9 : Int32) * (6 + nI (nC D)) = nI (9 * (6 + nC D)) := by rw [show (6 : Int32) = nI 6 from rfl, nI_add, show (9 : Int32) = nI 9 from rfl, nI_mul]
    have mgo : ∀ (sg0 sg : MS) (post : MS → Prop), ML b n sg0 D p sg → (∀ s9, ML b n sg0 D (tNx b n p) s9 → rowC s9 D (fun _ => -1) → (tKin b n (tNx b n p) = 2 → ∃ n26, lM_readCase_70 (nI (9 * (6 + nC D))) post (fun (g25 : MS) => (jM_readCase_171 g25 post)) n26 (nI 0) s9) ∧ (tKin b n (tNx b n p) ≠ 2 → jM_readCase_171 (wr s9 1 (tNx b n p)) post)) → wM_readCase sg post := by
      intro sg0 sg post hM k
      unfold wM_readCase
      refine sM_another (i := 5) (c := nC D) (m := 6) ht hM.1 hM.2.1 (by decide) (by rw [hM.2.2.1.1 5 (by decide), hC]) (by omega) (by decide) (fun _ s9 f9 m9 => ?_) (fun q => absurd q h6)
      rw [if_neg (by decide)]
      have hM9 := hM.s f9 m9
      have e12 : s9 4 12 = nI (nC D) := (hM9.2.2.1.1 5 (by decide)).trans hC
      rw [e12, hbnd]
      refine ⟨10, fillM hC5 9 0 s9 (by omega) hM9 (fun t ht => absurd ht (by omega)) (fun s8 hM8 hR8 => ?_)⟩
      obtain ⟨k1, k2⟩ := k s8 hM8 hR8
      rw [if_pos hM8.2.1]
      by_cases q : tKin b n (tNx b n p) = 2
      · rw [if_pos (show s8 0 17 = 2 from (kin_nI (j := 2) hM8.1 (by decide)).mpr q)]; exact k1 q
      · rw [if_neg (show ¬ s8 0 17 = 2 from fun q2 => q ((kin_nI (j := 2) hM8.1 (by decide)).mp q2))]
        refine sM_wrong hM8.1.2.2.1 hM8.2.1 ⟨1, ?_⟩
        unfold lM_readCase_70
        rw [if_neg (by rw [wr_21]; decide)]
        exact k2 q
    have cgo : ∀ (post kb : lpT) (xp : w_Xp) (U c : Nat) (z : Nat) (T L : Nat → Nat) (V : w_V) (P : w_P), 10 + 1 + c ≤ U → CL ad b n B r tx ax kx l jl cl vw D lw g w p z T L V P → (∀ (o z' : Nat) (T' L' : Nat → Nat) (V' : w_V) (P' : w_P), z ≤ z' → CLo ad b n B r tx ax kx l jl cl vw D lw g w o (tNx b n p) z' T' L' V' P' → L' o = 9 → (∀ t, t < 9 → V' o 0 t = -1) → ∃ n112, lFX9_cause_25 ad r l o o 0 9 (fun (z : Nat) (T L : Nat → Nat) (V144 : w_V) (P145 : w_P) => (T r = 8 ∧ T l = 3 ∧ (jFX9_land_283 ad (U - 10 - (1 + c)) z T L V144 P145 r l post xp kb))) xp (fun (U97 z : Nat) (T L : Nat → Nat) (V95 : w_V) (P96 : w_P) => (∃ b102 : Nat, P96 l 7 = some b102 ∧ T b102 = 16 ∧ (∃ c105 U106 : Nat, U97 = c105 + U106 ∧ wFJ2_add ad c105 z T L V95 P96 b102 o (fun (r111 : Int32) (z : Nat) (T L : Nat → Nat) (V108 : w_V) (P109 : w_P) => (T r = 8 ∧ T l = 3 ∧ (jFX9_land_283 ad (U - 10 - (1 + c)) z T L V108 P109 r l post xp kb)))))) n112 c z' T' L' V' P' (nI 0)) → (∃ b117 : Nat, P l 7 = some b117 ∧ T b117 = 16 ∧ (wJ2_size ad T L V P b117 (fun (r120 : Int32) => (if (6 ≤ r120 : Prop) then (jFX9_land_204 ad U z T L V P r l 0 r post xp kb) else (jFX9_land_204 ad U z T L V P r l 1 r post xp kb))))) := by
      intro post kb xp U c z T L V P hU hc k
      refine c1 post kb xp U z T L V P hc (fun q => absurd q h6) (fun _ => ?_)
      unfold jFX9_land_204
      refine ⟨0, U, (Nat.zero_add U).symm, sX_check1 ⟨hc.2.1.1.1, hc.2.2.2.2.2.2.1.1, 10, U - 10, by omega, sX_goX hA ht hc.1 hc.2.1 (Nat.le_refl _) (fun z' T' L' V' P' g1 g2 => ?_)⟩⟩
      have hc2 := hc.x g1 g2
      refine ⟨g2.1.1, hc2.2.2.2.2.2.2.1.1, 1 + c, U - 10 - (1 + c), by omega, ?_⟩
      unfold wFX9_cause
      refine ⟨c, rfl, ?_⟩
      intro o z1 T1 L1 V1 P1 hnw
      obtain ⟨q1, q2, q3, q4, q5⟩ := hc2.nwo hnw
      refine ⟨q1.c.2.1.1.1, q1.c.2.2.2.2.2.2.1.1, 10, fill9 9 0 V1 (by omega) q1 (fun t ht => absurd ht (by omega)) (fun V2 hc3 hv => ?_)⟩
      exact k o z1 T1 L1 V2 P1 (Nat.le_trans g1.2.1 q4) hc3 q2 hv
    by_cases k2 : tKin b n (tNx b n p) = 2
    · rcases caseL (B := B) (r := r) (tx := tx) (ax := ax) (kx := kx) (l := l) (jl := jl) (cl := cl) (vw := vw) (lw := lw) (g := g) (w := w) hA ht hD hC5 (n + 1) 0 (tNx b n p) (fun _ => -1) (by omega) hp2n (by omega) k2 with ⟨p', f', a1, a2, a3, a4⟩ | ⟨kd, pl, a1, a2, a3, a4, a5⟩
      · refine Or.inl ⟨casD D f', lw, p', hD.cas hC5, fun q => ?_, by omega, a2, ?_, ?_⟩
        · have eS : nS (casD D f') = nS D := by show tn (casD D f' 4 6) = tn (D 4 6); rw [casD_4 (by decide)]
          rw [eS]; exact hw q
        · intro post kb xp U z T L V P hU hc k
          refine cgo post kb xp U (30 * (p' - tNx b n p) + 4) z T L V P (by omega) hc (fun o z' T' L' V' P' hz hc2 hL hv => ⟨n + 1, a3 o _ _ xp _ z' T' L' V' P' (by omega) hc2 hL hv (fun U9 z9 T9 L9 V9 P9 u1 u2 u3 u4 u5 => ?_)⟩)
          obtain ⟨h1, h2, h3, h4, h5, h6, ⟨h7, h8, h8b, h8c, h8d⟩, h9, ⟨h10, h11⟩, h12, ja, ca, i1, i2, i3, i4, i5, i6, i7, i8⟩ := u3.c
          have hfo : B.1 o = 0 := u3.2.1
          have hTo : T9 o = 1000 := u3.1
          refine ⟨cl, i5.1, i5.2.1.1, 4, U9 - 4, by omega, sX_add h1 i5.2.1 (by omega) i8 i7 (Or.inr (Or.inr (Or.inr (Or.inr hTo)))) (fun i hi => ?_) (Nat.le_refl _) (fun z7 T7 L7 V7 P7 ca' y1 y2 y3 y4 y5 y6 y7 y8 y9 => ?_)⟩
          · obtain ⟨a, b1, b2', -⟩ := i5.2.2 i hi
            exact ⟨a, b1, Or.inr (Or.inr (Or.inr (Or.inr b2')))⟩
          · have nX : ∀ a t, T9 a = t → t ≠ 16 → t ≠ 2004 → ¬ (a = cl ∨ a = ca) := fun a t e q1 q2 q => by
              rcases q with q | q
              · rw [q, i5.2.1.1] at e; exact q1 e.symm
              · rw [q, i5.2.1.2.2.2.1] at e; exact q2 e.symm
            have st : ∀ a t, T9 a = t → t ≠ 0 → t ≠ 16 → t ≠ 2004 → T7 a = t ∧ L7 a = L9 a ∧ V7 a = V9 a ∧ P7 a = P9 a := fun a t e q0 q1 q2 => by
              obtain ⟨x1, x2, x3⟩ := y3 a (by rw [e]; exact q0)
              exact ⟨x1.trans e, x2, (x3 (nX a t e q1 q2)).1, (x3 (nX a t e q1 q2)).2⟩
            obtain ⟨w1, w2, w3, w4⟩ := st r 8 h2.1.1 (by decide) (by decide) (by decide)
            obtain ⟨l1, l2, l3, l4⟩ := st l 3 h7 (by decide) (by decide) (by decide)
            obtain ⟨o1, o2, o3, o4⟩ := st o 1000 hTo (by decide) (by decide) (by decide)
            have eJ : nJ (casD D f') = nJ D := by show tn (casD D f' 4 4) = tn (D 4 4); rw [casD_4 (by decide)]
            have eC : nC (casD D f') = nC D + 1 := by show tn (casD D f' 4 5) = _; rw [casD_45]; exact tn_nI (by omega)
            have eS : nS (casD D f') = nS D := by show tn (casD D f' 4 6) = tn (D 4 6); rw [casD_4 (by decide)]
            have bca : B.1 ca' = 0 := by
              rcases y4 with q | q
              · rw [q]; exact i2
              · cases e : B.1 ca' with
                | zero => rfl
                | succ m => have := (h3 ca' (by rw [e]; omega)).1; rw [q, e] at this; cases this
            have nja : ja ≠ ca' := fun e => by
              rcases y4 with q | q
              · exact i3 (e.trans q)
              · have := i4.2.1.2.2.2.1; rw [e, q] at this; cases this
            refine ⟨w1, l1, k (U - 10 - (1 + (30 * (p' - tNx b n p) + 4))) z7 T7 L7 V7 P7 (by omega) (Nat.le_trans hz (Nat.le_trans u2 y2)) ⟨y1, ?_, xt.kf h3 y3 (fun a q => by rcases q with q | q; rw [q]; exact h4.2.2.2; rw [q]; exact i2), h4, h5, by rw [w3]; exact h6, ⟨l1, by rw [l3, casD_4 (by decide)]; exact h8, by rw [l3, casD_4 (by decide)]; exact h8b, by rw [l3, casD_4 (by decide)]; exact h8c, by rw [l3, casD_4 (by decide)]; exact h8d⟩, fun k hk => by rw [l3, casD_k (k := 5) (by decide) (by decide)]; exact h9 k hk, ⟨by rw [l4]; exact h10, (st vw 4 h11 (by decide) (by decide) (by decide)).1⟩, ?_, ja, ca', i1, bca, nja, ?_, ⟨by rw [l4]; exact i5.1, by rw [eC]; exact y5, fun c hc9 => ?_⟩, ?_, y6, y7⟩⟩
            · exact h2.x (fun a ha => by
                have : ∃ t, T9 a = t ∧ t ≠ 0 ∧ t ≠ 16 ∧ t ≠ 2004 := by rcases ha with q | q | q | q <;> exact ⟨_, q, by decide, by decide, by decide⟩
                obtain ⟨t, t1, t2, t3, t4⟩ := this
                obtain ⟨x1, x2, x3, x4⟩ := st a t t1 t2 t3 t4
                exact ⟨x1.trans t1.symm, x2, x3, x4⟩)
            · rw [l4]
              exact (h12.k y3 (fun a ha q => by unfold eT at ha; rcases ha with e | e | e | e <;> exact nX a _ e (by decide) (by decide) q)).rows eS (fun i _ => by rw [casD_k (k := 12) (by decide) (by decide)])
            · exact (i4.k y3 (by rw [l4]) (fun q => by rcases q with q | q; exact h5 q; have := i4.2.1.1; rw [q, i5.2.1.2.2.2.1] at this; cases this) (fun q => by rcases q with q | q; have := i4.2.1.2.2.2.1; rw [q, i5.2.1.1] at this; cases this; exact i3 q) (fun a ha q => by rcases ha with e | e | e | e <;> exact nX a _ e (by decide) (by decide) q)).rows eJ (fun j _ => ⟨by rw [casD_k (k := 6) (by decide) (by decide)], by rw [casD_k (k := 7) (by decide) (by decide)], by rw [casD_k (k := 8) (by decide) (by decide)], by rw [casD_k (k := 9) (by decide) (by decide)], fun i _ => by rw [casD_k (k := 10) (by decide) (by decide)]⟩)
            · rw [eC] at hc9
              by_cases ec : c = nC D
              · rw [ec]
                exact ⟨o, y9, o1, by rw [o2]; exact u4, fun t htt => by rw [o3, casD_new]; exact u5 t htt⟩
              · obtain ⟨a, b1, b2'⟩ := i5.2.2 c (by omega)
                obtain ⟨q1, q2, q3⟩ := b2'.k y3 (fun a e => nX a 1000 e (by decide) (by decide))
                exact ⟨a, by rw [y8 c (by omega)]; exact b1, q1, q2, fun t htt => by rw [casD_old (by omega) htt]; exact q3 t htt⟩
            · rw [(y3 ja (ne0 i4.2.1.2.2.2.1)).2.1]; exact i6
        · intro sg0 sg post hM k
          refine mgo sg0 sg post hM (fun s9 hM9 hR9 => ⟨fun _ => ⟨n + 1, a4 sg0 s9 post _ hM9 hR9 (fun s8 hM8 hR8 => ?_)⟩, fun q => absurd k2 q⟩)
          unfold jM_readCase_171
          obtain ⟨j1, j2, j3, j4, j5⟩ := hM8.2.2.1
          have eJ : nJ (casD D f') = nJ D := by show tn (casD D f' 4 4) = tn (D 4 4); rw [casD_4 (by decide)]
          have eC : nC (casD D f') = nC D + 1 := by show tn (casD D f' 4 5) = _; rw [casD_45]; exact tn_nI (by omega)
          have eS : nS (casD D f') = nS D := by show tn (casD D f' 4 6) = tn (D 4 6); rw [casD_4 (by decide)]
          have est : ∀ j, stp (casD D f') j = stp D j := fun j => by show tn (casD D f' 9 j) = tn (D 9 j); rw [casD_k (by decide) (by decide)]
          have e12 : s8 4 12 = nI (nC D) := (j1 5 (by decide)).trans hC
          rw [e12, nI_1]
          refine k _ ⟨hM8.1.f (by rw [s2_rowN (by decide)]) (fun j _ => by rw [s2_k (by decide)]), by rw [s2_k (by decide)]; exact hM8.2.1, ⟨fun i hi => ?_, fun i hi => ?_, fun j hj => ?_, fun c t hc htt => ?_, fun i hi => ?_⟩, hM8.2.2.2.w ⟨by decide, by decide⟩⟩
          · by_cases e5 : i = 5
            · rw [e5, s2_s, casD_45]
            · rw [s2_i (by omega), casD_4 e5]; exact j1 i hi
          · rw [s2_k (by decide), casD_k (k := 5) (by decide) (by decide)]; exact j2 i hi
          · rw [eJ] at hj
            rw [est, casD_k (k := 6) (by decide) (by decide), casD_k (k := 7) (by decide) (by decide), casD_k (k := 8) (by decide) (by decide), casD_k (k := 9) (by decide) (by decide), casD_k (k := 10) (by decide) (by decide), s2_rowN (a := 6) (by decide), s2_rowN (a := 7) (by decide), s2_rowN (a := 8) (by decide), s2_rowN (a := 9) (by decide), s2_rowN (a := 10) (by decide)]
            exact j3 j hj
          · rw [eC] at hc
            rw [s2_k (by decide)]
            by_cases ec : c = nC D
            · rw [ec, casD_new]; exact hR8 t htt
            · rw [casD_old (by omega) htt]; exact j4 c t (by omega) htt
          · rw [eS] at hi
            rw [s2_k (by decide), casD_k (k := 12) (by decide) (by decide)]; exact j5 i hi
      · refine Or.inr ⟨kd, pl, a1, by omega, a3, ?_, ?_⟩
        · intro post kb xp U z T L V P hU hc k
          exact cgo post kb xp U (U - 11) z T L V P (by omega) hc (fun o z' T' L' V' P' hz hc2 hL hv => ⟨n + 1, a4 o _ _ xp _ z' T' L' V' P' (by omega) hc2 hL hv (k.m hz)⟩)
        · intro sg0 sg post hM k
          refine mgo sg0 sg post hM (fun s9 hM9 hR9 => ⟨fun _ => ⟨n + 1, a5 sg0 s9 post _ hM9 hR9 (fun s8 f8 m8 l8 => ?_)⟩, fun q => absurd k2 q⟩)
          unfold jM_readCase_171
          exact k _ (f8.w ⟨by decide, by decide⟩) (by rw [s2_k (by decide)]; exact m8) (by rw [s2_k (by decide)]; exact l8)
    · refine Or.inr ⟨1, tNx b n p, by decide, by omega, hp2n, ?_, ?_⟩
      · intro post kb xp U z T L V P hU hc k
        refine cgo post kb xp U (U - 11) z T L V P (by omega) hc (fun o z' T' L' V' P' hz hc2 hL hv => ⟨1, ?_⟩)
        unfold lFX9_cause_25
        refine ⟨_, hc2.c.2.1.2.2.2.2.1, ?_⟩
        rw [if_neg (show ¬ ad (srt (tKin b n (tNx b n p))) = ad 6 from fun e => k2 ((srt_iff (j := 2) hA t9kin_lt (by decide)).mp e))]
        unfold jFX9_cause_41
        exact ⟨U - 11, 0, rfl, sX_check0 hc2.c.1 hc2.c.2.1 (by omega) ((k.m hz).c hc2.c)⟩
      · intro sg0 sg post hM k
        refine mgo sg0 sg post hM (fun s9 hM9 hR9 => ⟨fun q => absurd q k2, fun _ => ?_⟩)
        unfold jM_readCase_171
        exact k _ ((hM9.2.2.2.tr (fB.wr _ _ _).U).w ⟨by decide, by decide⟩) (by rw [s2_k (by decide)]; exact wr_21) (by rw [s2_k (by decide)]; exact wr_22)
end L
