/-! PURE: a judge at both, joined -/
set_option maxRecDepth 100000
section L
variable {ad b : Nat → Nat} {n : Nat} {B : bsE} {r tx ax kx l jl cl vw : Nat} {D : MS} {lw : (Nat → Int32) → Int32} {g w : Bool} {p z : Nat} {T L : Nat → Nat} {V : w_V} {P : w_P}
/-- what the model does of a judge after its harshness -/
def jT2 (J x : Nat) (post : MS → Prop) (r11 : Int32) (g12 : MS) : Prop := ∃ i13 : Nat, i13 < 10 ∧ (5 + nI J) = nI i13 ∧ (if (((s2 g12 8 i13 r11) 0 21) = 0 : Prop) then (if (((s2 g12 8 i13 r11) 0 17) = 2 : Prop) then (∃ n43, lM_readJudge_75 (5 + nI J) post (fun (y41 : Int32) (g42 : MS) => (jM_readJudge_186 g42 (5 + nI J) y41 post)) n43 0 (s2 g12 8 i13 r11)) else (wM_wrong (s2 g12 8 i13 r11) 1 (fun (g45 : MS) => (∃ n48, lM_readJudge_75 (5 + nI J) post (fun (y46 : Int32) (g47 : MS) => (jM_readJudge_186 g47 (5 + nI J) y46 post)) n48 0 g45)))) else (∃ n40, lM_readJudge_75 (5 + nI J) post (fun (y35 : Int32) (g36 : MS) => (jM_readJudge_186 g36 (5 + nI J) y35 post)) n40 0 (s2 g12 8 i13 r11)))
def jT1 (J : Nat) (post : MS → Prop) (r6 : Int32) (g7 : MS) : Prop := ∃ i8 : Nat, i8 < 10 ∧ (5 + nI J) = nI i8 ∧ (wM_readNumber (s2 g7 7 i8 r6) 0 9 (fun (r11 : Int32) (g12 : MS) => jT2 J 0 post r11 g12))
theorem jT2_bad {sg0 : MS} {post : MS → Prop} {kf : Int32} {pl : Nat} (hJ5 : nJ D < 5) (hk : kf ≠ 0) (k : ∀ s9, fU sg0 s9 → s9 0 21 = kf → s9 0 22 = nI pl → post s9) {x : Int32} {s : MS} (hs : fU sg0 s) (h1 : s 0 21 = kf) (h2 : s 0 22 = nI pl) : jT2 (nJ D) 0 post x s := by
  have e5J : (5 : Int32) + nI (nJ D) = nI (5 + nJ D) := nI_add 5 (nJ D)
  unfold jT2
  rw [e5J]
  refine ⟨5 + nJ D, by omega, rfl, ?_⟩
  have e21 : s2 s 8 (5 + nJ D) x 0 21 = kf := by rw [s2_k (by decide)]; exact h1
  have e22 : s2 s 8 (5 + nJ D) x 0 22 = nI pl := by rw [s2_k (by decide)]; exact h2
  rw [if_neg (by rw [e21]; exact hk)]
  refine ⟨1, ?_⟩
  unfold lM_readJudge_75
  rw [if_neg (by rw [e21]; exact hk)]
  exact judB hJ5 k (hs.wj (by omega) (Nat.le_add_right 5 _)) e21 e22
theorem jT1_bad {sg0 : MS} {post : MS → Prop} {kf : Int32} {pl : Nat} (hJ5 : nJ D < 5) (hk : kf ≠ 0) (k : ∀ s9, fU sg0 s9 → s9 0 21 = kf → s9 0 22 = nI pl → post s9) {x : Int32} {s : MS} (hs : fU sg0 s) (h1 : s 0 21 = kf) (h2 : s 0 22 = nI pl) : jT1 (nJ D) post x s := by
  have e5J : (5 : Int32) + nI (nJ D) = nI (5 + nJ D) := nI_add 5 (nJ D)
  unfold jT1
  rw [e5J]
  refine ⟨5 + nJ D, by omega, rfl, ?_⟩
  have e21 : s2 s 7 (5 + nJ D) x 0 21 = kf := by rw [s2_k (by decide)]; exact h1
  have e22 : s2 s 7 (5 + nJ D) x 0 22 = nI pl := by rw [s2_k (by decide)]; exact h2
  exact sM_readNumB (by rw [e21]; exact hk) (jT2_bad hJ5 hk k (hs.wj (by omega) (Nat.le_add_right 5 _)) e21 e22)
theorem b_judge (hA : hAd ad) (ht : tOk b n) (hD : DOk D) (hw : w = false → nS D = 0) (hp : p ≤ n) {i : Nat} (hi : i < 3) (e : tIs b n p (jws.getD i []) = true) : bRun ad b n B r tx ax kx l jl cl vw D lw g w g w p (fun post kb xp U z T L V P => jFX9_land_253 ad U z T L V P r l 1 r post xp kb) (fun sg post => wM_readJudge sg (nI i) post) := by
  have hn6 := ht.1
  have hpn : p < n := tis_lt e
  have hp1 := t9nx_gt (b := b) hpn
  have hp1n := t9nx_le (b := b) hp
  obtain ⟨-, ⟨hJ, hJ5⟩, -⟩ := hD.1
  generalize ep1 : tNx b n p = p1 at hp1 hp1n
  have c253 : ∀ (post kb : lpT) (xp : w_Xp) (U z : Nat) (T L : Nat → Nat) (V : w_V) (P : w_P), CL ad b n B r tx ax kx l jl cl vw D lw g w p z T L V P → (nJ D = 5 → jFX9_land_274 ad U z T L V P r l 0 r post xp kb) → (nJ D ≠ 5 → jFX9_land_274 ad U z T L V P r l 1 r post xp kb) → jFX9_land_253 ad U z T L V P r l 1 r post xp kb := by
    intro post kb xp U z T L V P hc ka kb'
    have hc' := hc
    obtain ⟨-, -, -, -, -, -, -, -, -, -, ja, ca, -, -, -, i4, -⟩ := hc'
    unfold jFX9_land_253
    refine ⟨0, U, (Nat.zero_add U).symm, sX_check1 ⟨hc.2.1.1.1, hc.2.2.2.2.2.2.1.1, jl, i4.1, i4.2.1.1, ?_⟩⟩
    unfold wJ2_size
    rw [i4.2.1.2.1]
    dsimp only
    by_cases q : nJ D = 5
    · rw [if_pos (show (5 : Int32) ≤ nI (nJ D) from nI_le (a := 5) (by omega) (by omega))]; exact ka q
    · rw [if_neg (show ¬ (5 : Int32) ≤ nI (nJ D) from nI_ge (b := 5) (by omega) (by omega))]; exact kb' q
  by_cases h5 : nJ D = 5
  · refine Or.inr ⟨2, p, by decide, Nat.le_refl _, hp, ?_, ?_⟩
    · intro post kb xp U z T L V P hU hc k
      refine c253 post kb xp U z T L V P hc (fun _ => ?_) (fun q => absurd h5 q)
      unfold jFX9_land_274
      exact ⟨U, 0, rfl, sX_check0 hc.1 hc.2.1 (by omega) (k.c hc)⟩
    · intro sg0 sg post hM k
      show wM_readJudge sg (nI i) post
      unfold wM_readJudge
      refine sM_another (i := 4) (c := nJ D) (m := 5) ht hM.1 hM.2.1 (by decide) (by rw [hM.2.2.1.1 4 (by decide), hJ]) (by omega) (by decide) (fun q => absurd h5 q) (fun _ => ?_)
      rw [if_pos rfl]
      exact k _ (hM.2.2.2.tr (fB.wr _ _ _).U) wr_21 wr_22
  · have hJ4 : nJ D < 5 := by omega
    have e5J : (5 : Int32) + nI (nJ D) = nI (5 + nJ D) := nI_add 5 (nJ D)
    -- the class
    have cgo : ∀ (post kb : lpT) (xp : w_Xp) (U c z : Nat) (T L : Nat → Nat) (V : w_V) (P : w_P), 41 + c ≤ U → CL ad b n B r tx ax kx l jl cl vw D lw g w p z T L V P → wFX9_judge ad (35 + (c + 6)) z T L V P r l (fun (z : Nat) (T L : Nat → Nat) (V90 : w_V) (P91 : w_P) => (T r = 8 ∧ T l = 3 ∧ (jFX9_land_283 ad (U - (35 + (c + 6))) z T L V90 P91 r l post xp kb))) xp → jFX9_land_253 ad U z T L V P r l 1 r post xp kb := by
      intro post kb xp U c z T L V P hU hc k
      refine c253 post kb xp U z T L V P hc (fun q => absurd q h5) (fun _ => ?_)
      unfold jFX9_land_274
      exact ⟨0, U, (Nat.zero_add U).symm, sX_check1 ⟨hc.2.1.1.1, hc.2.2.2.2.2.2.1.1, 35 + (c + 6), U - (35 + (c + 6)), by omega, k⟩⟩
    -- the model
    have mgo : ∀ (sg0 sg : MS) (post : MS → Prop), ML b n sg0 D p sg → (tNum b n p1 0 60 = 0 → ∀ s9, ML b n sg0 D (tNx b n p1) s9 → s9 6 (5 + nJ D) = nI i → jT1 (nJ D) post (nI (tVl b n p1)) s9) → (tNum b n p1 0 60 ≠ 0 → ∀ s9, fU sg0 s9 → s9 0 21 = nI (tNum b n p1 0 60) → s9 0 22 = nI p1 → post s9) → wM_readJudge sg (nI i) post := by
      intro sg0 sg post hM ka kf
      unfold wM_readJudge
      refine sM_another (i := 4) (c := nJ D) (m := 5) ht hM.1 hM.2.1 (by decide) (by rw [hM.2.2.1.1 4 (by decide), hJ]) (by omega) (by decide) (fun _ s9 f9 m9 => ?_) (fun q => absurd q h5)
      rw [ep1] at m9
      rw [if_neg (by decide)]
      have hM9 := hM.s f9 m9
      have e11 : s9 4 11 = nI (nJ D) := (hM9.2.2.1.1 4 (by decide)).trans hJ
      rw [e11, e5J]
      refine ⟨5 + nJ D, by omega, rfl, ?_⟩
      have hM8 : ML b n sg0 D p1 (s2 s9 6 (5 + nJ D) (nI i)) := hM9.wj hJ4 (by omega) rfl
      have goal : wM_readNumber (s2 s9 6 (5 + nJ D) (nI i)) (nI 0) (nI 60) (fun r6 g7 => jT1 (nJ D) post r6 g7) := by
        refine sM_readNum ht hM8.1 hM8.2.1 (by decide) (by decide) (fun q s7 f7 m7 => ka q s7 (hM8.s f7 m7) (by rw [f7.1 6 (by decide), s2_s])) (fun q => ?_)
        have hk : nI (tNum b n p1 0 60) ≠ 0 := nI_ne0 (by omega) (by have := tNum_le (b := b) (n := n) (p := p1) (lo := 0) (hi := 60); omega)
        exact jT1_bad hJ4 hk (kf q) (hM8.2.2.2.tr (fB.wr _ _ _).U) wr_21 wr_22
      unfold jT1 jT2 at goal
      rw [e5J] at goal
      exact goal
    have mg2 : ∀ (sg0 s9 : MS) (post : MS → Prop), ML b n sg0 D (tNx b n p1) s9 → s9 6 (5 + nJ D) = nI i → (tNum b n (tNx b n p1) 0 9 = 0 → ∀ s8, ML b n sg0 D (tNx b n (tNx b n p1)) s8 → rowJ s8 D (nI i) (nI (tVl b n p1)) (nI (tVl b n (tNx b n p1))) (fun _ => 0) 0 → (tKin b n (tNx b n (tNx b n p1)) = 2 → ∃ n43, lM_readJudge_75 (nI (5 + nJ D)) post (fun (y41 : Int32) (g42 : MS) => (jM_readJudge_186 g42 (nI (5 + nJ D)) y41 post)) n43 (nI 0) s8) ∧ (tKin b n (tNx b n (tNx b n p1)) ≠ 2 → ∀ s7, fU sg0 s7 → s7 0 21 = 1 → s7 0 22 = nI (tNx b n (tNx b n p1)) → post s7)) → (tNum b n (tNx b n p1) 0 9 ≠ 0 → ∀ s7, fU sg0 s7 → s7 0 21 = nI (tNum b n (tNx b n p1) 0 9) → s7 0 22 = nI (tNx b n p1) → post s7) → jT1 (nJ D) post (nI (tVl b n p1)) s9 := by
      intro sg0 s9 post hM h6 ka kf
      generalize ep2 : tNx b n p1 = p2 at hM ka kf ⊢
      unfold jT1
      rw [e5J]
      refine ⟨5 + nJ D, by omega, rfl, ?_⟩
      have hM8 : ML b n sg0 D p2 (s2 s9 7 (5 + nJ D) (nI (tVl b n p1))) := hM.wj hJ4 (by omega) rfl
      refine sM_readNum (lo := 0) (hi := 9) ht hM8.1 hM8.2.1 (by decide) (by decide) (fun q s7 f7 m7 => ?_) (fun q => ?_)
      · have hM7 := hM8.s f7 m7
        have hM6 : ML b n sg0 D (tNx b n p2) (s2 s7 8 (5 + nJ D) (nI (tVl b n p2))) := hM7.wj hJ4 (by omega) rfl
        have hR : rowJ (s2 s7 8 (5 + nJ D) (nI (tVl b n p2))) D (nI i) (nI (tVl b n p1)) (nI (tVl b n p2)) (fun _ => 0) 0 := ⟨by rw [s2_k (by decide), f7.1 6 (by decide), s2_k (by decide)]; exact h6, by rw [s2_k (by decide), f7.1 7 (by decide), s2_s], by rw [s2_s], fun j hj => absurd hj (by omega)⟩
        obtain ⟨q1, q2⟩ := ka q _ hM6 hR
        unfold jT2
        rw [e5J]
        refine ⟨5 + nJ D, by omega, rfl, ?_⟩
        rw [if_pos hM6.2.1]
        by_cases k2 : tKin b n (tNx b n p2) = 2
        · rw [if_pos (show _ = (2 : Int32) from (kin_nI (j := 2) hM6.1 (by decide)).mpr k2)]
          exact q1 k2
        · rw [if_neg (show ¬ _ = (2 : Int32) from fun x => k2 ((kin_nI (j := 2) hM6.1 (by decide)).mp x))]
          refine sM_wrong hM6.1.2.2.1 hM6.2.1 ⟨1, ?_⟩
          unfold lM_readJudge_75
          rw [if_neg (by rw [wr_21]; decide)]
          exact judB hJ4 (q2 k2) (hM6.2.2.2.tr (fB.wr _ _ _).U) wr_21 wr_22
      · have hk : nI (tNum b n p2 0 9) ≠ 0 := nI_ne0 (by omega) (by have := tNum_le (b := b) (n := n) (p := p2) (lo := 0) (hi := 9); omega)
        exact jT2_bad hJ4 hk (kf q) (hM8.2.2.2.tr (fB.wr _ _ _).U) wr_21 wr_22
    by_cases q1 : tNum b n p1 0 60 = 0
    · obtain ⟨v1, v2, v3⟩ := tNum_v q1
      have hp2 := t9nx_gt (b := b) (t9kin_2.mp v1).1
      have hp2n := t9nx_le (b := b) hp1n
      generalize ep2 : tNx b n p1 = p2 at mg2 hp2 hp2n
      by_cases q2 : tNum b n p2 0 9 = 0
      · obtain ⟨u1, u2, u3⟩ := tNum_v q2
        have hp3 := t9nx_gt (b := b) (t9kin_2.mp u1).1
        have hp3n := t9nx_le (b := b) hp2n
        generalize ep3 : tNx b n p2 = p3 at mg2 hp3 hp3n
        by_cases k2 : tKin b n p3 = 2
        · rcases routeL (B := B) (r := r) (tx := tx) (ax := ax) (kx := kx) (l := l) (jl := jl) (cl := cl) (vw := vw) (lw := lw) (g := g) (w := w) hA ht hD hJ4 (nI i) (nI (tVl b n p1)) (nI (tVl b n p2)) (n + 1) 0 p3 (fun _ => 0) (by omega) hp3n (by omega) k2 ⟨fun i hi => absurd hi (by omega), fun i hi => absurd hi (by omega)⟩ with ⟨p', k', ts', a1, a2, a3, a4, a5, a6, a7⟩ | ⟨kf, pl, a1, a2, a3, a4, a5⟩
          · refine Or.inl ⟨judD D (nI i) (nI (tVl b n p1)) (nI (tVl b n p2)) ts' k', lw, p', hD.jud hJ4 ?_ ⟨_, rfl, v3⟩ a3 a4 a5, fun q => by rw [judD_nS]; exact hw q, by omega, a2, ?_, ?_⟩
            · rcases (show i = 0 ∨ i = 1 ∨ i = 2 by omega) with q | q | q <;> subst q
              · exact Or.inl rfl
              · exact Or.inr (Or.inl rfl)
              · exact Or.inr (Or.inr rfl)
            · intro post kb xp U z T L V P hU hc k
              refine cgo post kb xp U (30 * (p' - p3)) z T L V P (by omega) hc (cls_judge (p' := p') (k' := k') (ts' := ts') hA ht hD hJ4 hpn hi e hc ep1 ep2 ep3 rfl a3 a4 (fun q => absurd q1 q) (fun _ q => absurd q2 q) (fun _ _ q => absurd k2 q) (fun _ _ _ o b1 z1 T1 L1 V1 P1 ke ho hb hz hx hX hT1 hL1 kk => ?_) (fun _ _ _ z' T' L' V' P' hz hc' => ⟨hc'.2.1.1.1, hc'.2.2.2.2.2.2.1.1, k _ _ _ _ _ _ (by omega) hz hc'⟩))
              exact a6 o b1 p z T L V P _ _ _ ke xp _ z1 T1 L1 V1 P1 (by omega) hc ho hb hx hX hT1 hL1 (fun i hi => absurd hi (by omega)) (fun U' z' T' L' V' P' u1 u2 u3 u4 u5 u6 u7 => kk U' z' T' L' V' P' (by omega) u2 u3 u4 u5 u6 u7)
            · intro sg0 sg post hM k
              refine mgo sg0 sg post hM (fun _ s9 hM9 h69 => ?_) (fun q => absurd q1 q)
              rw [ep2] at hM9
              refine mg2 sg0 s9 post hM9 h69 (fun _ s8 hM8 hR8 => ⟨fun _ => ⟨n + 1, a7 sg0 s8 post _ hM8 hR8 (fun s7 hM7 hR7 => ?_)⟩, fun q => absurd k2 q⟩) (fun q => absurd q2 q)
              obtain ⟨j1, j2, j3, j4, j5⟩ := hM7.2.2.1
              unfold jM_readJudge_186
              refine ⟨5 + nJ D, by omega, rfl, ?_⟩
              have e11 : s2 s7 9 (5 + nJ D) (nI k') 4 11 = nI (nJ D) := by rw [s2_k (by decide)]; exact (j1 4 (by decide)).trans hJ
              rw [e11, nI_1]
              refine k _ ⟨hM7.1.f (by rw [s2_rowN (by decide), s2_rowN (by decide)]) (fun j _ => by rw [s2_k (by decide), s2_k (by decide)]), by rw [s2_k (by decide), s2_k (by decide)]; exact hM7.2.1, ⟨fun q hq => ?_, fun q hq => ?_, fun j hj => ?_, fun c t hc htt => ?_, fun q hq => ?_⟩, (hM7.2.2.2.wj (by omega) (Nat.le_add_right 5 _)).w ⟨by decide, by decide⟩⟩
              · by_cases e4 : q = 4
                · rw [e4, s2_s, judD_44]
                · rw [s2_i (by omega), s2_k (by decide), judD_4 e4]; exact j1 q hq
              · rw [s2_k (by decide), s2_k (by decide), judD_k (k := 5) (by omega)]; exact j2 q hq
              · rw [judD_nJ hJ4] at hj
                obtain ⟨r1, r2, r3, r4⟩ := hR7
                by_cases ej : j = nJ D
                · subst ej
                  refine ⟨by rw [s2_k (by decide), s2_k (by decide), judD_6]; exact r1, by rw [s2_k (by decide), s2_k (by decide), judD_7]; exact r2, by rw [s2_k (by decide), s2_k (by decide), judD_8]; exact r3, by rw [s2_k (by decide), s2_s, judD_9], fun q hq => ?_⟩
                  rw [judD_sn a4] at hq
                  rw [s2_k (by decide), s2_k (by decide), judD_10n]; exact r4 q hq
                · have hj' : j < nJ D := by omega
                  obtain ⟨q1, q2, q3, q4, q5⟩ := j3 j hj'
                  refine ⟨by rw [s2_k (by decide), s2_k (by decide), judD_old hj' (by omega)]; exact q1, by rw [s2_k (by decide), s2_k (by decide), judD_old hj' (by omega)]; exact q2, by rw [s2_k (by decide), s2_k (by decide), judD_old hj' (by omega)]; exact q3, by rw [s2_k (by decide), s2_i (by omega), judD_old hj' (by omega)]; exact q4, fun q hq => ?_⟩
                  rw [judD_st hj'] at hq
                  obtain ⟨-, -, -, s7', -⟩ := hD.1.2.2.2.2.2.1 j hj'
                  rw [s2_k (by decide), s2_k (by decide), judD_10o (by omega)]; exact q5 q hq
              · rw [judD_nC] at hc
                rw [s2_k (by decide), s2_k (by decide), judD_k (k := 11) (by omega)]; exact j4 c t hc htt
              · rw [judD_nS] at hq
                rw [s2_k (by decide), s2_k (by decide), judD_k (k := 12) (by omega)]; exact j5 q hq
          · refine Or.inr ⟨kf, pl, a1, by omega, a3, ?_, ?_⟩
            · intro post kb xp U z T L V P hU hc k
              refine cgo post kb xp U (U - 41) z T L V P (by omega) hc (cls_judge (p' := n + 1) (k' := 1) (ts' := fun _ => 0) hA ht hD hJ4 hpn hi e hc ep1 ep2 ep3 rfl (by decide) (by decide) (fun q => absurd q1 q) (fun _ q => absurd q2 q) (fun _ _ q => absurd k2 q) (fun _ _ _ o b1 z1 T1 L1 V1 P1 ke ho hb hz hx hX hT1 hL1 kk => ?_) (fun _ _ _ z' T' L' V' P' hz hc' => absurd hc'.2.1.2.2.2.1 (by omega)))
              exact a4 o b1 p z T L V P _ _ _ ke xp _ z1 T1 L1 V1 P1 (by omega) hc ho hb hx hX hT1 hL1 (fun i hi => absurd hi (by omega)) (k.m hz)
            · intro sg0 sg post hM k
              refine mgo sg0 sg post hM (fun _ s9 hM9 h69 => ?_) (fun q => absurd q1 q)
              rw [ep2] at hM9
              exact mg2 sg0 s9 post hM9 h69 (fun _ s8 hM8 hR8 => ⟨fun _ => ⟨n + 1, a5 sg0 s8 post _ hM8 hR8 (fun x s7 f7 m7 l7 => judB hJ4 k f7 m7 l7)⟩, fun q => absurd k2 q⟩) (fun q => absurd q2 q)
        · refine Or.inr ⟨1, p3, by decide, by omega, hp3n, ?_, ?_⟩
          · intro post kb xp U z T L V P hU hc k
            exact cgo post kb xp U (U - 41) z T L V P (by omega) hc (cls_judge (p' := n + 1) (k' := 1) (ts' := fun _ => 0) hA ht hD hJ4 hpn hi e hc ep1 ep2 ep3 rfl (by decide) (by decide) (fun q => absurd q1 q) (fun _ q => absurd q2 q) (fun _ _ _ => k) (fun _ _ q => absurd q k2) (fun _ _ q => absurd q k2))
          · intro sg0 sg post hM k
            refine mgo sg0 sg post hM (fun _ s9 hM9 h69 => ?_) (fun q => absurd q1 q)
            rw [ep2] at hM9
            exact mg2 sg0 s9 post hM9 h69 (fun _ s8 hM8 hR8 => ⟨fun q => absurd q k2, fun _ => k⟩) (fun q => absurd q2 q)
      · have hk : nI (tNum b n p2 0 9) ≠ 0 := nI_ne0 (by omega) (by have := tNum_le (b := b) (n := n) (p := p2) (lo := 0) (hi := 9); omega)
        refine Or.inr ⟨nI (tNum b n p2 0 9), p2, hk, by omega, hp2n, ?_, ?_⟩
        · intro post kb xp U z T L V P hU hc k
          exact cgo post kb xp U (U - 41) z T L V P (by omega) hc (cls_judge (p' := n + 1) (k' := 1) (ts' := fun _ => 0) hA ht hD hJ4 hpn hi e hc ep1 ep2 rfl rfl (by decide) (by decide) (fun q => absurd q1 q) (fun _ _ => k) (fun _ q => absurd q q2) (fun _ q => absurd q q2) (fun _ q => absurd q q2))
        · intro sg0 sg post hM k
          refine mgo sg0 sg post hM (fun _ s9 hM9 h69 => ?_) (fun q => absurd q1 q)
          rw [ep2] at hM9
          exact mg2 sg0 s9 post hM9 h69 (fun q => absurd q q2) (fun _ => k)
    · have hk : nI (tNum b n p1 0 60) ≠ 0 := nI_ne0 (by omega) (by have := tNum_le (b := b) (n := n) (p := p1) (lo := 0) (hi := 60); omega)
      refine Or.inr ⟨nI (tNum b n p1 0 60), p1, hk, by omega, hp1n, ?_, ?_⟩
      · intro post kb xp U z T L V P hU hc k
        exact cgo post kb xp U (U - 41) z T L V P (by omega) hc (cls_judge (p' := n + 1) (k' := 1) (ts' := fun _ => 0) hA ht hD hJ4 hpn hi e hc ep1 rfl rfl rfl (by decide) (by decide) (fun _ => k) (fun q => absurd q q1) (fun q => absurd q q1) (fun q => absurd q q1) (fun q => absurd q q1))
      · intro sg0 sg post hM k
        exact mgo sg0 sg post hM (fun q => absurd q q1) (fun _ => k)
end L
