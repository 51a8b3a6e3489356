/-! PURE: a judge at both -/
set_option maxRecDepth 100000
section L
variable {ad b : Nat → Nat} {n : Nat} {B : bsE} {r tx ax kx l jl cl vw : Nat} {D : MS} {lw : (Nat → Int32) → Int32} {g w : Bool} {p z : Nat} {T L : Nat → Nat} {V : w_V} {P : w_P}
/-- the land with a judge -/
def judD (D : MS) (kd dd hh : Int32) (ts : Nat → Int32) (m : Nat) : MS := fun k i => if k = 4 ∧ i = 4 then nI (nJ D + 1) else if k = 6 ∧ i = nJ D then kd else if k = 7 ∧ i = nJ D then dd else if k = 8 ∧ i = nJ D then hh else if k = 9 ∧ i = nJ D then nI m else if k = 10 ∧ 7 * nJ D ≤ i then ts (i - 7 * nJ D) else D k i
section J
variable {kd dd hh : Int32} {ts : Nat → Int32} {m : Nat}
theorem judD_k {k : Nat} (h : k < 4 ∨ k = 5 ∨ 10 < k) : judD D kd dd hh ts m k = D k := by
  funext i
  unfold judD
  rw [if_neg (fun q => by omega), if_neg (fun q => by omega), if_neg (fun q => by omega), if_neg (fun q => by omega), if_neg (fun q => by omega), if_neg (fun q => by omega)]
theorem judD_4 {i : Nat} (h : i ≠ 4) : judD D kd dd hh ts m 4 i = D 4 i := by
  unfold judD
  rw [if_neg (fun q => h q.2), if_neg (fun q => absurd q.1 (by decide)), if_neg (fun q => absurd q.1 (by decide)), if_neg (fun q => absurd q.1 (by decide)), if_neg (fun q => absurd q.1 (by decide)), if_neg (fun q => absurd q.1 (by decide))]
theorem judD_44 : judD D kd dd hh ts m 4 4 = nI (nJ D + 1) := if_pos ⟨rfl, rfl⟩
theorem judD_old {k j : Nat} (hj : j < nJ D) (hk : k = 6 ∨ k = 7 ∨ k = 8 ∨ k = 9) : judD D kd dd hh ts m k j = D k j := by
  unfold judD
  rw [if_neg (fun q => by omega), if_neg (fun q => by omega), if_neg (fun q => by omega), if_neg (fun q => by omega), if_neg (fun q => by omega), if_neg (fun q => by omega)]
theorem judD_6 : judD D kd dd hh ts m 6 (nJ D) = kd := by unfold judD; rw [if_neg (fun q => absurd q.1 (by decide)), if_pos ⟨rfl, rfl⟩]
theorem judD_7 : judD D kd dd hh ts m 7 (nJ D) = dd := by unfold judD; rw [if_neg (fun q => absurd q.1 (by decide)), if_neg (fun q => absurd q.1 (by decide)), if_pos ⟨rfl, rfl⟩]
theorem judD_8 : judD D kd dd hh ts m 8 (nJ D) = hh := by unfold judD; rw [if_neg (fun q => absurd q.1 (by decide)), if_neg (fun q => absurd q.1 (by decide)), if_neg (fun q => absurd q.1 (by decide)), if_pos ⟨rfl, rfl⟩]
theorem judD_9 : judD D kd dd hh ts m 9 (nJ D) = nI m := by unfold judD; rw [if_neg (fun q => absurd q.1 (by decide)), if_neg (fun q => absurd q.1 (by decide)), if_neg (fun q => absurd q.1 (by decide)), if_neg (fun q => absurd q.1 (by decide)), if_pos ⟨rfl, rfl⟩]
theorem judD_10o {i : Nat} (h : i < 7 * nJ D) : judD D kd dd hh ts m 10 i = D 10 i := by
  unfold judD
  rw [if_neg (fun q => absurd q.1 (by decide)), if_neg (fun q => absurd q.1 (by decide)), if_neg (fun q => absurd q.1 (by decide)), if_neg (fun q => absurd q.1 (by decide)), if_neg (fun q => absurd q.1 (by decide)), if_neg (fun q => by omega)]
theorem judD_10n {i : Nat} : judD D kd dd hh ts m 10 (7 * nJ D + i) = ts i := by
  unfold judD
  rw [if_neg (fun q => absurd q.1 (by decide)), if_neg (fun q => absurd q.1 (by decide)), if_neg (fun q => absurd q.1 (by decide)), if_neg (fun q => absurd q.1 (by decide)), if_neg (fun q => absurd q.1 (by decide)), if_pos ⟨rfl, by omega⟩, Nat.add_sub_cancel_left]
theorem judD_nT : nT (judD D kd dd hh ts m) = nT D := by show tn (judD D kd dd hh ts m 4 0) = tn (D 4 0); rw [judD_4 (by decide)]
theorem judD_nJ (h : nJ D < 5) : nJ (judD D kd dd hh ts m) = nJ D + 1 := by show tn (judD D kd dd hh ts m 4 4) = _; rw [judD_44]; exact tn_nI (by omega)
theorem judD_nC : nC (judD D kd dd hh ts m) = nC D := by show tn (judD D kd dd hh ts m 4 5) = tn (D 4 5); rw [judD_4 (by decide)]
theorem judD_nS : nS (judD D kd dd hh ts m) = nS D := by show tn (judD D kd dd hh ts m 4 6) = tn (D 4 6); rw [judD_4 (by decide)]
theorem judD_st {j : Nat} (h : j < nJ D) : stp (judD D kd dd hh ts m) j = stp D j := by show tn (judD D kd dd hh ts m 9 j) = tn (D 9 j); rw [judD_old h (by omega)]
theorem judD_sn (hm : m ≤ 7) : stp (judD D kd dd hh ts m) (nJ D) = m := by show tn (judD D kd dd hh ts m 9 (nJ D)) = m; rw [judD_9]; exact tn_nI (by omega)
theorem DOk.jud (h : DOk D) (hJ5 : nJ D < 5) (hk : kd = 0 ∨ kd = 1 ∨ kd = 2) (hd : ∃ x, dd = nI x ∧ x ≤ 60) (h1 : 1 ≤ m) (h7 : m ≤ 7) (hr : rtOk D ts m) : DOk (judD D kd dd hh ts m) := by
  obtain ⟨⟨⟨a1, a2⟩, ⟨a3, a4⟩, ⟨a5, a6⟩, ⟨a7, a8⟩, a9, a10, a11⟩, b1, b2', a12⟩ := h
  refine ⟨⟨⟨by rw [judD_nT, judD_4 (by decide)]; exact a1, by rw [judD_nT]; exact a2⟩, ⟨by rw [judD_nJ hJ5, judD_44], by rw [judD_nJ hJ5]; omega⟩, ⟨by rw [judD_nC, judD_4 (by decide)]; exact a5, by rw [judD_nC]; exact a6⟩, ⟨by rw [judD_nS, judD_4 (by decide)]; exact a7, by rw [judD_nS]; exact a8⟩, by rw [judD_4 (by decide)]; exact a9, fun j hj => ?_, fun x y hx hy => by rw [judD_k (k := 5) (by omega)]; exact a11 x y hx hy⟩, by rw [judD_4 (by decide)]; exact b1, by rw [judD_4 (by decide)]; exact b2', fun j hj => ?_⟩
  · rw [judD_nJ hJ5] at hj
    rw [judD_nT, judD_k (k := 5) (by omega)]
    by_cases e : j = nJ D
    · subst e
      rw [judD_6, judD_9, judD_sn h7]
      refine ⟨hk, rfl, h1, h7, fun i hi => ?_, fun i hi => ?_⟩
      · rw [judD_10n]; exact hr.1 i hi
      · rw [judD_10n, judD_10n]; exact hr.2 i hi
    · have hj' : j < nJ D := by omega
      obtain ⟨q1, q2, q3, q4, q5, q6⟩ := a10 j hj'
      rw [judD_old hj' (by omega), judD_old hj' (by omega), judD_st hj']
      refine ⟨q1, q2, q3, q4, fun i hi => ?_, fun i hi => ?_⟩
      · rw [judD_10o (by omega)]; exact q5 i hi
      · rw [judD_10o (by omega), judD_10o (by omega)]; exact q6 i hi
  · rw [judD_nJ hJ5] at hj
    by_cases e : j = nJ D
    · subst e
      rw [judD_7]; exact hd
    · rw [judD_old (by omega) (by omega)]; exact a12 j (by omega)
/-- the judge made is put into the land -/
theorem CL.jud {U oJ q : Nat} (hD : DOk D) (hc : CL ad b n B r tx ax kx l jl cl vw D lw g w p z T L V P) (hJ5 : nJ D < 5) (hk : (kd = 0 ∧ T oJ = 13) ∨ (kd = 1 ∧ T oJ = 14) ∨ (kd = 2 ∧ T oJ = 15)) (h7 : m ≤ 7) (hd : V oJ 0 0 = dd) (hh' : V oJ 0 1 = hh) (hq : P oJ 2 = some q) (hqT : T q = 1000) (hqL : L q = m) (hqV : ∀ i, i < m → V q 0 i = ts i) (hU : 4 ≤ U) {post : Nat → (Nat → Nat) → (Nat → Nat) → w_V → w_P → Prop} {xp : w_Xp} (k : ∀ (z' : Nat) (T' L' : Nat → Nat) (V' : w_V) (P' : w_P), z ≤ z' → CL ad b n B r tx ax kx l jl cl vw (judD D kd dd hh ts m) lw g w p z' T' L' V' P' → post z' T' L' V' P') : jFX9_judge_224 ad U z T L V P oJ jl post xp := by
  obtain ⟨h1, h2, h3, h4, h5, h6, ⟨h7', h8, h8b, h8c, h8d⟩, h9, ⟨h10, h11⟩, h12, ja, ca, i1, i2, i3, i4, i5, ⟨i6a, i6b⟩, i7⟩ := hc
  have hoT : oT T oJ := by rcases hk with ⟨-, q⟩ | ⟨-, q⟩ | ⟨-, q⟩; exact Or.inr (Or.inl q); exact Or.inr (Or.inr (Or.inl q)); exact Or.inr (Or.inr (Or.inr (Or.inl q)))
  have hoJ : ∃ t, T oJ = t ∧ t ≠ 0 ∧ t ≠ 16 ∧ t ≠ 2004 := by rcases hk with ⟨-, q⟩ | ⟨-, q⟩ | ⟨-, q⟩ <;> exact ⟨_, q, by decide, by decide, by decide⟩
  unfold jFX9_judge_224
  refine ⟨U, 0, rfl, sX_add h1 i4.2.1 (by omega) i6b i6a hoT (fun i hi => ?_) hU (fun z7 T7 L7 V7 P7 ja' y1 y2 y3 y4 y5 y6 y7 y8 y9 => ?_)⟩
  · obtain ⟨a, b1, ⟨b2', -⟩, -⟩ := i4.2.2 i hi
    refine ⟨a, b1, ?_⟩
    rcases b2' with ⟨-, q⟩ | ⟨-, q⟩ | ⟨-, q⟩
    · exact Or.inr (Or.inl q)
    · exact Or.inr (Or.inr (Or.inl q))
    · exact Or.inr (Or.inr (Or.inr (Or.inl q)))
  · have nX : ∀ a t, T a = t → t ≠ 16 → t ≠ 2004 → ¬ (a = jl ∨ a = ja) := fun a t e q1 q2 q => by
      rcases q with q | q
      · rw [q, i4.2.1.1] at e; exact q1 e.symm
      · rw [q, i4.2.1.2.2.2.1] at e; exact q2 e.symm
    have st : ∀ a t, T a = t → t ≠ 0 → t ≠ 16 → t ≠ 2004 → T7 a = t ∧ L7 a = L a ∧ V7 a = V a ∧ P7 a = P a := fun a t e q0 q1 q2 => by
      obtain ⟨x1, x2, x3⟩ := y3 a (by rw [e]; exact q0)
      exact ⟨x1.trans e, x2, (x3 (nX a t e q1 q2)).1, (x3 (nX a t e q1 q2)).2⟩
    obtain ⟨w1, w2, w3, w4⟩ := st r 8 h2.1.1 (by decide) (by decide) (by decide)
    obtain ⟨l1, l2, l3, l4⟩ := st l 3 h7' (by decide) (by decide) (by decide)
    obtain ⟨q1, q2, q3, q4⟩ := st q 1000 hqT (by decide) (by decide) (by decide)
    obtain ⟨tJ, tJ1, tJ2, tJ3, tJ4⟩ := hoJ
    obtain ⟨o1, o2, o3, o4⟩ := st oJ tJ tJ1 tJ2 tJ3 tJ4
    have bja : B.1 ja' = 0 := by
      rcases y4 with q | q
      · rw [q]; exact i1
      · cases e : B.1 ja' with
        | zero => rfl
        | succ m => have := (h3 ja' (by rw [e]; omega)).1; rw [q, e] at this; cases this
    have nja : ja' ≠ ca := fun e => by
      rcases y4 with q | q
      · exact i3 (q.symm.trans e)
      · have := i5.2.1.2.2.2.1; rw [← e, q] at this; cases this
    refine k z7 T7 L7 V7 P7 y2 ⟨y1, ?_, xt.kf h3 y3 (fun a q => by rcases q with q | q; rw [q]; exact h4.2.2.1; rw [q]; exact i1), h4, h5, by rw [w3]; exact h6, ⟨l1, by rw [l3, judD_4 (by decide)]; exact h8, by rw [l3, judD_4 (by decide)]; exact h8b, by rw [l3, judD_4 (by decide)]; exact h8c, by rw [l3, judD_4 (by decide)]; exact h8d⟩, fun k hk => by rw [l3, judD_k (k := 5) (by omega)]; exact h9 k hk, ⟨by rw [l4]; exact h10, (st vw 4 h11 (by decide) (by decide) (by decide)).1⟩, ?_, ja', ca, bja, i2, nja, ⟨by rw [l4]; exact i4.1, by rw [judD_nJ hJ5]; exact y5, fun c hc9 => ?_⟩, ?_, ⟨y6, y7⟩, ?_⟩
    · exact h2.x (fun a ha => by
        have : ∃ t, T a = t ∧ t ≠ 0 ∧ t ≠ 16 ∧ t ≠ 2004 := by rcases ha with q | q | q | q <;> exact ⟨_, q, by decide, by decide, by decide⟩
        obtain ⟨t, t1, t2, t3, t4⟩ := this
        obtain ⟨x1, x2, x3, x4⟩ := st a t t1 t2 t3 t4
        exact ⟨x1.trans t1.symm, x2, x3, x4⟩)
    · rw [l4]
      exact (h12.k y3 (fun a ha q => by unfold eT at ha; rcases ha with e | e | e | e <;> exact nX a _ e (by decide) (by decide) q)).rows judD_nS (fun i _ => by rw [judD_k (k := 12) (by omega)])
    · rw [judD_nJ hJ5] at hc9
      by_cases ec : c = nJ D
      · subst ec
        refine ⟨oJ, y9, ⟨?_, by rw [o3, judD_8]; exact hh', q, by rw [o4]; exact hq, q1, by rw [q2, judD_sn h7]; exact hqL, fun i hi => ?_⟩, by rw [o3, judD_7]; exact hd⟩
        · rw [judD_6, o1, ← tJ1]; exact hk
        · rw [judD_sn h7] at hi
          rw [q3, judD_10n]; exact hqV i hi
      · have hc' : c < nJ D := by omega
        obtain ⟨a, b1, b2', b3⟩ := i4.2.2 c hc'
        have haT : T a = 13 ∨ T a = 14 ∨ T a = 15 ∨ T a = 1000 := by rcases b2'.1 with ⟨-, q⟩ | ⟨-, q⟩ | ⟨-, q⟩; exact Or.inl q; exact Or.inr (Or.inl q); exact Or.inr (Or.inr (Or.inl q))
        have hb3 : V7 a 0 0 = D 7 c := by
          have : ∃ t, T a = t ∧ t ≠ 0 ∧ t ≠ 16 ∧ t ≠ 2004 := by rcases haT with q | q | q | q <;> exact ⟨_, q, by decide, by decide, by decide⟩
          obtain ⟨t, t1, t2, t3, t4⟩ := this
          rw [(st a t t1 t2 t3 t4).2.2.1]; exact b3
        obtain ⟨g1, g2, r', g3, g4, g5, g6⟩ := b2'.k y3 (fun a ha q => by rcases ha with e | e | e | e <;> exact nX a _ e (by decide) (by decide) q)
        exact ⟨a, by rw [y8 c hc']; exact b1, ⟨by rw [judD_old hc' (by omega)]; exact g1, by rw [judD_old hc' (by omega)]; exact g2, r', g3, g4, by rw [judD_st hc']; exact g5, fun i hi => by
          rw [judD_st hc'] at hi
          have := g6 i hi
          obtain ⟨-, -, -, s7, -⟩ := hD.1.2.2.2.2.2.1 c hc'
          rw [this, judD_10o (by omega)]⟩, by rw [judD_old hc' (by omega)]; exact hb3⟩
    · exact (i5.k y3 (by rw [l4]) (fun q => by rcases q with q | q; exact h5 q.symm; have := i5.2.1.1; rw [q, i4.2.1.2.2.2.1] at this; cases this) (fun q => by rcases q with q | q; have := i5.2.1.2.2.2.1; rw [q, i4.2.1.1] at this; cases this; exact i3 q.symm) (fun a ha q => nX a _ ha (by decide) (by decide) q)).rows judD_nC (fun c t _ _ => by rw [judD_k (k := 11) (by omega)])
    · rw [(y3 ca (ne0 i5.2.1.2.2.2.1)).2.1]; exact i7
end J
def jws : List (List Nat) := [[106, 117, 100, 103, 101], [100, 101, 97, 102], [119, 105, 115, 101]]
theorem ML.wj {sg0 sg : MS} {k i : Nat} {x : Int32} (h : ML b n sg0 D p sg) (hJ5 : nJ D < 5) (hk : k = 6 ∨ k = 7 ∨ k = 8 ∨ k = 9) (hi : i = 5 + nJ D) : ML b n sg0 D p (s2 sg k i x) := by
  obtain ⟨h1, h2, ⟨j1, j2, j3, j4, j5⟩, h4⟩ := h
  subst hi
  refine ⟨h1.f (by rw [s2_rowN (by omega)]) (fun j _ => by rw [s2_k (by omega)]), by rw [s2_k (by omega)]; exact h2, ⟨fun i hi => by rw [s2_k (by omega)]; exact j1 i hi, fun i hi => by rw [s2_k (by omega)]; exact j2 i hi, fun j hj => ?_, fun c t hc htt => by rw [s2_k (by omega)]; exact j4 c t hc htt, fun i hi => by rw [s2_k (by omega)]; exact j5 i hi⟩, h4.w ⟨by rcases hk with q | q | q | q <;> (rw [q]; decide), by rcases hk with q | q | q | q <;> (rw [q]; exact Nat.le_add_right 5 _)⟩⟩
  have ne : ∀ k', s2 sg k (5 + nJ D) x k' (5 + j) = sg k' (5 + j) := fun k' => s2_i (by omega)
  rw [ne, ne, ne, ne, s2_rowN (a := 10) (by omega)]
  exact j3 j hj
theorem fU.wj {sg0 sg : MS} {k i : Nat} {x : Int32} (h : fU sg0 sg) (hk : k = 6 ∨ k = 7 ∨ k = 8 ∨ k = 9) (hi : 5 ≤ i) : fU sg0 (s2 sg k i x) := h.w ⟨by rcases hk with q | q | q | q <;> (rw [q]; decide), by rcases hk with q | q | q | q <;> (rw [q]; exact hi)⟩
/-- the model's end of a judge, it being bad -/
theorem judB {sg0 : MS} {post : MS → Prop} {kf : Int32} {pl : Nat} (hJ5 : nJ D < 5) (k : ∀ s9, fU sg0 s9 → s9 0 21 = kf → s9 0 22 = nI pl → post s9) {x : Int32} {s : MS} (hs : fU sg0 s) (h1 : s 0 21 = kf) (h2 : s 0 22 = nI pl) : jM_readJudge_186 s (nI (5 + nJ D)) x post := by
  unfold jM_readJudge_186
  refine ⟨5 + nJ D, by omega, rfl, k _ ((hs.wj (by omega) (Nat.le_add_right 5 _)).w ⟨by decide, by decide⟩) ?_ ?_⟩
  · rw [s2_k (by decide), s2_k (by decide)]; exact h1
  · rw [s2_k (by decide), s2_k (by decide)]; exact h2
/-- the class's reading of a judge, its route's being given -/
theorem cls_judge (hA : hAd ad) (ht : tOk b n) (hD : DOk D) (hJ5 : nJ D < 5) (hp : p < n) {i : Nat} (hi : i < 3) (e : tIs b n p (jws.getD i []) = true) (hc : CL ad b n B r tx ax kx l jl cl vw D lw g w p z T L V P) {U c p1 p2 p3 p' k' : Nat} {ts' : Nat → Int32} (ep1 : tNx b n p = p1) (ep2 : tNx b n p1 = p2) (ep3 : tNx b n p2 = p3) (hU : U = 35 + (c + 6)) (h1 : 1 ≤ k') (h7 : k' ≤ 7) {post : Nat → (Nat → Nat) → (Nat → Nat) → w_V → w_P → Prop} {xp : w_Xp}
    (f1 : tNum b n p1 0 60 ≠ 0 → xfL B xp z (nI (tNum b n p1 0 60)) p1) (f2 : tNum b n p1 0 60 = 0 → tNum b n p2 0 9 ≠ 0 → xfL B xp z (nI (tNum b n p2 0 9)) p2) (f3 : tNum b n p1 0 60 = 0 → tNum b n p2 0 9 = 0 → tKin b n p3 ≠ 2 → xfL B xp z 1 p3)
    (hl : tNum b n p1 0 60 = 0 → tNum b n p2 0 9 = 0 → tKin b n p3 = 2 → ∀ (o b1 z1 : Nat) (T1 L1 : Nat → Nat) (V1 : w_V) (P1 : w_P) (ke : Nat → Nat → (Nat → Nat) → (Nat → Nat) → w_V → w_P → Int32 → Prop), T o = 0 → T b1 = 18 → z ≤ z1 → xr r z T L V P z1 T1 L1 V1 P1 → rdX ad b n T1 L1 V1 P1 r tx ax kx p3 → T1 o = 1000 → L1 o = 7 → (∀ (U' z' : Nat) (T' L' : Nat → Nat) (V' : w_V) (P' : w_P), 6 ≤ U' → z1 ≤ z' → xr r z T L V P z' T' L' V' P' → rdX ad b n T' L' V' P' r tx ax kx p' → T' o = 1000 → L' o = 7 → (∀ i, i < k' → V' o 0 i = ts' i) → ke U' z' T' L' V' P' (nI k')) → lFX9_judge_35 ad r l b1 (nI (tVl b n p1)) (nI (tVl b n p2)) o o 0 7 post xp ke (n + 1) (c + 6) z1 T1 L1 V1 P1 0)
    (k : tNum b n p1 0 60 = 0 → tNum b n p2 0 9 = 0 → tKin b n p3 = 2 → ∀ (z' : Nat) (T' L' : Nat → Nat) (V' : w_V) (P' : w_P), z ≤ z' → CL ad b n B r tx ax kx l jl cl vw (judD D (nI i) (nI (tVl b n p1)) (nI (tVl b n p2)) ts' k') lw g w p' z' T' L' V' P' → post z' T' L' V' P') : wFX9_judge ad U z T L V P r l post xp := by
  have hrS : T r ≠ 0 := ne0 hc.2.1.1.1
  have k1 : tKin b n p = 1 := by
    rcases (show i = 0 ∨ i = 1 ∨ i = 2 by omega) with q | q | q <;> subst q <;> exact ((t9tis_wd (by decide)).mp e).1
  have hwd : (tWrd b n p).take 7 = jws.getD i [] := by
    rw [(t9tis_iff.mp e).2]
    rcases (show i = 0 ∨ i = 1 ∨ i = 2 by omega) with q | q | q <;> subst q <;> rfl
  obtain ⟨b1, w1, w2⟩ := hc.2.1.2.2.2.2.2.1 (Or.inl k1)
  rw [hwd] at w2
  -- facts at a later state
  have fct : ∀ {z' : Nat} {T' L' : Nat → Nat} {V' : w_V} {P' : w_P}, xr r z T L V P z' T' L' V' P' → T' r = 8 ∧ T' l = 3 ∧ T' b1 = 18 ∧ T' jl = 16 ∧ P' l 6 = some jl ∧ strX T' L' V' P' b1 (jws.getD i []) := fun {z' T' L' V' P'} hx => by
    have hr : T r = 8 := hc.2.1.1.1
    obtain ⟨-, -, -, -, -, -, ⟨h7', -⟩, -, -, -, ja, ca, -, -, -, i4, -⟩ := hc
    have nr : ∀ a t, T a = t → t ≠ 8 → a ≠ r := fun a t e q q2 => q (by rw [← e, q2]; exact hr)
    refine ⟨(hx.2.2.1 r hrS).1.trans hr, (hx.2.2.1 l (ne0 h7')).1.trans h7', (hx.2.2.1 b1 (ne0 w2.1)).1.trans w2.1, (hx.2.2.1 jl (ne0 i4.2.1.1)).1.trans i4.2.1.1, ?_, w2.x (fun a ha => ?_)⟩
    · rw [((hx.2.2.1 l (ne0 h7')).2.2 (nr l 3 h7' (by decide))).2]; exact i4.1
    · have ha0 : T a ≠ 0 ∧ a ≠ r := by rcases ha with q | q; exact ⟨ne0 q, nr a 18 q (by decide)⟩; exact ⟨ne0 q, nr a 1001 q (by decide)⟩
      exact ⟨(hx.2.2.1 a ha0.1).1, (hx.2.2.1 a ha0.1).2.1, (hx.2.2.1 a ha0.1).2.2 ha0.2⟩
  have hw1 : P r 7 = some b1 := w1
  unfold wFX9_judge
  refine ⟨b1, w1, w2.1, 10, U - 10, by omega, sX_goX hA ht hc.1 hc.2.1 (Nat.le_refl _) (fun z1 T1 L1 V1 P1 g1 g2 => ?_)⟩
  rw [ep1] at g2
  obtain ⟨t1, t2, t3, -⟩ := fct g1
  refine ⟨t1, t2, t3, 12, U - 22, by omega, sX_number (lo := 0) (hi := 60) hA ht g1.1 g2 (by decide) (by decide) (Nat.le_refl _) (fun q1 => ?_) (fun q1 => ((f1 q1).c hc).m g1)⟩
  intro z2 T2 L2 V2 P2 x2 y2
  rw [ep2] at y2
  have x2' := g1.tr x2
  obtain ⟨t1, t2, t3, -⟩ := fct x2'
  refine ⟨t1, t2, t3, 12, U - 34, by omega, sX_number (lo := 0) (hi := 9) hA ht x2.1 y2 (by decide) (by decide) (Nat.le_refl _) (fun q2 => ?_) (fun q2 => ((f2 q1 q2).c hc).m x2')⟩
  intro z3 T3 L3 V3 P3 x3 y3
  rw [ep3] at y3
  have x3' := x2'.tr x3
  obtain ⟨t1, t2, t3, -⟩ := fct x3'
  refine ⟨t1, t2, t3, c + 6, by omega, ?_⟩
  intro o z4 T4 L4 V4 P4 hnw
  have hr3 : T3 r ≠ 0 := by rw [t1]; decide
  obtain ⟨o0, o2, o3, o4, o5, o6, o7, -⟩ := xr.nw (r := r) x3.1 hnw hr3
  have x4' := x3'.tr o0
  have y4 : rdX ad b n T4 L4 V4 P4 r tx ax kx p3 := y3.x (fun a ha => o7 a (by rcases ha with q | q | q | q <;> (rw [q]; decide)))
  have hoS : T o = 0 := by
    cases e : T o with
    | zero => rfl
    | succ m => have := (x3'.2.2.1 o (by rw [e]; omega)).1; rw [o2, e] at this; cases this
  obtain ⟨t1, t2, t3, -⟩ := fct x4'
  refine ⟨t1, t2, t3, n + 1, ?_⟩
  by_cases k2 : tKin b n p3 = 2
  · refine hl q1 q2 k2 o b1 z4 T4 L4 V4 P4 _ hoS w2.1 x4'.2.1 x4' y4 o3 o4 (fun U5 z5 T5 L5 V5 P5 hU5 hz5 x5 y5 ho5 hL5 hts => ?_)
    obtain ⟨t1, t2, t3, -⟩ := fct x5
    refine ⟨k', 1, U5 - 1, rfl, by omega, Nat.le_refl _, by omega, by omega, ?_⟩
    intro o7' z6 T6 L6 V6 P6 hnw6
    have hr5 : T5 r ≠ 0 := by rw [t1]; decide
    obtain ⟨a0, a2, a3, a4, a5, a6, a7, -⟩ := xr.nw (r := r) x5.1 hnw6 hr5
    have x6' := x5.tr a0
    have ho7S : T o7' = 0 := by
      cases e : T o7' with
      | zero => rfl
      | succ m => have := (x5.2.2.1 o7' (by rw [e]; omega)).1; rw [a2, e] at this; cases this
    have noo : o ≠ o7' := fun e => by rw [e, a2] at ho5; cases ho5
    obtain ⟨c1, c2, c3, c4⟩ := a7 o (by rw [ho5]; decide)
    obtain ⟨t1, t2, t3, t4, t5, -⟩ := fct x6'
    refine ⟨t2, t3, hArr_o (c1.trans ho5) (c2.trans hL5), 0, 0, k', rfl, rfl, rfl, by omega, by omega, fun _ _ => rfl, fun V7 e7 => ⟨jl, t5, t4, fun s150 hs150 => ?_⟩⟩
    have hV7 : ∀ a, a ≠ o7' → V7 a = V6 a := fun a ha => by rw [e7, up1_n ha]
    have x7' : xr r z T L V P z6 T6 L6 V7 P6 := x6'.put ho7S hrS (fun a ha => ⟨hV7 a ha, rfl⟩)
    have y6 : rdX ad b n T6 L6 V6 P6 r tx ax kx p' := y5.x (fun a ha => a7 a (by rcases ha with q | q | q | q <;> (rw [q]; decide)))
    have y7 : rdX ad b n T6 L6 V7 P6 r tx ax kx p' := y6.x (fun a ha => ⟨rfl, rfl, hV7 a (fun e => by rw [e, a3] at ha; rcases ha with q | q | q | q <;> cases q), rfl⟩)
    have v7 : ∀ i, i < k' → V7 o7' 0 i = ts' i := fun i hi => by
      rw [e7, up1_s, up1_s, sb_cpy0 hi, c3]
      exact hts i hi
    obtain ⟨t1, t2, t3, t4, t5, t6⟩ := fct x7'
    have h7L : L6 o7' = k' := a4
    -- the judge is made
    have mk : ∀ (kt : Nat) (oJ z8 : Nat) (T8 L8 : Nat → Nat) (V8 : w_V) (P8 : w_P) (V9 V10 : w_V) (P11 : w_P), ((i = 0 ∧ kt = 13) ∨ (i = 1 ∧ kt = 14) ∨ (i = 2 ∧ kt = 15)) → nwH oJ z6 T6 L6 V7 P6 kt 0 z8 T8 L8 V8 P8 → V9 = up3 V8 oJ 0 0 (nI (tVl b n p1)) → V10 = up3 V9 oJ 0 1 (nI (tVl b n p2)) → P11 = up2 P8 oJ 2 (some o7') → T8 oJ = kt ∧ T8 jl = 16 ∧ hArr T8 L8 o7' o7' 0 k' 0 ∧ ∀ U', 4 ≤ U' → jFX9_judge_224 ad U' z8 T8 L8 V10 P11 oJ jl post xp := by
      intro kt oJ z8 T8 L8 V8 P8 V9 V10 P11 hkt hnw8 e9 e10 e11
      have hr6 : T6 r ≠ 0 := by rw [t1]; decide
      obtain ⟨m0, m2, m3, m4, m5, m6, m7, -⟩ := xr.nw (r := r) x7'.1 hnw8 hr6
      have hoJS : T oJ = 0 := by
        cases e : T oJ with
        | zero => rfl
        | succ m => have := (x7'.2.2.1 oJ (by rw [e]; omega)).1; rw [m2, e] at this; cases this
      have hn : ∀ a, a ≠ oJ → V10 a = V8 a ∧ P11 a = P8 a := fun a ha => ⟨by rw [e10, up3_n ha, e9, up3_n ha], by rw [e11]; exact up2_n ha⟩
      have x8 : xr r z T L V P z8 T8 L8 V10 P11 := (x7'.tr m0).put hoJS hrS hn
      have y8 : rdX ad b n T8 L8 V8 P8 r tx ax kx p' := y7.x (fun a ha => m7 a (by rcases ha with q | q | q | q <;> (rw [q]; decide)))
      have hkT : kt = 13 ∨ kt = 14 ∨ kt = 15 := by rcases hkt with ⟨-, q⟩ | ⟨-, q⟩ | ⟨-, q⟩ <;> omega
      have y9 : rdX ad b n T8 L8 V10 P11 r tx ax kx p' := y8.x (fun a ha => by
        have : a ≠ oJ := fun e => by rw [e, m3] at ha; omega
        exact ⟨rfl, rfl, (hn a this).1, (hn a this).2⟩)
      have hc8 := hc.x x8 y9
      obtain ⟨n1, n2, n3, n4⟩ := m7 o7' (by rw [a3]; decide)
      have n7 : o7' ≠ oJ := fun e => by rw [e, m2] at a3; cases a3
      obtain ⟨j1, -⟩ := m7 jl (by rw [t4]; decide)
      refine ⟨m3, j1.trans t4, hArr_o (n1.trans a3) (n2.trans h7L), fun U' hU' => ?_⟩
      have hP : P11 oJ 2 = some o7' := by rw [e11, up2_a, if_pos rfl]
      refine CL.jud (q := o7') (kd := nI i) (dd := nI (tVl b n p1)) (hh := nI (tVl b n p2)) (ts := ts') (m := k') hD hc8 hJ5 ?_ h7 ?_ ?_ hP (n1.trans a3) (n2.trans h7L) (fun q hq => ?_) hU' (fun z' T' L' V' P' hz' hc' => k q1 q2 k2 z' T' L' V' P' (Nat.le_trans x8.2.1 hz') hc')
      · rcases hkt with ⟨rfl, rfl⟩ | ⟨rfl, rfl⟩ | ⟨rfl, rfl⟩
        · exact Or.inl ⟨rfl, m3⟩
        · exact Or.inr (Or.inl ⟨rfl, m3⟩)
        · exact Or.inr (Or.inr ⟨rfl, m3⟩)
      · rw [e10, up3_a, s2_i (by decide), e9, up3_a, s2_s]
      · rw [e10, up3_a, s2_s]
      · rw [(hn o7' n7).1, n3]; exact v7 q hq
    have hws : ∀ i, i < 3 → ∀ c ∈ jws.getD i [], c < 256 := by decide
    have hwl : ∀ i, i < 3 → (jws.getD i []).length < 1000 := by decide
    refine sX_eqv t6 hs150 (hws i hi) (by decide) (hwl i hi) (by decide) ?_
    rcases (show i = 0 ∨ i = 1 ∨ i = 2 by omega) with q | q | q
    · subst q
      rw [show decide (jws.getD 0 [] = [100, 101, 97, 102]) = false by decide, if_pos (show b2 false = 0 from rfl)]
      intro s155 hs155
      refine sX_eqv t6 hs155 (hws 0 hi) (by decide) (hwl 0 hi) (by decide) ?_
      rw [show decide (jws.getD 0 [] = [119, 105, 115, 101]) = false by decide, if_pos (show b2 false = 0 from rfl)]
      refine ⟨U5 - 2, by omega, ?_⟩
      intro oJ z8 T8 L8 V8 P8 hnw8
      obtain ⟨-, u2, u3, -⟩ := mk 13 oJ z8 T8 L8 V8 P8 _ _ _ (Or.inl ⟨rfl, rfl⟩) hnw8 rfl rfl rfl
      refine ⟨u2, u3, 0, U5 - 2, (Nat.zero_add _).symm, ?_⟩
      unfold wFX16_init
      intro V9 e9 V10 e10 P11 e11
      obtain ⟨u1, u2, u3, u4⟩ := mk 13 oJ z8 T8 L8 V8 P8 V9 V10 P11 (Or.inl ⟨rfl, rfl⟩) hnw8 e9 e10 e11
      exact ⟨u1, u2, u4 _ (by omega)⟩
    · subst q
      rw [show decide (jws.getD 1 [] = [100, 101, 97, 102]) = true by decide, if_neg (show ¬ b2 true = 0 by decide)]
      refine ⟨U5 - 2, by omega, ?_⟩
      intro oJ z8 T8 L8 V8 P8 hnw8
      obtain ⟨-, u2, u3, -⟩ := mk 14 oJ z8 T8 L8 V8 P8 _ _ _ (Or.inr (Or.inl ⟨rfl, rfl⟩)) hnw8 rfl rfl rfl
      refine ⟨u2, u3, 0, U5 - 2, (Nat.zero_add _).symm, ?_⟩
      unfold wFX17_init
      refine ⟨0, 0, rfl, ?_⟩
      unfold wFX16_init
      intro V9 e9 V10 e10 P11 e11
      obtain ⟨u1, u2, u3, u4⟩ := mk 14 oJ z8 T8 L8 V8 P8 V9 V10 P11 (Or.inr (Or.inl ⟨rfl, rfl⟩)) hnw8 e9 e10 e11
      exact ⟨u1, u2, u4 _ (by omega)⟩
    · subst q
      rw [show decide (jws.getD 2 [] = [100, 101, 97, 102]) = false by decide, if_pos (show b2 false = 0 from rfl)]
      intro s155 hs155
      refine sX_eqv t6 hs155 (hws 2 hi) (by decide) (hwl 2 hi) (by decide) ?_
      rw [show decide (jws.getD 2 [] = [119, 105, 115, 101]) = true by decide, if_neg (show ¬ b2 true = 0 by decide)]
      refine ⟨U5 - 2, by omega, ?_⟩
      intro oJ z8 T8 L8 V8 P8 hnw8
      obtain ⟨-, u2, u3, -⟩ := mk 15 oJ z8 T8 L8 V8 P8 _ _ _ (Or.inr (Or.inr ⟨rfl, rfl⟩)) hnw8 rfl rfl rfl
      refine ⟨u2, u3, 0, U5 - 2, (Nat.zero_add _).symm, ?_⟩
      unfold wFX18_init
      refine ⟨0, 0, rfl, ?_⟩
      unfold wFX16_init
      intro V9 e9 V10 e10 P11 e11
      obtain ⟨u1, u2, u3, u4⟩ := mk 15 oJ z8 T8 L8 V8 P8 V9 V10 P11 (Or.inr (Or.inr ⟨rfl, rfl⟩)) hnw8 e9 e10 e11
      exact ⟨u1, u2, u4 _ (by omega)⟩
  · unfold lFX9_judge_35
    refine ⟨_, y4.2.2.2.2.1, ?_⟩
    rw [if_neg (show ¬ ad (srt (tKin b n p3)) = ad 6 from fun e => k2 ((srt_iff (j := 2) hA t9kin_lt (by decide)).mp e))]
    unfold jFX9_judge_51
    exact ⟨c + 6, 0, rfl, sX_check0 x4'.1 y4 (by omega) (((f3 q1 q2 k2).c hc).m x4')⟩
end L
