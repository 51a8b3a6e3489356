/-! PURE: gossip, law at both; a statement's end -/
set_option maxRecDepth 100000
section L
variable {ad b : Nat → Nat} {n : Nat} {B : bsE} {r tx ax kx l jl cl vw : Nat} {D : MS} {lw : (Nat → Int32) → Int32} {g w : Bool} {p z : Nat} {T L : Nat → Nat} {V : w_V} {P : w_P}
/-- a flag of the reader's is set -/
theorem CL.has {V' : w_V} {i : Nat} {g' w' : Bool} (h : CL ad b n B r tx ax kx l jl cl vw D lw g w p z T L V P) (hV : V' = up3 V r 9 i 1) (hi : (i = 0 ∧ g' = true ∧ w' = w) ∨ (i = 1 ∧ g' = g ∧ w' = true)) : CL ad b n B r tx ax kx l jl cl vw D lw g' w' p z T L V' P := by
  obtain ⟨h1, h2, h3, h4, h5, ⟨h6, h6'⟩, ⟨h7, h8⟩, h9, h10, h12, ja, ca, i1, i2, i3, i4, i5, i6, i7⟩ := h
  have hr : T r = 8 := h2.1.1
  have nk : ∀ a t, T a = t → t ≠ 8 → a ≠ r := fun a t e q q2 => q (by rw [← e, q2]; exact hr)
  have vn : ∀ a, a ≠ r → V' a = V a := fun a ha => by rw [hV, up3_n ha]
  have v0 : V' r 0 = V r 0 := by rw [hV, up3_a, s2_rowN (by decide)]
  have hk : kfr (fun a => a = r) T L V P T L V' P := fun a ha => ⟨rfl, rfl, fun q => ⟨vn a q, rfl⟩⟩
  have hB := h2.1
  have hX : rdX ad b n T L V' P r tx ax kx p := by
    obtain ⟨⟨b1, b2', b3, b4, b5, b6⟩, c2, c3, c4, c5, c6, c7⟩ := h2
    refine ⟨⟨b1, by rw [v0]; exact b2', b3, b4, b5, fun i hi => by rw [vn ax (nk ax 2 b5 (by decide))]; exact b6 i hi⟩, by rw [v0]; exact c2, by rw [v0]; exact c3, c4, c5, fun q => ?_, fun q => by rw [v0]; exact c7 q⟩
    obtain ⟨x, x1, x2⟩ := c6 q
    exact ⟨x, x1, x2.x (fun a ha => ⟨rfl, rfl, vn a (fun e => by rw [e, hr] at ha; rcases ha with q | q <;> cases q), rfl⟩)⟩
  refine ⟨h1, hX, xt.kf h3 hk (fun a e => by rw [e]; exact h4.1), h4, h5, ?_, ⟨h7, by rw [vn l (nk l 3 h7 (by decide))]; exact h8⟩, fun k hk => by rw [vn l (nk l 3 h7 (by decide))]; exact h9 k hk, h10, ?_, ja, ca, i1, i2, i3, ?_, ?_, i6, i7⟩
  · rcases hi with ⟨rfl, rfl, rfl⟩ | ⟨rfl, rfl, rfl⟩
    · exact ⟨by rw [hV, up3_a, s2_s]; rfl, by rw [hV, up3_a, s2_i (by decide)]; exact h6'⟩
    · exact ⟨by rw [hV, up3_a, s2_i (by decide)]; exact h6, by rw [hV, up3_a, s2_s]; rfl⟩
  · exact h12.k hk (fun a ha e => eT_ne8 ha (by rw [e]; exact hr))
  · exact i4.k hk rfl (nk jl 16 i4.2.1.1 (by decide)) (nk ja 2004 i4.2.1.2.2.2.1 (by decide)) (fun a ha e => by rw [e, hr] at ha; rcases ha with q | q | q | q <;> cases q)
  · exact i5.k hk rfl (nk cl 16 i5.2.1.1 (by decide)) (nk ca 2004 i5.2.1.2.2.2.1 (by decide)) (fun a ha e => by rw [e, hr] at ha; cases ha)
theorem sX_begins (hA : hAd ad) (ht : tOk b n) {U i s1 : Nat} {f g' w' : Bool} (hc : CL ad b n B r tx ax kx l jl cl vw D lw g w p z T L V P) (hi : (i = 0 ∧ f = g ∧ g' = true ∧ w' = w) ∨ (i = 1 ∧ f = w ∧ g' = g ∧ w' = true)) {s : List Nat} (hs : s.length ≤ 6 ∧ ∀ c ∈ s, c < 256) (h1 : T s1 = 0) {post : Int32 → Nat → (Nat → Nat) → (Nat → Nat) → w_V → w_P → Prop} {xp : w_Xp} (k0 : tIs b n p s = false → post 0 z T L V P) (k1 : tIs b n p s = true → f = false → 12 ≤ U ∧ ∀ (z' : Nat) (T' L' : Nat → Nat) (V' : w_V) (P' : w_P), z ≤ z' → CL ad b n B r tx ax kx l jl cl vw D lw g' w' (tNx b n p) z' T' L' V' P' → post 1 z' T' L' V' P') (k2 : tIs b n p s = true → f = true → 12 ≤ U ∧ xfL B xp z 5 p) : wFX9_begins ad U z T L V P r s1 s (nI i) post xp := by
  unfold wFX9_begins
  refine sX_is hA ht hc.2.1 hs h1 ?_
  cases e : tIs b n p s with
  | false => rw [if_pos (show b2 false = 0 from rfl)]; exact k0 e
  | true =>
    rw [if_neg (show ¬ b2 true = 0 by decide)]
    have hi2 : i < 2 := by rcases hi with ⟨q, -⟩ | ⟨q, -⟩ <;> omega
    have hf : V r 9 i = b2 f := by
      rcases hi with ⟨rfl, rfl, -⟩ | ⟨rfl, rfl, -⟩
      · exact hc.2.2.2.2.2.1.1
      · exact hc.2.2.2.2.2.1.2
    refine ⟨i, hi2, rfl, ?_⟩
    rw [hf]
    cases f with
    | false =>
      obtain ⟨hU, k1⟩ := k1 e rfl
      rw [if_pos (show b2 false = 0 from rfl)]
      unfold jFX9_begins_25
      refine ⟨0, U, (Nat.zero_add U).symm, sX_check1 ⟨hc.2.1.1.1, i, hi2, rfl, fun V18 e18 => ⟨U, 0, rfl, ?_⟩⟩⟩
      have e18' : V18 = up3 V r 9 i 1 := by rw [e18]; rfl
      have hc2 : CL ad b n B r tx ax kx l jl cl vw D lw g' w' p z T L V18 P := hc.has e18' (by rcases hi with ⟨q, -, q2, q3⟩ | ⟨q, -, q2, q3⟩; exact Or.inl ⟨q, q2, q3⟩; exact Or.inr ⟨q, q2, q3⟩)
      exact sX_goX hA ht hc2.1 hc2.2.1 (by omega) (fun z' T' L' V' P' x1 x2 => k1 z' T' L' V' P' x1.2.1 (hc2.x x1 x2))
    | true =>
      obtain ⟨hU, k2⟩ := k2 e rfl
      rw [if_neg (show ¬ b2 true = 0 by decide)]
      unfold jFX9_begins_25
      exact ⟨U, 0, rfl, sX_check0 hc.1 hc.2.1 (by omega) (k2.c hc)⟩
theorem b_gossip (hA : hAd ad) (ht : tOk b n) (hD : DOk D) (hw : w = false → nS D = 0) (hp : p ≤ n) (e : tIs b n p [103, 111, 115, 115, 105, 112] = true) (R0 : lpT → lpT → w_Xp → lpT) : bRun ad b n B r tx ax kx l jl cl vw D lw false w true w p (fun post kb xp U z T L V P => ∀ s31 : Nat, T s31 = 0 → (∃ c33 U34 : Nat, U = c33 + U34 ∧ wFX9_begins ad c33 z T L V P r s31 [103, 111, 115, 115, 105, 112] 0 (fun (r39 : Int32) (z : Nat) (T L : Nat → Nat) (V36 : w_V) (P37 : w_P) => (T r = 8 ∧ T l = 3 ∧ (if (r39 = 0 : Prop) then R0 post kb xp U34 z T L V36 P37 else (∃ c161 U162 : Nat, U34 = c161 + U162 ∧ wFX9_number ad c161 z T L V36 P37 r 1 40 (fun (r167 : Int32) (z : Nat) (T L : Nat → Nat) (V164 : w_V) (P165 : w_P) => (T l = 3 ∧ T r = 8 ∧ (∀ V170 : w_V, V170 = (up3 V164 l 0 2 r167) → (jFX9_land_283 ad U162 z T L V170 P165 r l post xp kb)))) xp)))) xp)) (fun sg post => wM_stepOn sg (fun g43 => wM_readNumber g43 1 40 (fun (r40 : Int32) (g41 : MS) => post (s2 g41 4 10 r40)))) := by
  have hpn : p < n := tis_lt e
  have hp2 := t9nx_gt (b := b) hpn
  have hp2n := t9nx_le (b := b) hp
  have c1 : ∀ (post kb : lpT) (xp : w_Xp) (U z : Nat) (T L : Nat → Nat) (V : w_V) (P : w_P), 30 ≤ U → CL ad b n B r tx ax kx l jl cl vw D lw false w p z T L V P → (∀ (z' : Nat) (T' L' : Nat → Nat) (V' : w_V) (P' : w_P), z ≤ z' → CL ad b n B r tx ax kx l jl cl vw D lw true w (tNx b n p) z' T' L' V' P' → (∃ c161 U162 : Nat, U - 12 = c161 + U162 ∧ wFX9_number ad c161 z' T' L' V' P' r 1 40 (fun (r167 : Int32) (z : Nat) (T L : Nat → Nat) (V164 : w_V) (P165 : w_P) => (T l = 3 ∧ T r = 8 ∧ (∀ V170 : w_V, V170 = (up3 V164 l 0 2 r167) → (jFX9_land_283 ad U162 z T L V170 P165 r l post xp kb)))) xp)) → ∀ s31 : Nat, T s31 = 0 → (∃ c33 U34 : Nat, U = c33 + U34 ∧ wFX9_begins ad c33 z T L V P r s31 [103, 111, 115, 115, 105, 112] 0 (fun (r39 : Int32) (z : Nat) (T L : Nat → Nat) (V36 : w_V) (P37 : w_P) => (T r = 8 ∧ T l = 3 ∧ (if (r39 = 0 : Prop) then R0 post kb xp U34 z T L V36 P37 else (∃ c161 U162 : Nat, U34 = c161 + U162 ∧ wFX9_number ad c161 z T L V36 P37 r 1 40 (fun (r167 : Int32) (z : Nat) (T L : Nat → Nat) (V164 : w_V) (P165 : w_P) => (T l = 3 ∧ T r = 8 ∧ (∀ V170 : w_V, V170 = (up3 V164 l 0 2 r167) → (jFX9_land_283 ad U162 z T L V170 P165 r l post xp kb)))) xp)))) xp) := by
    intro post kb xp U z T L V P hU hc k s31 hs31
    refine ⟨12, U - 12, by omega, sX_begins (i := 0) hA ht hc (Or.inl ⟨rfl, rfl, rfl, rfl⟩) (by decide) hs31 (fun q => by rw [e] at q; cases q) (fun _ _ => ⟨by decide, fun z' T' L' V' P' hz hc2 => ⟨hc2.2.1.1.1, hc2.2.2.2.2.2.2.1.1, ?_⟩⟩) (fun _ q => by cases q)⟩
    rw [if_neg (by decide)]
    exact k z' T' L' V' P' hz hc2
  by_cases h0 : tNum b n (tNx b n p) 1 40 = 0
  · have k2 : tKin b n (tNx b n p) = 2 := by
      rcases Nat.decEq (tKin b n (tNx b n p)) 2 with q | q
      · unfold tNum at h0; rw [if_pos q] at h0; cases h0
      · exact q
    have hv : tVl b n (tNx b n p) ≤ 40 := by
      unfold tNum at h0
      rw [if_neg (fun q => q k2)] at h0
      by_cases q : 4 < tEn b n (tNx b n p) - tNx b n p ∨ tVl b n (tNx b n p) < 1 ∨ 40 < tVl b n (tNx b n p)
      · rw [if_pos q] at h0; cases h0
      · omega
    have hp1n := (t9kin_2.mp k2).1
    have hp3 := t9nx_gt (b := b) hp1n
    have hp3n := t9nx_le (b := b) hp2n
    have hT := hD.1.1
    refine Or.inl ⟨s2 D 4 3 (nI (tVl b n (tNx b n p))), lw, tNx b n (tNx b n p), ?_, fun q => ?_, by omega, hp3n, ?_, ?_⟩
    · exact hD.w4 (fun k hk => s2_rowN (by omega)) (s2_i (by decide)) (s2_i (by decide)) (s2_i (by decide)) ⟨nT D, by rw [s2_i (by decide)]; exact hT.1, Nat.le_refl _, hT.2⟩ ⟨_, s2_s, hv⟩ (by rw [s2_i (by decide)]; exact hD.2.1) (by rw [s2_i (by decide)]; exact hD.2.2.1)
    · have : nS (s2 D 4 3 (nI (tVl b n (tNx b n p)))) = nS D := by show tn (s2 D 4 3 _ 4 6) = tn (D 4 6); rw [s2_i (by decide)]
      rw [this]; exact hw q
    · intro post kb xp U z T L V P hU hc k
      refine c1 post kb xp U z T L V P (by omega) hc (fun z' T' L' V' P' hz hc2 => ⟨12, U - 24, by omega, sX_number (lo := 1) (hi := 40) hA ht hc2.1 hc2.2.1 (by decide) (by decide) (Nat.le_refl _) (fun _ => ?_) (fun q => absurd h0 q)⟩)
      intro z2 T2 L2 V2 P2 x1 x2
      have hc3 := hc2.x x1 x2
      refine ⟨hc3.2.2.2.2.2.2.1.1, x2.1.1, fun V170 e170 => ?_⟩
      obtain ⟨q0, q1, q2, q3, q4⟩ := hc3.2.2.2.2.2.2.1
      refine k _ _ _ _ _ _ (by omega) (Nat.le_trans hz x1.2.1) (hc3.lnd (fun a ha => by rw [e170, up3_n ha]) ⟨?_, ?_, ?_, ?_⟩ (fun k hk => ?_) (fun k hk => s2_rowN (by omega)) (s2_i (by decide)) (s2_i (by decide)) (s2_i (by decide)))
      · rw [e170, up3_a, s2_i (by decide), s2_i (by decide)]; exact q1
      · rw [e170, up3_a, s2_i (by decide), s2_i (by decide)]; exact q2
      · rw [e170, up3_a, s2_s, s2_s]
      · rw [e170, up3_a, s2_i (by decide), s2_i (by decide)]; exact q4
      · rw [e170, up3_a, s2_k (by decide), s2_k (by decide)]; exact hc3.2.2.2.2.2.2.2.1 k hk
    · intro sg0 sg post hM k
      refine sM_go ht hM.1 (fun s9 f9 m9 => sM_readNum (lo := 1) (hi := 40) ht m9 ((f9.2 21 rfl).trans hM.2.1) (by decide) (by decide) (fun _ s8 f8 m8 => ?_) (fun q => absurd h0 q))
      exact k _ (((hM.s f9 m9).s f8 m8).w4 (i := 3) (by decide))
  · have hk : nI (tNum b n (tNx b n p) 1 40) ≠ 0 := nI_ne0 (by omega) (by have := tNum_le (b := b) (n := n) (p := tNx b n p) (lo := 1) (hi := 40); omega)
    refine Or.inr ⟨nI (tNum b n (tNx b n p) 1 40), tNx b n p, hk, by omega, hp2n, ?_, ?_⟩
    · intro post kb xp U z T L V P hU hc k
      exact c1 post kb xp U z T L V P (by omega) hc (fun z' T' L' V' P' hz hc2 => ⟨12, U - 24, by omega, sX_number (lo := 1) (hi := 40) hA ht hc2.1 hc2.2.1 (by decide) (by decide) (Nat.le_refl _) (fun q => absurd q h0) (fun _ => (k.m hz).c hc2)⟩)
    · intro sg0 sg post hM k
      refine sM_go ht hM.1 (fun s9 f9 m9 => sM_readNum (lo := 1) (hi := 40) ht m9 ((f9.2 21 rfl).trans hM.2.1) (by decide) (by decide) (fun q => absurd q h0) (fun _ => ?_))
      exact k _ (((hM.2.2.2.tr f9.U).tr (fB.wr _ _ _).U).w ⟨by decide, by decide⟩) (by rw [s2_k (by decide)]; exact wr_21) (by rw [s2_k (by decide)]; exact wr_22)
/-- the land with its law -/
def lawD (D : MS) (li : List Int32) : MS := fun k i => if k = 4 ∧ i = 6 then nI li.length else if k = 12 then li.getD i 0 else D k i
theorem lawD_4 {li : List Int32} {i : Nat} (h : i ≠ 6) : lawD D li 4 i = D 4 i := by unfold lawD; rw [if_neg (fun q => h q.2), if_neg (by decide)]
theorem lawD_46 {li : List Int32} : lawD D li 4 6 = nI li.length := if_pos ⟨rfl, rfl⟩
theorem lawD_k {li : List Int32} {k : Nat} (h : k ≠ 4) (h2 : k ≠ 12) : lawD D li k = D k := by
  funext i
  unfold lawD
  rw [if_neg (fun q => h q.1), if_neg h2]
theorem lawD_12 {li : List Int32} {i : Nat} : lawD D li 12 i = li.getD i 0 := by unfold lawD; rw [if_neg (fun q => absurd q.1 (by decide)), if_pos rfl]
theorem sigL_law {li : List Int32} (h : li.length < 1000) : sigL (lawD D li) = li := by
  have e : nS (lawD D li) = li.length := by show tn (lawD D li 4 6) = _; rw [lawD_46]; exact tn_nI (by omega)
  unfold sigL
  rw [e]
  apply List.ext_getElem?
  intro i
  rw [List.getElem?_map]
  by_cases hi : i < li.length
  · rw [List.getElem?_range hi]
    show some (lawD D li 12 i) = _
    rw [lawD_12, List.getD_eq_getElem?_getD, List.getElem?_eq_getElem hi]
    rfl
  · rw [List.getElem?_eq_none (by simp; omega), List.getElem?_eq_none (by omega)]
    rfl
theorem DOk.law {li : List Int32} (h : DOk D) (hl : li.length ≤ 600) : DOk (lawD D li) := by
  obtain ⟨⟨⟨a1, a2⟩, ⟨a3, a4⟩, ⟨a5, a6⟩, ⟨a7, a8⟩, a9, a10, a11⟩, b1, b2', a12⟩ := h
  have eT : nT (lawD D li) = nT D := by show tn (lawD D li 4 0) = tn (D 4 0); rw [lawD_4 (by decide)]
  have eJ : nJ (lawD D li) = nJ D := by show tn (lawD D li 4 4) = tn (D 4 4); rw [lawD_4 (by decide)]
  have eC : nC (lawD D li) = nC D := by show tn (lawD D li 4 5) = tn (D 4 5); rw [lawD_4 (by decide)]
  have eS : nS (lawD D li) = li.length := by show tn (lawD D li 4 6) = _; rw [lawD_46]; exact tn_nI (by omega)
  have est : ∀ j, stp (lawD D li) j = stp D j := fun j => by show tn (lawD D li 9 j) = tn (D 9 j); rw [lawD_k (by decide) (by decide)]
  refine ⟨⟨⟨by rw [eT, lawD_4 (by decide)]; exact a1, by rw [eT]; exact a2⟩, ⟨by rw [eJ, lawD_4 (by decide)]; exact a3, by rw [eJ]; exact a4⟩, ⟨by rw [eC, lawD_4 (by decide)]; exact a5, by rw [eC]; exact a6⟩, ⟨by rw [eS, lawD_46], by rw [eS]; exact hl⟩, by rw [lawD_4 (by decide)]; exact a9, fun j hj => ?_, fun x y hx hy => by rw [lawD_k (k := 5) (by decide) (by decide)]; exact a11 x y hx hy⟩, by rw [lawD_4 (by decide)]; exact b1, by rw [lawD_4 (by decide)]; exact b2', fun j hj => by rw [eJ] at hj; rw [lawD_k (k := 7) (by decide) (by decide)]; exact a12 j hj⟩
  rw [eJ] at hj
  rw [est, eT, lawD_k (k := 6) (by decide) (by decide), lawD_k (k := 9) (by decide) (by decide), lawD_k (k := 10) (by decide) (by decide), lawD_k (k := 5) (by decide) (by decide)]
  exact a10 j hj
theorem b_law (hA : hAd ad) (ht : tOk b n) (hD : DOk D) (hw : nS D = 0) (hp : p ≤ n) (e : tIs b n p [108, 97, 119] = true) (R0 : lpT → lpT → w_Xp → lpT) : bRun ad b n B r tx ax kx l jl cl vw D lw g false g true p (fun post kb xp U z T L V P => ∀ s42 : Nat, T s42 = 0 → (∃ c44 U45 : Nat, U = c44 + U45 ∧ wFX9_begins ad c44 z T L V P r s42 [108, 97, 119] 1 (fun (r50 : Int32) (z : Nat) (T L : Nat → Nat) (V47 : w_V) (P48 : w_P) => (T r = 8 ∧ T l = 3 ∧ (if (r50 = 0 : Prop) then R0 post kb xp U45 z T L V47 P48 else (∃ c150 U151 : Nat, U45 = c150 + U151 ∧ wFx ad 9 c150 z T L V47 P48 r 0 (fun (r156 : Nat) (z : Nat) (T L : Nat → Nat) (V153 : w_V) (P154 : w_P) => (T l = 3 ∧ T r = 8 ∧ eT T r156 ∧ (∀ P160 : w_P, P160 = (up2 P154 l 8 (some r156)) → (jFX9_land_283 ad U151 z T L V153 P160 r l post xp kb)))) xp)))) xp)) (fun sg post => wM_stepOn sg (fun g43 => wM_readExpression 7 g43 0 (fun (g39 : MS) => post g39))) := by
  have hn6 := ht.1
  have hpn : p < n := tis_lt e
  have hp2 := t9nx_gt (b := b) hpn
  have hp2n := t9nx_le (b := b) hp
  have c1 : ∀ (post kb : lpT) (xp : w_Xp) (U z : Nat) (T L : Nat → Nat) (V : w_V) (P : w_P), 30 ≤ U → CL ad b n B r tx ax kx l jl cl vw D lw g false p z T L V P → (∀ (z' : Nat) (T' L' : Nat → Nat) (V' : w_V) (P' : w_P), z ≤ z' → CL ad b n B r tx ax kx l jl cl vw D lw g true (tNx b n p) z' T' L' V' P' → (∃ c150 U151 : Nat, U - 12 = c150 + U151 ∧ wFx ad 9 c150 z' T' L' V' P' r 0 (fun (r156 : Nat) (z : Nat) (T L : Nat → Nat) (V153 : w_V) (P154 : w_P) => (T l = 3 ∧ T r = 8 ∧ eT T r156 ∧ (∀ P160 : w_P, P160 = (up2 P154 l 8 (some r156)) → (jFX9_land_283 ad U151 z T L V153 P160 r l post xp kb)))) xp)) → ∀ s42 : Nat, T s42 = 0 → (∃ c44 U45 : Nat, U = c44 + U45 ∧ wFX9_begins ad c44 z T L V P r s42 [108, 97, 119] 1 (fun (r50 : Int32) (z : Nat) (T L : Nat → Nat) (V47 : w_V) (P48 : w_P) => (T r = 8 ∧ T l = 3 ∧ (if (r50 = 0 : Prop) then R0 post kb xp U45 z T L V47 P48 else (∃ c150 U151 : Nat, U45 = c150 + U151 ∧ wFx ad 9 c150 z T L V47 P48 r 0 (fun (r156 : Nat) (z : Nat) (T L : Nat → Nat) (V153 : w_V) (P154 : w_P) => (T l = 3 ∧ T r = 8 ∧ eT T r156 ∧ (∀ P160 : w_P, P160 = (up2 P154 l 8 (some r156)) → (jFX9_land_283 ad U151 z T L V153 P160 r l post xp kb)))) xp)))) xp) := by
    intro post kb xp U z T L V P hU hc k s42 hs42
    refine ⟨12, U - 12, by omega, sX_begins (i := 1) hA ht hc (Or.inr ⟨rfl, rfl, rfl, rfl⟩) (by decide) hs42 (fun q => by rw [e] at q; cases q) (fun _ _ => ⟨by decide, fun z' T' L' V' P' hz hc2 => ⟨hc2.2.1.1.1, hc2.2.2.2.2.2.2.1.1, ?_⟩⟩) (fun _ q => by cases q)⟩
    rw [if_neg (by decide)]
    exact k z' T' L' V' P' hz hc2
  have lay0 : ∀ (sg0 sg : MS), ML b n sg0 D p sg → layR sg [] := fun sg0 sg hM => by
    refine ⟨?_, fun i hi => absurd hi (by simp)⟩
    have := hM.2.2.1.1 6 (by decide)
    rw [hD.1.2.2.2.1.1, hw] at this
    exact this
  rcases run_law0 (r := r) (tx := tx) (ax := ax) (kx := kx) hA ht hp2n with ⟨p', li, nn, d, f, a1, a2, a3, a4, a5, a6, a7, a8⟩ | ⟨kd, pl, a1, a2, a3, a4, a5⟩
  · refine Or.inl ⟨lawD D li, f, p', hD.law (by omega), fun q => (by cases q), by omega, a2, ?_, ?_⟩
    · intro post kb xp U z T L V P hU hc k
      refine c1 post kb xp U z T L V P (by omega) hc (fun z' T' L' V' P' hz hc2 => ⟨30 * (p' - tNx b n p), U - 12 - 30 * (p' - tNx b n p), by omega, a7 _ _ _ _ _ _ _ xp (Nat.le_refl _) hc2.1 hc2.2.1 (fun t z2 T2 L2 V2 P2 x1 x2 x3 => ?_)⟩)
      have hc3 := hc2.x x1 x2
      refine ⟨hc3.2.2.2.2.2.2.1.1, x2.1.1, x3.eT, fun P160 e160 => k _ _ _ _ _ _ (by omega) (Nat.le_trans hz x1.2.1) ?_⟩
      obtain ⟨h1, h2, h3, h4, h5, h6, ⟨h7, h8, h8b, h8c, h8d⟩, h9, ⟨h10, h11⟩, h12, ja, ca, i1, i2, i3, i4, i5, i6, i7⟩ := hc3
      have nk : ∀ a t, T2 a = t → t ≠ 3 → a ≠ l := fun a t e q q2 => q (by rw [← e, q2]; exact h7)
      have hk : kfr (fun a => a = l) T2 L2 V2 P2 T2 L2 V2 P160 := fun a ha => ⟨rfl, rfl, fun q => ⟨rfl, by rw [e160]; exact up2_n q⟩⟩
      have pl' : ∀ j, P160 l j = if j = 8 then some t else P2 l j := fun j => by rw [e160, up2_a]
      have eJ : nJ (lawD D li) = nJ D := by show tn (lawD D li 4 4) = tn (D 4 4); rw [lawD_4 (by decide)]
      have eC : nC (lawD D li) = nC D := by show tn (lawD D li 4 5) = tn (D 4 5); rw [lawD_4 (by decide)]
      have eS : nS (lawD D li) = li.length := by show tn (lawD D li 4 6) = _; rw [lawD_46]; exact tn_nI (by omega)
      refine ⟨h1, h2.x (fun a ha => ⟨rfl, rfl, rfl, by rw [e160]; exact up2_n (fun e => by rw [e, h7] at ha; rcases ha with q | q | q | q <;> cases q)⟩), xt.kf h3 hk (fun a e => by rw [e]; exact h4.2.1), h4, h5, h6, ⟨h7, by rw [lawD_4 (by decide)]; exact h8, by rw [lawD_4 (by decide)]; exact h8b, by rw [lawD_4 (by decide)]; exact h8c, by rw [lawD_4 (by decide)]; exact h8d⟩, fun k hk => by rw [lawD_k (k := 5) (by decide) (by decide)]; exact h9 k hk, ⟨by rw [pl', if_neg (by decide)]; exact h10, h11⟩, ?_, ja, ca, i1, i2, i3, ?_, ?_, i6, i7⟩
      · rw [pl', if_pos rfl]
        refine Or.inr ⟨t, d, nn, rfl, by rw [eS]; exact a3, by omega, by omega, ?_⟩
        rw [sigL_law (by omega)]
        exact x3.k8 (fun a ha => ⟨rfl, rfl, by rw [e160]; exact up2_n (fun e => by rw [e] at ha; unfold eTT eT at ha; rw [h7] at ha; rcases ha with q | q | q | q <;> cases q)⟩)
      · exact (i4.k hk (by rw [pl', if_neg (by decide)]) (nk jl 16 i4.2.1.1 (by decide)) (nk ja 2004 i4.2.1.2.2.2.1 (by decide)) (fun a ha e => by rw [e, h7] at ha; rcases ha with q | q | q | q <;> cases q)).rows eJ (fun j _ => ⟨by rw [lawD_k (k := 6) (by decide) (by decide)], by rw [lawD_k (k := 7) (by decide) (by decide)], by rw [lawD_k (k := 8) (by decide) (by decide)], by rw [lawD_k (k := 9) (by decide) (by decide)], fun i _ => by rw [lawD_k (k := 10) (by decide) (by decide)]⟩)
      · exact (i5.k hk (by rw [pl', if_neg (by decide)]) (nk cl 16 i5.2.1.1 (by decide)) (nk ca 2004 i5.2.1.2.2.2.1 (by decide)) (fun a ha e => by rw [e, h7] at ha; cases ha)).rows eC (fun c t _ _ => by rw [lawD_k (k := 11) (by decide) (by decide)])
    · intro sg0 sg post hM k
      refine sM_go ht hM.1 (fun s9 f9 m9 => a8 s9 _ [] m9 ((f9.2 21 rfl).trans hM.2.1) (layR.s f9 (lay0 sg0 sg hM)) (Nat.zero_le _) (fun s8 f8 m8 l8 => ?_))
      have hM9 := hM.s f9 m9
      obtain ⟨q1, q2, q3, q4, q5⟩ := hM9.2.2.1
      have eJ : nJ (lawD D li) = nJ D := by show tn (lawD D li 4 4) = tn (D 4 4); rw [lawD_4 (by decide)]
      have eC : nC (lawD D li) = nC D := by show tn (lawD D li 4 5) = tn (D 4 5); rw [lawD_4 (by decide)]
      have eS : nS (lawD D li) = li.length := by show tn (lawD D li 4 6) = _; rw [lawD_46]; exact tn_nI (by omega)
      have est : ∀ j, stp (lawD D li) j = stp D j := fun j => by show tn (lawD D li 9 j) = tn (D 9 j); rw [lawD_k (by decide) (by decide)]
      refine k s8 ⟨m8, (f8.2.1 21 rfl).trans hM9.2.1, ⟨fun i hi => ?_, fun i hi => ?_, fun j hj => ?_, fun c t hc htt => ?_, fun i hi => ?_⟩, hM9.2.2.2.tr f8.U⟩
      · by_cases e6 : i = 6
        · rw [e6, lawD_46]; exact l8.1
        · rw [lawD_4 e6, f8.2.2.1 (7 + i) (by omega)]; exact q1 i hi
      · rw [lawD_k (k := 5) (by decide) (by decide), f8.1 5 (by decide) (by decide) (by decide)]; exact q2 i hi
      · rw [eJ] at hj
        rw [est, lawD_k (k := 6) (by decide) (by decide), lawD_k (k := 7) (by decide) (by decide), lawD_k (k := 8) (by decide) (by decide), lawD_k (k := 9) (by decide) (by decide), lawD_k (k := 10) (by decide) (by decide), f8.1 6 (by decide) (by decide) (by decide), f8.1 7 (by decide) (by decide) (by decide), f8.1 8 (by decide) (by decide) (by decide), f8.1 9 (by decide) (by decide) (by decide), f8.1 10 (by decide) (by decide) (by decide)]
        exact q3 j hj
      · rw [eC] at hc
        rw [lawD_k (k := 11) (by decide) (by decide), f8.1 11 (by decide) (by decide) (by decide)]; exact q4 c t hc htt
      · rw [eS] at hi
        rw [lawD_12]; exact l8.2 i hi
  · refine Or.inr ⟨kd, pl, a1, by omega, a3, ?_, ?_⟩
    · intro post kb xp U z T L V P hU hc k
      exact c1 post kb xp U z T L V P (by omega) hc (fun z' T' L' V' P' hz hc2 => ⟨U - 12, 0, rfl, a4 _ _ _ _ _ _ _ xp (by omega) hc2.1 hc2.2.1 ((k.m hz).c hc2)⟩)
    · intro sg0 sg post hM k
      exact sM_go ht hM.1 (fun s9 f9 m9 => a5 s9 _ [] m9 ((f9.2 21 rfl).trans hM.2.1) (layR.s f9 (lay0 sg0 sg hM)) (Nat.zero_le _) (fun s8 f8 m8 l8 => k s8 ((hM.2.2.2.tr f9.U).tr f8.U) m8 l8))
end L
