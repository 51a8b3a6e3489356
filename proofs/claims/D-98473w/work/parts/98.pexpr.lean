/-! PURE: an expression at both -/
set_option maxRecDepth 100000
section B
variable {ad b : Nat → Nat} {n r tx ax kx : Nat}
theorem Run.to2 {N p : Nat} {W W' : clsW} {M M' : mdlW} (h : Run ad b n r tx ax kx N p W M) (hX : ∀ U z T L V P post xp, rdX ad b n T L V P r tx ax kx p → W U z T L V P post xp → W' U z T L V P post xp) (hM : ∀ sg post, rdM b n sg p → sg 0 21 = 0 → M sg post → M' sg post) : Run ad b n r tx ax kx N p W' M' := by
  rcases h with ⟨p1, l1, n1, d1, f1, a1, a2, a3, a4, a5, a6, a7, a8⟩ | ⟨k, pl, a1, a2, a3, a4, a5⟩
  · exact Or.inl ⟨p1, l1, n1, d1, f1, a1, a2, a3, a4, a5, a6, fun U z T L V P post xp g1 g2 g3 g4 => hX _ _ _ _ _ _ _ _ g3 (a7 U z T L V P post xp g1 g2 g3 g4), fun sg post acc g1 g2 g3 g4 g5 => hM _ _ g1 g2 (a8 sg post acc g1 g2 g3 g4 g5)⟩
  · exact Or.inr ⟨k, pl, a1, a2, a3, fun U z T L V P post xp g1 g2 g3 g4 => hX _ _ _ _ _ _ _ _ g3 (a4 U z T L V P post xp g1 g2 g3 g4), fun sg post acc g1 g2 g3 g4 g5 => hM _ _ g1 g2 (a5 sg post acc g1 g2 g3 g4 g5)⟩
theorem run_and (hA : hAd ad) (ht : tOk b n) {N2 : Nat} {rX : rEF} {rM : MS → Int32 → (MS → Prop) → Prop} {x1 y1 : Int32} (h2 : ∀ p, p ≤ n → Run ad b n r tx ax kx N2 p (fun U z T L V P post xp => wFX9_not ad rX U z T L V P r x1 post xp) (fun sg post => wM_readNot sg rM y1 post)) {p : Nat} (hp : p ≤ n) : Run ad b n r tx ax kx (N2 + 1) p (fun U z T L V P post xp => wFX9_and ad rX U z T L V P r x1 post xp) (fun sg post => wM_readAnd sg rM y1 post) :=
  (lrun_and hA ht h2 hp).to (fun U z T L V P post xp w => by unfold wFX9_and; exact w) (fun sg post w => by show wM_readAnd sg rM y1 post; unfold wM_readAnd; exact w)
theorem bd_and (rM : MS → Int32 → (MS → Prop) → Prop) (y1 : Int32) : bdM (fun sg post => wM_readAnd sg rM y1 post) := by
  intro sg post hb k
  show wM_readAnd sg rM y1 post
  unfold wM_readAnd
  exact bd_not rM y1 sg _ hb ⟨1, bdl_and rM y1 0 sg post hb k⟩
theorem bd_62 (rM : MS → Int32 → (MS → Prop) → Prop) (y1 : Int32) {sg : MS} {post : MS → Prop} (hb : ¬ sg 0 21 = 0) (k : post sg) : jM_readExpressionF_62 sg rM y1 post := by
  unfold jM_readExpressionF_62
  exact bd_and rM y1 sg _ hb ⟨1, bdl_or rM y1 0 sg post hb k⟩
theorem bd_expr (d : Nat) (y1 : Int32) : bdM (fun sg post => wM_readExpression (d + 1) sg y1 post) := by
  intro sg post hb k
  show wM_readExpressionF sg (wM_readExpression d) y1 post
  unfold wM_readExpressionF
  rw [if_neg hb]
  exact k
/-- where no expression begins -/
theorem and_ft (hA : hAd ad) (ht : tOk b n) {rX : rEF} {x1 : Int32} {p : Nat} (k2 : tKin b n p ≠ 2) (k1 : tKin b n p ≠ 1) (k40 : tIs b n p [40] = false) {U z : Nat} {T L : Nat → Nat} {V : w_V} {P : w_P} {post : Nat → Nat → (Nat → Nat) → (Nat → Nat) → w_V → w_P → Prop} {xp : w_Xp} (hU : 30 ≤ U) (hf : frs z T) (hX : rdX ad b n T L V P r tx ax kx p) (k : xfC xp r z T L V P 1 p) : jFX9_expr_45 ad rX U z T L V P r x1 post xp := by
  unfold jFX9_expr_45
  refine ⟨U, 0, rfl, ?_⟩
  unfold wFX9_and
  refine ⟨U, 0, rfl, ?_⟩
  unfold wFX9_not
  refine ⟨1, ?_⟩
  unfold lFX9_not_2
  intro s1 hs1
  refine sX_is hA ht hX (by decide) hs1 ?_
  have en : tIs b n p [110, 111, 116] = false := by
    cases e : tIs b n p [110, 111, 116] with
    | false => rfl
    | true => exact absurd ((t9tis_wd (by decide)).mp e).1 k1
  rw [en, if_pos (show b2 false = 0 from rfl)]
  refine ⟨U, 0, rfl, ?_⟩
  unfold wFX9_sum
  refine ⟨U, 0, rfl, ?_⟩
  unfold wFX9_product
  refine ⟨U, 0, rfl, ?_⟩
  unfold wFX9_part
  refine ⟨_, hX.2.2.2.2.1, ?_⟩
  rw [if_neg (show ¬ ad (srt (tKin b n p)) = ad 6 from fun e => k2 ((srt_iff (j := 2) hA t9kin_lt (by decide)).mp e))]
  intro s4 hs4
  refine sX_is hA ht hX (by decide) hs4 ?_
  rw [k40, if_pos (show b2 false = 0 from rfl)]
  refine ⟨_, hX.2.2.2.2.1, ?_⟩
  rw [if_neg (show ¬ ad (srt (tKin b n p)) = ad 5 from fun e => k1 ((srt_iff (j := 1) hA t9kin_lt (by decide)).mp e))]
  unfold jFX9_part_72
  exact ⟨U, 0, rfl, sX_check0 hf hX (by omega) k⟩
theorem run_law (hA : hAd ad) (ht : tOk b n) : ∀ h, h ≤ 6 → ∀ p, p ≤ n → Run ad b n r tx ax kx (5 * h + 1) p (fun U z T L V P post xp => wFx ad (h + 3) U z T L V P r (nI (6 - h)) post xp) (fun sg post => wM_readExpression (h + 1) sg (nI (6 - h)) post) := by
  have hn6 := ht.1
  intro h
  induction h with
  | zero =>
    intro _ p hp
    by_cases may : tKin b n p = 2 ∨ tKin b n p = 1 ∨ tIs b n p [40] = true
    · refine Or.inr ⟨2, p, by decide, Nat.le_refl _, hp, ?_, ?_⟩
      · intro U z T L V P post xp hU hf hX k
        show wFX9_expr ad (wFx ad 2) U z T L V P r (nI 6) post xp
        have bad : jFX9_expr_40 ad (wFx ad 2) U z T L V P r (nI 6) r post xp := by
          unfold jFX9_expr_40 jFX9_expr_41
          exact ⟨U, 0, rfl, sX_check0 hf hX (by omega) k⟩
        unfold wFX9_expr
        rw [if_neg (show ¬ nI 6 < 6 by decide)]
        refine ⟨_, hX.2.2.2.2.1, ?_⟩
        by_cases k2 : tKin b n p = 2
        · rw [if_pos (by rw [k2]; rfl)]; exact bad
        · rw [if_neg (show ¬ ad (srt (tKin b n p)) = ad 6 from fun e => k2 ((srt_iff (j := 2) hA t9kin_lt (by decide)).mp e))]
          refine ⟨_, hX.2.2.2.2.1, ?_⟩
          by_cases k1 : tKin b n p = 1
          · rw [if_pos (by rw [k1]; rfl)]; exact bad
          · rw [if_neg (show ¬ ad (srt (tKin b n p)) = ad 5 from fun e => k1 ((srt_iff (j := 1) hA t9kin_lt (by decide)).mp e))]
            intro s hs
            refine sX_is hA ht hX (by decide) hs ?_
            rcases may with q | q | q
            · exact absurd q k2
            · exact absurd q k1
            · rw [q, if_neg (show ¬ b2 true = 0 by decide)]; exact bad
      · intro sg post acc hM h0 hl ha k
        show wM_readExpressionF sg (wM_readExpression 0) (nI 6) post
        have bad : jM_readExpressionF_33 sg (wM_readExpression 0) (nI 6) post := by
          unfold jM_readExpressionF_33 jM_readExpressionF_38
          rw [if_neg (by decide), if_pos (by decide)]
          refine sM_wrong hM.2.2.1 h0 (bd_62 _ _ (by rw [wr_21]; decide) (k _ (fB.wr _ _ _) wr_21 wr_22))
        unfold wM_readExpressionF
        rw [if_pos h0]
        by_cases k2 : tKin b n p = 2
        · rw [if_pos (show sg 0 17 = 2 from (kin_nI (j := 2) hM (by decide)).mpr k2)]; exact bad
        · rw [if_neg (show ¬ sg 0 17 = 2 from fun q => k2 ((kin_nI (j := 2) hM (by decide)).mp q))]
          by_cases k1 : tKin b n p = 1
          · rw [if_pos (show sg 0 17 = 1 from (kin_nI (j := 1) hM (by decide)).mpr k1)]; exact bad
          · rw [if_neg (show ¬ sg 0 17 = 1 from fun q => k1 ((kin_nI (j := 1) hM (by decide)).mp q))]
            refine sM_marked (c := 40) ht hM h0 (by decide) (by decide) ?_
            rcases may with q | q | q
            · exact absurd q k2
            · exact absurd q k1
            · rw [q, if_neg (show ¬ b2 true = 0 by decide)]; exact bad
    · have k2 : tKin b n p ≠ 2 := fun q => may (Or.inl q)
      have k1 : tKin b n p ≠ 1 := fun q => may (Or.inr (Or.inl q))
      have k40 : tIs b n p [40] = false := by
        cases e : tIs b n p [40] with
        | false => rfl
        | true => exact absurd (Or.inr (Or.inr e)) may
      refine Or.inr ⟨1, p, by decide, Nat.le_refl _, hp, ?_, ?_⟩
      · intro U z T L V P post xp hU hf hX k
        show wFX9_expr ad (wFx ad 2) U z T L V P r (nI 6) post xp
        unfold wFX9_expr
        rw [if_neg (show ¬ nI 6 < 6 by decide)]
        refine ⟨_, hX.2.2.2.2.1, ?_⟩
        rw [if_neg (show ¬ ad (srt (tKin b n p)) = ad 6 from fun e => k2 ((srt_iff (j := 2) hA t9kin_lt (by decide)).mp e))]
        refine ⟨_, hX.2.2.2.2.1, ?_⟩
        rw [if_neg (show ¬ ad (srt (tKin b n p)) = ad 5 from fun e => k1 ((srt_iff (j := 1) hA t9kin_lt (by decide)).mp e))]
        intro s hs
        refine sX_is hA ht hX (by decide) hs ?_
        rw [k40, if_pos (show b2 false = 0 from rfl)]
        unfold jFX9_expr_41
        exact ⟨0, U, (Nat.zero_add U).symm, sX_check1 ⟨hX.1.1, and_ft hA ht k2 k1 k40 (by omega) hf hX k⟩⟩
      · intro sg post acc hM h0 hl ha k
        show wM_readExpressionF sg (wM_readExpression 0) (nI 6) post
        unfold wM_readExpressionF
        rw [if_pos h0, if_neg (show ¬ sg 0 17 = 2 from fun q => k2 ((kin_nI (j := 2) hM (by decide)).mp q)), if_neg (show ¬ sg 0 17 = 1 from fun q => k1 ((kin_nI (j := 1) hM (by decide)).mp q))]
        refine sM_marked (c := 40) ht hM h0 (by decide) (by decide) ?_
        rw [k40, if_pos (show b2 false = 0 from rfl)]
        unfold jM_readExpressionF_38
        rw [if_pos rfl]
        exact sM_wrong hM.2.2.1 h0 (bd_62 _ _ (by rw [wr_21]; decide) (k _ (fB.wr _ _ _) wr_21 wr_22))
  | succ h ih =>
    intro hh p hp
    have hlt : nI (6 - (h + 1)) < 6 := nI_lt (b := 6) (by omega) (by omega)
    have hne : ¬ nI (6 - (h + 1)) = 6 := fun q => by
      have := (nI_eq (b := 6) (by omega) (by omega)).mp q
      omega
    have e1 : nI (6 - (h + 1)) + 1 = nI (6 - h) := by rw [nI_1, show 6 - (h + 1) + 1 = 6 - h by omega]
    by_cases may : tKin b n p = 2 ∨ tKin b n p = 1 ∨ tIs b n p [40] = true
    · have hpart : ∀ p, p ≤ n → Run ad b n r tx ax kx (5 * h + 1) p (fun U z T L V P post xp => wFX9_part ad (wFx ad (h + 3)) U z T L V P r (nI (6 - (h + 1))) post xp) (fun sg post => wM_readPart sg (wM_readExpression (h + 1)) (nI (6 - (h + 1))) post) := fun p hp => run_part hA ht (by omega) (bd_expr h _) (fun p hp => by rw [e1]; exact ih (by omega) p hp) hp
      have hR := lrun_or hA ht (fun p hp => run_and hA ht (fun p hp => run_not hA ht (fun p hp => run_sum hA ht (fun p hp => run_product hA ht hpart hp) hp) hp) hp) hp
      rw [show 5 * (h + 1) + 1 = 5 * h + 1 + 1 + 1 + 1 + 1 + 1 by omega]
      refine hR.to2 (fun U z T L V P post xp hX w => ?_) (fun sg post hM h0 w => ?_)
      · show wFX9_expr ad (wFx ad (h + 3)) U z T L V P r (nI (6 - (h + 1))) post xp
        unfold wFX9_expr
        rw [if_pos hlt]
        unfold jFX9_expr_45
        exact w
      · show wM_readExpressionF sg (wM_readExpression (h + 1)) (nI (6 - (h + 1))) post
        have go : jM_readExpressionF_33 sg (wM_readExpression (h + 1)) (nI (6 - (h + 1))) post := by
          unfold jM_readExpressionF_33 jM_readExpressionF_38
          rw [if_neg (by decide), if_neg hne]
          unfold jM_readExpressionF_62
          exact w
        unfold wM_readExpressionF
        rw [if_pos h0]
        by_cases k2 : tKin b n p = 2
        · rw [if_pos (show sg 0 17 = 2 from (kin_nI (j := 2) hM (by decide)).mpr k2)]; exact go
        · rw [if_neg (show ¬ sg 0 17 = 2 from fun q => k2 ((kin_nI (j := 2) hM (by decide)).mp q))]
          by_cases k1 : tKin b n p = 1
          · rw [if_pos (show sg 0 17 = 1 from (kin_nI (j := 1) hM (by decide)).mpr k1)]; exact go
          · rw [if_neg (show ¬ sg 0 17 = 1 from fun q => k1 ((kin_nI (j := 1) hM (by decide)).mp q))]
            refine sM_marked (c := 40) ht hM h0 (by decide) (by decide) ?_
            rcases may with q | q | q
            · exact absurd q k2
            · exact absurd q k1
            · rw [q, if_neg (show ¬ b2 true = 0 by decide)]; exact go
    · have k2 : tKin b n p ≠ 2 := fun q => may (Or.inl q)
      have k1 : tKin b n p ≠ 1 := fun q => may (Or.inr (Or.inl q))
      have k40 : tIs b n p [40] = false := by
        cases e : tIs b n p [40] with
        | false => rfl
        | true => exact absurd (Or.inr (Or.inr e)) may
      refine Or.inr ⟨1, p, by decide, Nat.le_refl _, hp, ?_, ?_⟩
      · intro U z T L V P post xp hU hf hX k
        show wFX9_expr ad (wFx ad (h + 3)) U z T L V P r (nI (6 - (h + 1))) post xp
        unfold wFX9_expr
        rw [if_pos hlt]
        exact and_ft hA ht k2 k1 k40 (by omega) hf hX k
      · intro sg post acc hM h0 hl ha k
        show wM_readExpressionF sg (wM_readExpression (h + 1)) (nI (6 - (h + 1))) post
        unfold wM_readExpressionF
        rw [if_pos h0, if_neg (show ¬ sg 0 17 = 2 from fun q => k2 ((kin_nI (j := 2) hM (by decide)).mp q)), if_neg (show ¬ sg 0 17 = 1 from fun q => k1 ((kin_nI (j := 1) hM (by decide)).mp q))]
        refine sM_marked (c := 40) ht hM h0 (by decide) (by decide) ?_
        rw [k40, if_pos (show b2 false = 0 from rfl)]
        unfold jM_readExpressionF_38
        rw [if_pos rfl]
        exact sM_wrong hM.2.2.1 h0 (bd_62 _ _ (by rw [wr_21]; decide) (k _ (fB.wr _ _ _) wr_21 wr_22))
/-- the law, from its word on -/
theorem run_law0 (hA : hAd ad) (ht : tOk b n) {p : Nat} (hp : p ≤ n) : Run ad b n r tx ax kx 31 p (fun U z T L V P post xp => wFx ad 9 U z T L V P r 0 post xp) (fun sg post => wM_readExpression 7 sg 0 post) := run_law hA ht 6 (Nat.le_refl _) p hp
end B
