/-! PURE: a part at both -/
set_option maxRecDepth 100000
section B
variable {ad b : Nat → Nat} {n r tx ax kx : Nat}
theorem sM_which (ht : tOk b n) {sg : MS} {p : Nat} (hM : rdM b n sg p) (h0 : sg 0 21 = 0) {ws : List (List Nat)} (hl : ws.length < 1000) (hw : ∀ i, i < ws.length → ∃ c s, ws.getD i [] = c :: s ∧ tLt c = true ∧ (c :: s).length ≤ 6 ∧ ∀ d ∈ c :: s, d < 256) {post : Int32 → Prop} (k : ∀ i, i < ws.length → tIs b n p (ws.getD i []) = true → (∀ j, j < i → tIs b n p (ws.getD j []) = false) → post (nI i)) (k0 : (∀ i, i < ws.length → tIs b n p (ws.getD i []) = false) → post (-1)) : wM_which sg ws post := by
  unfold wM_which
  refine loop0 (F := fun m i (_ : Unit) => lM_which_2 sg ws post m i) ws.length (fun j _ => ∀ i, i < j → tIs b n p (ws.getD i []) = false) () (fun i hi => absurd hi (by omega)) (fun m j _ hj hI kk => ?_)
  show lM_which_2 sg ws post (m + 1) (nI j)
  unfold lM_which_2
  by_cases hjl : j < ws.length
  · rw [if_neg (nI_ge hjl (by omega))]
    obtain ⟨c, s, e1, e2, e3, e4⟩ := hw j hjl
    refine ⟨j, hjl, rfl, ?_⟩
    rw [e1]
    refine sM_is ht hM h0 e2 ⟨e3, e4⟩ ?_
    cases et : tIs b n p (c :: s) with
    | true =>
      rw [if_neg (show ¬ b2 true = 0 by decide)]
      exact k j hjl (by rw [e1]; exact et) hI
    | false =>
      rw [if_pos (show b2 false = 0 from rfl), nI_1]
      exact kk () hjl (fun i hi => by
        by_cases ei : i = j
        · rw [ei, e1]; exact et
        · exact hI i (by omega))
  · rw [if_pos (nI_le (by omega) (by omega))]
    exact k0 (fun i hi => hI i (by omega))
theorem sM_whichB {sg : MS} (hb : ¬ sg 0 21 = 0) {ws : List (List Nat)} (hl : ws.length < 1000) {post : Int32 → Prop} (k : post (-1)) : wM_which sg ws post := by
  unfold wM_which
  refine loop0 (F := fun m i (_ : Unit) => lM_which_2 sg ws post m i) ws.length (fun j _ => True) () trivial (fun m j _ hj hI kk => ?_)
  show lM_which_2 sg ws post (m + 1) (nI j)
  unfold lM_which_2
  by_cases hjl : j < ws.length
  · rw [if_neg (nI_ge hjl (by omega))]
    refine ⟨j, hjl, rfl, sM_isB hb ?_⟩
    rw [if_pos rfl, nI_1]
    exact kk () hjl trivial
  · rw [if_pos (nI_le (by omega) (by omega))]
    exact k
theorem kin_nI {sg : MS} {p : Nat} (hM : rdM b n sg p) {j : Nat} (hj : j < 5) : (sg 0 17 = nI j) ↔ tKin b n p = j := by
  have := t9kin_lt (b := b) (n := n) (p := p)
  rw [hM.2.2.2.2.2.1]
  exact nI_eq (by omega) (by omega)
theorem run_part (hA : hAd ad) (ht : tOk b n) {N : Nat} (hN : 1 ≤ N) {rX : rEF} {rM : MS → Int32 → (MS → Prop) → Prop} {x1 y1 : Int32} (hbE : bdM (fun sg post => rM sg (y1 + 1) post)) (hE : ∀ p, p ≤ n → Run ad b n r tx ax kx N p (fun U z T L V P post xp => rX U z T L V P r (x1 + 1) post xp) (fun sg post => rM sg (y1 + 1) post)) {p : Nat} (hp : p ≤ n) : Run ad b n r tx ax kx N p (fun U z T L V P post xp => wFX9_part ad rX U z T L V P r x1 post xp) (fun sg post => wM_readPart sg rM y1 post) := by
  have hn6 := ht.1
  by_cases k2 : tKin b n p = 2
  · have hpn := (t9kin_2.mp k2).1
    have hp2 := t9nx_gt (b := b) hpn
    have hp2n := t9nx_le (b := b) hp
    have cls : ∀ (U z : Nat) (T L : Nat → Nat) (V : w_V) (P : w_P) (post : Nat → Nat → (Nat → Nat) → (Nat → Nat) → w_V → w_P → Prop) (xp : w_Xp), 30 ≤ U → frs z T → rdX ad b n T L V P r tx ax kx p → (tNum b n p 0 9999 = 0 → ∀ (e z' : Nat) (T' L' : Nat → Nat) (V' : w_V) (P' : w_P), xr r z T L V P z' T' L' V' P' → rdX ad b n T' L' V' P' r tx ax kx (tNx b n p) → exprR ad T' V' P' 1 e [nI (tVl b n p)] 1 (fun _ => nI (tVl b n p)) → post e z' T' L' V' P') → (tNum b n p 0 9999 ≠ 0 → xfC xp r z T L V P (nI (tNum b n p 0 9999)) p) → wFX9_part ad rX U z T L V P r x1 post xp := by
      intro U z T L V P post xp hU hf hX k kf
      have hr0 : T r ≠ 0 := ne0 hX.1.1
      unfold wFX9_part
      refine ⟨_, hX.2.2.2.2.1, ?_⟩
      rw [if_pos (by rw [k2]; rfl)]
      refine ⟨U - 1, by omega, ?_⟩
      intro o zo To Lo Vo Po hw
      obtain ⟨x0, x2, x3, x4, x5, x6, x7, -⟩ := xr.nw (r := r) hf hw hr0
      have hX2 : rdX ad b n To Lo Vo Po r tx ax kx p := hX.x (fun a ha => x7 a (by rcases ha with q | q | q | q <;> (rw [q]; decide)))
      refine ⟨hX2.1.1, U - 1, 0, rfl, sX_number (lo := 0) (hi := 9999) hA ht x0.1 hX2 (by decide) (by decide) (by omega) (fun e0 => ?_) (fun e0 => (kf e0).m x0)⟩
      intro z1 T1 L1 V1 P1 g1 g2
      have hTo : T1 o = 9 := (g1.2.2.1 o (by rw [x3]; decide)).1.trans x3
      refine ⟨hTo, 0, 0, rfl, ?_⟩
      unfold wFX12_init
      intro V2 e2
      have hV : ∀ a, a ≠ o → V2 a = V1 a ∧ P1 a = P1 a := fun a ha => ⟨by rw [e2, up3_n ha], rfl⟩
      have h4 : tEn b n p - p ≤ 4 := by
        rcases Nat.lt_or_ge 4 (tEn b n p - p) with q | q
        · unfold tNum at e0; rw [if_neg (fun x => x k2), if_pos (Or.inl q)] at e0; cases e0
        · exact q
      have hv := t9vl_lt k2 h4
      refine ⟨hTo, k e0 o z1 T1 L1 V2 P1 ((x0.tr g1).put x2 hr0 hV) (g2.x (fun a ha => ?_)) (Or.inl ⟨hTo, tVl b n p, by omega, by rw [e2, up3_a, s2_s], rfl, Nat.le_refl _, rfl⟩)⟩
      have hao : a ≠ o := fun e => by rw [e, hTo] at ha; rcases ha with q | q | q | q <;> cases q
      exact ⟨rfl, rfl, (hV a hao).1, rfl⟩
    have mdl : ∀ (sg : MS) (post : MS → Prop) (acc : List Int32), rdM b n sg p → sg 0 21 = 0 → layR sg acc → acc.length ≤ p → (tNum b n p 0 9999 = 0 → ∀ s9, fL sg s9 → rdM b n s9 (tNx b n p) → layR s9 (acc ++ [nI (tVl b n p)]) → post s9) → (tNum b n p 0 9999 ≠ 0 → post (wr sg (nI (tNum b n p 0 9999)) p)) → wM_readPart sg rM y1 post := by
      intro sg post acc hM h0 hl ha k kf
      unfold wM_readPart
      rw [if_pos h0, if_pos (show sg 0 17 = 2 from (kin_nI hM (by decide)).mpr k2)]
      refine sM_readNum (lo := 0) (hi := 9999) ht hM h0 (by decide) (by decide) (fun e0 s9 f9 m9 => ?_) (fun e0 => sM_layB (wr_b e0 (by have := tNum_le (b := b) (n := n) (p := p) (lo := 0) (hi := 9999); omega)) (kf e0))
      exact sM_lay ht ((f9.2 21 rfl).trans h0) (layR.s f9 hl) (by omega) (fun s8 f8 e8 l8 => k e0 s8 (f9.L.tr f8) (m9.L f8 e8) l8)
    by_cases e0 : tNum b n p 0 9999 = 0
    · refine Or.inl ⟨tNx b n p, [nI (tVl b n p)], 1, 1, fun _ => nI (tVl b n p), hp2, hp2n, (by show 0 < 1; decide), by show 1 ≤ _; omega, hN, by omega, ?_, ?_⟩
      · intro U z T L V P post xp hU hf hX k
        exact cls U z T L V P post xp (by omega) hf hX (fun _ => k) (fun q => absurd e0 q)
      · intro sg post acc hM h0 hl ha k
        exact mdl sg post acc hM h0 hl ha (fun _ => k) (fun q => absurd e0 q)
    · have hk : nI (tNum b n p 0 9999) ≠ 0 := nI_ne0 (by omega) (by have := tNum_le (b := b) (n := n) (p := p) (lo := 0) (hi := 9999); omega)
      refine Or.inr ⟨nI (tNum b n p 0 9999), p, hk, Nat.le_refl _, hp, ?_, ?_⟩
      · intro U z T L V P post xp hU hf hX k
        exact cls U z T L V P post xp (by omega) hf hX (fun q => absurd q e0) (fun _ => k)
      · intro sg post acc hM h0 hl ha k
        exact mdl sg post acc hM h0 hl ha (fun q => absurd q e0) (fun _ => k _ (fB.wr _ _ _) wr_21 wr_22)
  · have c6 : ∀ (U z : Nat) (T L : Nat → Nat) (V : w_V) (P : w_P) (post : Nat → Nat → (Nat → Nat) → (Nat → Nat) → w_V → w_P → Prop) (xp : w_Xp), rdX ad b n T L V P r tx ax kx p → (tIs b n p [40] = false → ∃ b9 : Nat, P r 6 = some b9 ∧ (if (b9 = (ad 5) : Prop) then (jFX9_part_72 ad rX U z T L V P r 1 r post xp) else (jFX9_part_72 ad rX U z T L V P r 0 r post xp))) → (tIs b n p [40] = true → ∃ c58 U59 : Nat, U = c58 + U59 ∧ wFX9_go ad c58 z T L V P r (fun (z : Nat) (T L : Nat → Nat) (V61 : w_V) (P62 : w_P) => (T r = 8 ∧ (∃ c66 U67 : Nat, U59 = c66 + U67 ∧ rX c66 z T L V61 P62 r (x1 + 1) (fun (r72 : Nat) (z : Nat) (T L : Nat → Nat) (V69 : w_V) (P70 : w_P) => (T r = 8 ∧ eT T r72 ∧ (∀ s75 : Nat, T s75 = 0 → (∃ c77 U78 : Nat, U67 = c77 + U78 ∧ wFX9_need ad c77 z T L V69 P70 r s75 [41] (fun (z : Nat) (T L : Nat → Nat) (V80 : w_V) (P81 : w_P) => (eT T r72 ∧ (post r72 z T L V80 P81))) xp)))) xp)))) → wFX9_part ad rX U z T L V P r x1 post xp := by
      intro U z T L V P post xp hX ka kb
      unfold wFX9_part
      refine ⟨_, hX.2.2.2.2.1, ?_⟩
      rw [if_neg (show ¬ ad (srt (tKin b n p)) = ad 6 from fun e => k2 ((srt_iff (j := 2) hA t9kin_lt (by decide)).mp e))]
      intro s4 hs4
      refine sX_is hA ht hX (by decide) hs4 ?_
      cases e : tIs b n p [40] with
      | true => rw [if_neg (show ¬ b2 true = 0 by decide)]; exact kb e
      | false => rw [if_pos (show b2 false = 0 from rfl)]; exact ka e
    by_cases e40 : tIs b n p [40] = true
    · have k3 := ((t9tis_sg (by decide)).mp e40).1
      have hpn := (t9kin_3.mp k3).1
      have hp2 := t9nx_gt (b := b) hpn
      have hp2n := t9nx_le (b := b) hp
      have m6 : ∀ (sg : MS) (post : MS → Prop), rdM b n sg p → sg 0 21 = 0 → wM_stepOn sg (fun g2 => rM g2 (y1 + 1) (fun (g4 : MS) => (wM_mark g4 41 (fun (g6 : MS) => (post g6))))) → wM_readPart sg rM y1 post := by
        intro sg post hM h0 k
        unfold wM_readPart
        rw [if_pos h0, if_neg (show ¬ sg 0 17 = 2 from fun q => k2 ((kin_nI (j := 2) hM (by decide)).mp q)), if_neg (show ¬ sg 0 17 = 1 from fun q => by rw [(kin_nI (j := 1) hM (by decide)).mp q] at k3; cases k3)]
        unfold wM_mark
        rw [if_pos h0]
        refine sM_marked (c := 40) ht hM h0 (by decide) (by decide) ?_
        rw [e40, if_neg (show ¬ b2 true = 0 by decide)]
        unfold jM_mark_20
        rw [if_pos h0]
        exact k
      rcases hE (tNx b n p) hp2n with ⟨p3, l, nn, d, f, a1, a2, a3, a4, a5, a6, a7, a8⟩ | ⟨kd, pl, a1, a2, a3, a4, a5⟩
      · cases e41 : tIs b n p3 [41] with
        | true =>
          have hp3n := (t9kin_3.mp ((t9tis_sg (by decide)).mp e41).1).1
          have hp4 := t9nx_gt (b := b) hp3n
          have hp4n := t9nx_le (b := b) a2
          refine Or.inl ⟨tNx b n p3, l, nn, d, f, by omega, hp4n, a3, by omega, a5, by omega, ?_, ?_⟩
          · intro U z T L V P post xp hU hf hX k
            refine c6 U z T L V P post xp hX (fun q => by rw [e40] at q; cases q) (fun _ => ⟨10, U - 10, by omega, sX_goX hA ht hf hX (Nat.le_refl _) (fun zg Tg Lg Vg Pg g1 g2 => ⟨g2.1.1, 30 * (p3 - tNx b n p), U - 10 - 30 * (p3 - tNx b n p), by omega, a7 _ _ _ _ _ _ _ xp (Nat.le_refl _) g1.1 g2 (fun e z1 T1 L1 V1 P1 w1 w2 w3 => ⟨w2.1.1, w3.eT, fun s75 hs75 => ⟨U - 10 - 30 * (p3 - tNx b n p), 0, rfl, sX_need (U := U - 10 - 30 * (p3 - tNx b n p)) hA ht w1.1 w2 (by decide) hs75 (by omega) (fun _ => ?_) (fun q => by rw [e41] at q; cases q)⟩⟩)⟩)⟩)
            intro z4 T4 L4 V4 P4 u1 u2
            have h4 := w3.r w2.1.1 u1
            exact ⟨h4.eT, k e z4 T4 L4 V4 P4 ((g1.tr w1).tr u1) u2 h4⟩
          · intro sg post acc hM h0 hl ha k
            refine m6 sg post hM h0 (sM_go ht hM (fun g2 f2 m2 => a8 g2 _ acc m2 ((f2.2 21 rfl).trans h0) (layR.s f2 hl) (by omega) (fun g4 f4 m4 l4 => ?_)))
            refine sM_mark (c := 41) ht m4 ((f4.2.1 21 rfl).trans ((f2.2 21 rfl).trans h0)) (by decide) (by decide) (fun _ s9 f9 m9 => k s9 ((f2.L.tr f4).tr f9.L) m9 (layR.s f9 l4)) (fun q => by rw [e41] at q; cases q)
        | false =>
          refine Or.inr ⟨1, p3, by decide, by omega, a2, ?_, ?_⟩
          · intro U z T L V P post xp hU hf hX k
            exact c6 U z T L V P post xp hX (fun q => by rw [e40] at q; cases q) (fun _ => ⟨10, U - 10, by omega, sX_goX hA ht hf hX (Nat.le_refl _) (fun zg Tg Lg Vg Pg g1 g2 => ⟨g2.1.1, 30 * (p3 - tNx b n p), U - 10 - 30 * (p3 - tNx b n p), by omega, a7 _ _ _ _ _ _ _ xp (Nat.le_refl _) g1.1 g2 (fun e z1 T1 L1 V1 P1 w1 w2 w3 => ⟨w2.1.1, w3.eT, fun s75 hs75 => ⟨U - 10 - 30 * (p3 - tNx b n p), 0, rfl, sX_need (U := U - 10 - 30 * (p3 - tNx b n p)) hA ht w1.1 w2 (by decide) hs75 (by omega) (fun q => by rw [e41] at q; cases q) (fun _ => k.m (g1.tr w1))⟩⟩)⟩)⟩)
          · intro sg post acc hM h0 hl ha k
            refine m6 sg post hM h0 (sM_go ht hM (fun g2 f2 m2 => a8 g2 _ acc m2 ((f2.2 21 rfl).trans h0) (layR.s f2 hl) (by omega) (fun g4 f4 m4 l4 => ?_)))
            exact sM_mark (c := 41) ht m4 ((f4.2.1 21 rfl).trans ((f2.2 21 rfl).trans h0)) (by decide) (by decide) (fun q => by rw [e41] at q; cases q) (fun _ => k _ ((f2.L.tr f4).bb (fB.wr _ _ _)) wr_21 wr_22)
      · refine Or.inr ⟨kd, pl, a1, by omega, a3, ?_, ?_⟩
        · intro U z T L V P post xp hU hf hX k
          exact c6 U z T L V P post xp hX (fun q => by rw [e40] at q; cases q) (fun _ => ⟨10, U - 10, by omega, sX_goX hA ht hf hX (Nat.le_refl _) (fun zg Tg Lg Vg Pg g1 g2 => ⟨g2.1.1, U - 10, 0, rfl, a4 _ _ _ _ _ _ _ xp (by omega) g1.1 g2 (k.m g1)⟩)⟩)
        · intro sg post acc hM h0 hl ha k
          exact m6 sg post hM h0 (sM_go ht hM (fun g2 f2 m2 => a5 g2 _ acc m2 ((f2.2 21 rfl).trans h0) (layR.s f2 hl) (by omega) (fun g4 f4 m4 l4 => sM_markB (by rw [m4]; exact a1) (k _ (f2.L.bb f4) m4 l4))))
    · have e40f : tIs b n p [40] = false := by simpa using e40
      by_cases k1 : tKin b n p = 1
      · have hpn := (t9kin_1.mp k1).1
        have hp2 := t9nx_gt (b := b) hpn
        have hp2n := t9nx_le (b := b) hp
        have c1 : ∀ (U z : Nat) (T L : Nat → Nat) (V : w_V) (P : w_P) (post : Nat → Nat → (Nat → Nat) → (Nat → Nat) → w_V → w_P → Prop) (xp : w_Xp), 30 ≤ U → frs z T → rdX ad b n T L V P r tx ax kx p → (∀ i, i < 5 → tIs b n p (vls.getD i []) = true → ∀ (e z' : Nat) (T' L' : Nat → Nat) (V' : w_V) (P' : w_P), xr r z T L V P z' T' L' V' P' → rdX ad b n T' L' V' P' r tx ax kx (tNx b n p) → exprR ad T' V' P' 1 e [-1 - nI i] 1 (fun as => as i) → post e z' T' L' V' P') → ((∀ i, i < 5 → tIs b n p (vls.getD i []) = false) → xfC xp r z T L V P 3 p) → wFX9_part ad rX U z T L V P r x1 post xp := by
          intro U z T L V P post xp hU hf hX k kf
          refine c6 U z T L V P post xp hX (fun _ => ?_) (fun q => by rw [e40f] at q; cases q)
          refine ⟨_, hX.2.2.2.2.1, ?_⟩
          rw [if_pos (by rw [k1]; rfl)]
          unfold jFX9_part_72
          obtain ⟨w, w1, w2⟩ := hX.2.2.2.2.2.1 (Or.inl k1)
          refine ⟨0, U, (Nat.zero_add U).symm, sX_check1 ⟨hX.1.1, w, w1, w2.1, sX_valueOf ht hX k1 w1 (fun i hi hv => ⟨fun q => (by cases q), fun b26 hb26 => ?_⟩) (fun hno => ⟨fun _ => ?_, fun b26 q => by cases q⟩)⟩⟩
          · unfold jFX9_part_94
            refine ⟨0, U, (Nat.zero_add U).symm, sX_check1 ⟨hX.1.1, 10, U - 10, by omega, sX_goX hA ht hf hX (Nat.le_refl _) (fun zg Tg Lg Vg Pg g1 g2 => ⟨U - 11, by omega, ?_⟩)⟩⟩
            intro o zo To Lo Vo Po hw
            obtain ⟨x0, x2, x3, x4, x5, x6, x7, -⟩ := xr.nw (r := r) g1.1 hw (by rw [g2.1.1]; decide)
            refine ⟨0, U - 11, (Nat.zero_add _).symm, ?_⟩
            unfold wFX13_init
            intro P2 e2
            have hV : ∀ a, a ≠ o → Vo a = Vo a ∧ P2 a = Po a := fun a ha => ⟨rfl, by rw [e2]; exact up2_n ha⟩
            have hX2 : rdX ad b n To Lo Vo Po r tx ax kx (tNx b n p) := g2.x (fun a ha => x7 a (by rcases ha with q | q | q | q <;> (rw [q]; decide)))
            refine ⟨x3, k i hi hv o zo To Lo Vo P2 (g1.tr (x0.put x2 (by rw [g2.1.1]; decide) hV)) (hX2.x (fun a ha => ?_)) (Or.inr (Or.inl ⟨x3, i, hi, ?_, rfl, Nat.le_refl _, rfl⟩))⟩
            · have hao : a ≠ o := fun e => by rw [e, x3] at ha; rcases ha with q | q | q | q <;> cases q
              exact ⟨rfl, rfl, rfl, (hV a hao).2⟩
            · rw [e2, up2_a, if_pos rfl]
          · unfold jFX9_part_94
            exact ⟨U, 0, rfl, sX_check0 hf hX (by omega) (kf hno)⟩
        have m1 : ∀ (sg : MS) (post : MS → Prop) (acc : List Int32), rdM b n sg p → sg 0 21 = 0 → layR sg acc → acc.length ≤ p → (∀ i, i < 5 → tIs b n p (vls.getD i []) = true → ∀ s9, fL sg s9 → rdM b n s9 (tNx b n p) → layR s9 (acc ++ [-1 - nI i]) → post s9) → ((∀ i, i < 5 → tIs b n p (vls.getD i []) = false) → post (wr sg 3 p)) → wM_readPart sg rM y1 post := by
          intro sg post acc hM h0 hl ha k kf
          unfold wM_readPart
          rw [if_pos h0, if_neg (show ¬ sg 0 17 = 2 from fun q => k2 ((kin_nI (j := 2) hM (by decide)).mp q)), if_pos (show sg 0 17 = 1 from (kin_nI hM (by decide)).mpr k1)]
          refine sM_which (ws := vls) ht hM h0 (by decide) (fun i hi => ?_) (fun i hi hv _ => ?_) (fun hno => ?_)
          · have : i < 5 := hi
            rcases (show i = 0 ∨ i = 1 ∨ i = 2 ∨ i = 3 ∨ i = 4 by omega) with e | e | e | e | e <;> subst e
            · exact ⟨112, _, rfl, by decide, by decide, by decide⟩
            · exact ⟨104, _, rfl, by decide, by decide, by decide⟩
            · exact ⟨100, _, rfl, by decide, by decide, by decide⟩
            · exact ⟨116, _, rfl, by decide, by decide, by decide⟩
            · exact ⟨115, _, rfl, by decide, by decide, by decide⟩
          · have hi5 : i < 5 := hi
            rw [if_neg (nI_ne1 (by omega))]
            unfold jM_readPart_56
            refine sM_lay ht h0 hl (by omega) (fun s9 f9 e9 l9 => ?_)
            have h09 : s9 0 21 = 0 := by rw [e9]; exact h0
            rw [if_pos h09]
            refine sM_go ht (hM.L f9 e9) (fun s8 f8 m8 => k i hi hv s8 (f9.tr f8.L) m8 (layR.s f8 l9))
          · rw [if_pos rfl]
            refine sM_wrong hM.2.2.1 h0 ?_
            unfold jM_readPart_56
            have hb : ¬ wr sg 3 p 0 21 = 0 := by rw [wr_21]; decide
            refine sM_layB hb ?_
            rw [if_neg hb]
            exact kf hno
        by_cases hv : ∃ i, i < 5 ∧ tIs b n p (vls.getD i []) = true
        · obtain ⟨i, hi, hv⟩ := hv
          have uniq : ∀ j, j < 5 → tIs b n p (vls.getD j []) = true → j = i := fun j hj hvj => by
            have e1 := (t9tis_iff.mp hv).2
            have e2 := (t9tis_iff.mp hvj).2
            have : ∀ i, i < 5 → ∀ j, j < 5 → vls.getD i [] = vls.getD j [] → j = i := by decide
            exact this i hi j hj (e1.symm.trans e2)
          refine Or.inl ⟨tNx b n p, [-1 - nI i], 1, 1, fun as => as i, hp2, hp2n, (by show 0 < 1; decide), by show 1 ≤ _; omega, hN, by omega, ?_, ?_⟩
          · intro U z T L V P post xp hU hf hX k
            exact c1 U z T L V P post xp (by omega) hf hX (fun j hj hvj => by rw [uniq j hj hvj]; exact k) (fun q => by rw [q i hi] at hv; cases hv)
          · intro sg post acc hM h0 hl ha k
            exact m1 sg post acc hM h0 hl ha (fun j hj hvj => by rw [uniq j hj hvj]; exact k) (fun q => by rw [q i hi] at hv; cases hv)
        · have hno : ∀ i, i < 5 → tIs b n p (vls.getD i []) = false := fun i hi => by
            cases e : tIs b n p (vls.getD i []) with
            | false => rfl
            | true => exact absurd ⟨i, hi, e⟩ hv
          refine Or.inr ⟨3, p, by decide, Nat.le_refl _, hp, ?_, ?_⟩
          · intro U z T L V P post xp hU hf hX k
            exact c1 U z T L V P post xp (by omega) hf hX (fun j hj hvj => by rw [hno j hj] at hvj; cases hvj) (fun _ => k)
          · intro sg post acc hM h0 hl ha k
            exact m1 sg post acc hM h0 hl ha (fun j hj hvj => by rw [hno j hj] at hvj; cases hvj) (fun _ => k _ (fB.wr _ _ _) wr_21 wr_22)
      · refine Or.inr ⟨1, p, by decide, Nat.le_refl _, hp, ?_, ?_⟩
        · intro U z T L V P post xp hU hf hX k
          refine c6 U z T L V P post xp hX (fun _ => ?_) (fun q => by rw [e40f] at q; cases q)
          refine ⟨_, hX.2.2.2.2.1, ?_⟩
          rw [if_neg (show ¬ ad (srt (tKin b n p)) = ad 5 from fun e => k1 ((srt_iff (j := 1) hA t9kin_lt (by decide)).mp e))]
          unfold jFX9_part_72
          exact ⟨U, 0, rfl, sX_check0 hf hX (by omega) k⟩
        · intro sg post acc hM h0 hl ha k
          show wM_readPart sg rM y1 post
          unfold wM_readPart
          rw [if_pos h0, if_neg (show ¬ sg 0 17 = 2 from fun q => k2 ((kin_nI (j := 2) hM (by decide)).mp q)), if_neg (show ¬ sg 0 17 = 1 from fun q => k1 ((kin_nI (j := 1) hM (by decide)).mp q))]
          refine sM_mark (c := 40) ht hM h0 (by decide) (by decide) (fun q => by rw [e40f] at q; cases q) (fun _ => ?_)
          have hb : ¬ wr sg 1 p 0 21 = 0 := by rw [wr_21]; decide
          exact hbE _ _ hb (sM_markB hb (k _ (fB.wr _ _ _) wr_21 wr_22))
end B
