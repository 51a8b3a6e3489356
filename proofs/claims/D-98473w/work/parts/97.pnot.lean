/-! PURE: not at both -/
set_option maxRecDepth 100000
section B
variable {ad b : Nat → Nat} {n r tx ax kx : Nat}
theorem nots (hA : hAd ad) (ht : tOk b n) : ∀ m k p, n - p < m → p ≤ n → k ≤ 6 →
    (∃ p1 k1, p ≤ p1 ∧ p1 ≤ n ∧ k ≤ k1 ∧ k1 ≤ 6 ∧ k1 - k ≤ p1 - p ∧
      (∀ (rX : rEF) (x1 : Int32) (U z : Nat) (T L : Nat → Nat) (V : w_V) (P : w_P) (post : Nat → Nat → (Nat → Nat) → (Nat → Nat) → w_V → w_P → Prop) (xp : w_Xp) (ke : Nat → Nat → (Nat → Nat) → (Nat → Nat) → w_V → w_P → Int32 → Prop), 20 * (p1 - p) ≤ U → frs z T → rdX ad b n T L V P r tx ax kx p → (∀ (U' z' : Nat) (T' L' : Nat → Nat) (V' : w_V) (P' : w_P), U ≤ U' + 20 * (p1 - p) → xr r z T L V P z' T' L' V' P' → rdX ad b n T' L' V' P' r tx ax kx p1 → ke U' z' T' L' V' P' (nI k1)) → lFX9_not_2 ad rX r x1 post xp ke m U z T L V P (nI k)) ∧
      (∀ (rM : MS → Int32 → (MS → Prop) → Prop) (y1 : Int32) (post : MS → Prop) (ke : Int32 → MS → Prop) (sg : MS), rdM b n sg p → sg 0 21 = 0 → (∀ s9, fS sg s9 → rdM b n s9 p1 → ke (nI k1) s9) → lM_readNot_2 rM y1 post ke m (nI k) sg)) ∨
    (∃ pl, p ≤ pl ∧ pl ≤ n ∧
      (∀ (rX : rEF) (x1 : Int32) (U z : Nat) (T L : Nat → Nat) (V : w_V) (P : w_P) (post : Nat → Nat → (Nat → Nat) → (Nat → Nat) → w_V → w_P → Prop) (xp : w_Xp) (ke : Nat → Nat → (Nat → Nat) → (Nat → Nat) → w_V → w_P → Int32 → Prop), 20 * (pl - p) + 20 ≤ U → frs z T → rdX ad b n T L V P r tx ax kx p → xfC xp r z T L V P 2 pl → lFX9_not_2 ad rX r x1 post xp ke m U z T L V P (nI k)) ∧
      (∀ (rM : MS → Int32 → (MS → Prop) → Prop) (y1 : Int32) (post : MS → Prop) (ke : Int32 → MS → Prop) (sg : MS), rdM b n sg p → sg 0 21 = 0 → (∀ s9, fB sg s9 → s9 0 21 = 2 → s9 0 22 = nI pl → ke 7 s9) → lM_readNot_2 rM y1 post ke m (nI k) sg)) := by
  have hn6 := ht.1
  intro m
  induction m with
  | zero => intro k p h; omega
  | succ m ih =>
    intro k p hm hp hk
    cases e : tIs b n p [110, 111, 116] with
    | false =>
      refine Or.inl ⟨p, k, Nat.le_refl _, hp, Nat.le_refl _, hk, by omega, ?_, ?_⟩
      · intro rX x1 U z T L V P post xp ke hU hf hX kk
        unfold lFX9_not_2
        intro s1 hs1
        refine sX_is hA ht hX (by decide) hs1 ?_
        rw [e, if_pos (show b2 false = 0 from rfl)]
        exact kk U z T L V P (by omega) (xr.rf hf) hX
      · intro rM y1 post ke sg hM h0 kk
        unfold lM_readNot_2
        refine sM_is ht hM h0 (by decide) (by decide) ?_
        rw [e, if_pos (show b2 false = 0 from rfl)]
        exact kk sg (fS.rf sg) hM
    | true =>
      have hpn : p < n := tis_lt e
      have hp2 := t9nx_gt (b := b) hpn
      have hp2n := t9nx_le (b := b) hp
      by_cases k6 : k = 6
      · subst k6
        refine Or.inr ⟨p, Nat.le_refl _, hp, ?_, ?_⟩
        · intro rX x1 U z T L V P post xp ke hU hf hX kk
          unfold lFX9_not_2
          intro s1 hs1
          refine sX_is hA ht hX (by decide) hs1 ?_
          rw [e, if_neg (show ¬ b2 true = 0 by decide), if_pos (show (6 : Int32) ≤ nI 6 by decide)]
          unfold jFX9_not_23
          exact ⟨U, 0, rfl, sX_check0 hf hX (by omega) kk⟩
        · intro rM y1 post ke sg hM h0 kk
          obtain ⟨m', rfl⟩ : ∃ m', m = m' + 1 := ⟨m - 1, by omega⟩
          unfold lM_readNot_2
          refine sM_is ht hM h0 (by decide) (by decide) ?_
          rw [e, if_neg (show ¬ b2 true = 0 by decide), if_pos (show nI 6 = (6 : Int32) from rfl)]
          refine sM_wrong hM.2.2.1 h0 ?_
          have hb : ¬ wr sg 2 p 0 21 = 0 := by rw [wr_21]; decide
          unfold jM_readNot_22
          rw [if_neg hb]
          unfold lM_readNot_2
          refine sM_isB hb ?_
          rw [if_pos rfl]
          exact kk _ (fB.wr _ _ _) wr_21 wr_22
      · have c : ∀ (rX : rEF) (x1 : Int32) (U z : Nat) (T L : Nat → Nat) (V : w_V) (P : w_P) (post : Nat → Nat → (Nat → Nat) → (Nat → Nat) → w_V → w_P → Prop) (xp : w_Xp) (ke : Nat → Nat → (Nat → Nat) → (Nat → Nat) → w_V → w_P → Int32 → Prop), 20 ≤ U → frs z T → rdX ad b n T L V P r tx ax kx p → (∀ (z' : Nat) (T' L' : Nat → Nat) (V' : w_V) (P' : w_P), xr r z T L V P z' T' L' V' P' → rdX ad b n T' L' V' P' r tx ax kx (tNx b n p) → lFX9_not_2 ad rX r x1 post xp ke m (U - 10) z' T' L' V' P' (nI (k + 1))) → lFX9_not_2 ad rX r x1 post xp ke (m + 1) U z T L V P (nI k) := by
          intro rX x1 U z T L V P post xp ke hU hf hX kk
          unfold lFX9_not_2
          intro s1 hs1
          refine sX_is hA ht hX (by decide) hs1 ?_
          rw [e, if_neg (show ¬ b2 true = 0 by decide), if_neg (show ¬ (6 : Int32) ≤ nI k from nI_ge (b := 6) (by omega) (by omega))]
          unfold jFX9_not_23
          refine ⟨0, U, (Nat.zero_add U).symm, sX_check1 ⟨hX.1.1, 10, U - 10, by omega, sX_goX hA ht hf hX (Nat.le_refl _) (fun z' T' L' V' P' g1 g2 => ⟨g2.1.1, ?_⟩)⟩⟩
          rw [nI_1]
          exact kk z' T' L' V' P' g1 g2
        have mm : ∀ (rM : MS → Int32 → (MS → Prop) → Prop) (y1 : Int32) (post : MS → Prop) (ke : Int32 → MS → Prop) (sg : MS), rdM b n sg p → sg 0 21 = 0 → (∀ s9, fS sg s9 → rdM b n s9 (tNx b n p) → lM_readNot_2 rM y1 post ke m (nI (k + 1)) s9) → lM_readNot_2 rM y1 post ke (m + 1) (nI k) sg := by
          intro rM y1 post ke sg hM h0 kk
          unfold lM_readNot_2
          refine sM_is ht hM h0 (by decide) (by decide) ?_
          rw [e, if_neg (show ¬ b2 true = 0 by decide), if_neg (show ¬ nI k = 6 from fun q => k6 ((nI_eq (b := 6) (by omega) (by omega)).mp q))]
          unfold jM_readNot_22
          rw [if_pos h0, nI_1]
          exact sM_go ht hM kk
        rcases ih (k + 1) (tNx b n p) (by omega) hp2n (by omega) with ⟨p1, k1, a1, a2, a3, a4, a5, a6, a7⟩ | ⟨pl, a1, a2, a3, a4⟩
        · refine Or.inl ⟨p1, k1, by omega, a2, by omega, a4, by omega, ?_, ?_⟩
          · intro rX x1 U z T L V P post xp ke hU hf hX kk
            exact c rX x1 U z T L V P post xp ke (by omega) hf hX (fun z' T' L' V' P' g1 g2 => a6 rX x1 (U - 10) z' T' L' V' P' post xp ke (by omega) g1.1 g2 (fun U2 z2 T2 L2 V2 P2 w0 w1 w2 => kk U2 z2 T2 L2 V2 P2 (by omega) (g1.tr w1) w2))
          · intro rM y1 post ke sg hM h0 kk
            exact mm rM y1 post ke sg hM h0 (fun s9 f9 m9 => a7 rM y1 post ke s9 m9 ((f9.2 21 rfl).trans h0) (fun s8 f8 m8 => kk s8 (f9.tr f8) m8))
        · refine Or.inr ⟨pl, by omega, a2, ?_, ?_⟩
          · intro rX x1 U z T L V P post xp ke hU hf hX kk
            exact c rX x1 U z T L V P post xp ke (by omega) hf hX (fun z' T' L' V' P' g1 g2 => a3 rX x1 (U - 10) z' T' L' V' P' post xp ke (by omega) g1.1 g2 (kk.m g1))
          · intro rM y1 post ke sg hM h0 kk
            exact mm rM y1 post ke sg hM h0 (fun s9 f9 m9 => a4 rM y1 post ke s9 m9 ((f9.2 21 rfl).trans h0) (fun s8 f8 m8 => kk s8 (f9.L.bb f8) m8))
def wrF : Nat → ((Nat → Int32) → Int32) → (Nat → Int32) → Int32
  | 0, f => f
  | k + 1, f => wrF k (fun as => if f as = 0 then 1 else 0)
theorem wrapX {rX : rEF} {post : Nat → Nat → (Nat → Nat) → (Nat → Nat) → w_V → w_P → Prop} {xp : w_Xp} {ke : Nat → Nat → (Nat → Nat) → (Nat → Nat) → w_V → w_P → Nat → Prop} {p : Nat} : ∀ (k U z : Nat) (T L : Nat → Nat) (V : w_V) (P : w_P) (e d nn : Nat) (l : List Int32) (f : (Nat → Int32) → Int32), k ≤ U → k < 1000 → frs z T → rdX ad b n T L V P r tx ax kx p → exprR ad T V P d e l nn f → (∀ (e' U' z' : Nat) (T' L' : Nat → Nat) (V' : w_V) (P' : w_P), xr r z T L V P z' T' L' V' P' → rdX ad b n T' L' V' P' r tx ax kx p → exprR ad T' V' P' (d + k) e' (l ++ List.replicate k (-28)) nn (wrF k f) → ke U' z' T' L' V' P' e') → lFX9_not_91 ad rX post xp ke (k + 1) U z T L V P (nI k) e := by
  intro k
  induction k with
  | zero =>
    intro U z T L V P e d nn l f hU hk hf hX he kk
    unfold lFX9_not_91
    rw [if_pos (by decide)]
    exact kk e U z T L V P (xr.rf hf) hX (by rw [show List.replicate 0 (-28 : Int32) = [] from rfl, List.append_nil]; exact he)
  | succ k ih =>
    intro U z T L V P e d nn l f hU hk hf hX he kk
    have hr0 : T r ≠ 0 := ne0 hX.1.1
    unfold lFX9_not_91
    rw [if_neg (nI_nle (by omega) (by omega))]
    refine ⟨U - 1, by omega, ?_⟩
    intro o zo To Lo Vo Po hw
    obtain ⟨x0, x2, x3, x4, x5, x6, x7, -⟩ := xr.nw (r := r) hf hw hr0
    refine ⟨eT_xr x0 he.eT, 0, U - 1, (Nat.zero_add _).symm, ?_⟩
    unfold wFX15_init
    intro P2 e2
    have hV : ∀ a, a ≠ o → Vo a = Vo a ∧ P2 a = Po a := fun a ha => ⟨rfl, by rw [e2]; exact up2_n ha⟩
    have hX1 : rdX ad b n To Lo Vo Po r tx ax kx p := hX.x (fun a ha => x7 a (by rcases ha with q | q | q | q <;> (rw [q]; decide)))
    have hX2 : rdX ad b n To Lo Vo P2 r tx ax kx p := hX1.x (fun a ha => by
      have hao : a ≠ o := fun e => by rw [e, x3] at ha; rcases ha with q | q | q | q <;> cases q
      exact ⟨rfl, rfl, rfl, (hV a hao).2⟩)
    have he1 : exprR ad To Vo Po d e l nn f := he.r hX.1.1 x0
    have he2 : exprR ad To Vo P2 d e l nn f := he1.put (o := o) (Or.inr ⟨x3, by rw [x6]⟩) hV
    have he3 : exprR ad To Vo P2 (d + 1) o (l ++ [-28]) nn (fun as => if f as = 0 then 1 else 0) := Or.inr (Or.inr (Or.inl ⟨x3, e, l, f, by rw [e2, up2_a, if_pos rfl], he2, rfl, rfl⟩))
    have y0 : xr r z T L V P zo To Lo Vo P2 := x0.put x2 hr0 hV
    refine ⟨x3, ?_⟩
    rw [show nI (k + 1) + -1 = nI k by rw [← nI_pred k, Int32.sub_eq_add_neg]]
    refine ih (U - 1) zo To Lo Vo P2 o (d + 1) nn (l ++ [-28]) _ (by omega) (by omega) y0.1 hX2 he3 (fun e' U' z' T' L' V' P' w1 w2 w3 => kk e' U' z' T' L' V' P' (y0.tr w1) w2 ?_)
    rw [show d + (k + 1) = d + 1 + k by omega, show List.replicate (k + 1) (-28 : Int32) = -28 :: List.replicate k (-28) from rfl]
    rw [List.append_assoc] at w3
    exact w3
theorem wrapM (ht : tOk b n) {rM : MS → Int32 → (MS → Prop) → Prop} {post : MS → Prop} : ∀ (j i : Nat) (sg : MS) (acc : List Int32), i + j < 1000 → sg 0 21 = 0 → layR sg acc → acc.length + j ≤ 600 → (∀ s9, fL sg s9 → s9 0 = sg 0 → layR s9 (acc ++ List.replicate j (-28)) → post s9) → lM_readNot_95 rM (nI (i + j)) post (j + 1) (nI i) sg := by
  intro j
  induction j with
  | zero =>
    intro i sg acc hk h0 hl ha kk
    unfold lM_readNot_95
    rw [if_pos (nI_le (by omega) (by omega))]
    exact kk sg ⟨fun _ _ _ _ => rfl, fun _ _ => rfl, fun _ _ => rfl, fun _ _ => rfl⟩ rfl (by rw [show List.replicate 0 (-28 : Int32) = [] from rfl, List.append_nil]; exact hl)
  | succ j ih =>
    intro i sg acc hk h0 hl ha kk
    unfold lM_readNot_95
    rw [if_neg (nI_ge (by omega) (by omega))]
    refine sM_lay ht h0 hl (by omega) (fun s9 f9 e9 l9 => ?_)
    rw [nI_1, show i + (j + 1) = i + 1 + j by omega]
    refine ih (i + 1) s9 (acc ++ [-28]) (by omega) (by rw [e9]; exact h0) l9 ?_ (fun s8 f8 e8 l8 => kk s8 (f9.tr f8) (e8.trans e9) ?_)
    · rw [List.length_append]
      show acc.length + 1 + j ≤ 600
      omega
    · rw [show List.replicate (j + 1) (-28 : Int32) = -28 :: List.replicate j (-28) from rfl]
      rw [List.append_assoc] at l8
      exact l8
theorem wrapB {rM : MS → Int32 → (MS → Prop) → Prop} {post : MS → Prop} : ∀ (j i : Nat) (sg : MS), i + j < 1000 → ¬ sg 0 21 = 0 → post sg → lM_readNot_95 rM (nI (i + j)) post (j + 1) (nI i) sg := by
  intro j
  induction j with
  | zero =>
    intro i sg hk h0 kk
    unfold lM_readNot_95
    rw [if_pos (nI_le (by omega) (by omega))]
    exact kk
  | succ j ih =>
    intro i sg hk h0 kk
    unfold lM_readNot_95
    rw [if_neg (nI_ge (by omega) (by omega))]
    refine sM_layB h0 ?_
    rw [nI_1, show i + (j + 1) = i + 1 + j by omega]
    exact ih (i + 1) sg (by omega) h0 kk
/-- after the nots, the model being bad -/
theorem notB {rM : MS → Int32 → (MS → Prop) → Prop} {y1 : Int32} {post : MS → Prop} {k : Nat} (hk : k < 1000) {sg : MS} (hb : ¬ sg 0 21 = 0) (kk : post sg) : (wM_readSum sg rM y1 (fun (g12 : MS) => (wM_isMarked g12 60 (fun (r13 : Int32) => (if (r13 = 0 : Prop) then (wM_isMarked g12 61 (fun (r26 : Int32) => (if (r26 = 0 : Prop) then (jM_readNot_93 g12 rM (nI k) post) else (jM_readNot_62 g12 rM y1 (nI k) post)))) else (jM_readNot_62 g12 rM y1 (nI k) post)))))) := by
  refine bd_sum rM y1 sg _ hb (sM_markedB hb ?_)
  rw [if_pos rfl]
  refine sM_markedB hb ?_
  rw [if_pos rfl]
  unfold jM_readNot_93
  have := wrapB (rM := rM) k 0 sg (by omega) hb kk
  rw [Nat.zero_add] at this
  exact ⟨_, this⟩
theorem bd_not (rM : MS → Int32 → (MS → Prop) → Prop) (y1 : Int32) : bdM (fun sg post => wM_readNot sg rM y1 post) := by
  intro sg post hb k
  show wM_readNot sg rM y1 post
  unfold wM_readNot
  refine ⟨1, ?_⟩
  unfold lM_readNot_2
  refine sM_isB hb ?_
  rw [if_pos rfl]
  exact notB (k := 0) (by decide) hb k
theorem run_not (hA : hAd ad) (ht : tOk b n) {N2 : Nat} {rX : rEF} {rM : MS → Int32 → (MS → Prop) → Prop} {x1 y1 : Int32} (h2 : ∀ p, p ≤ n → Run ad b n r tx ax kx N2 p (fun U z T L V P post xp => wFX9_sum ad rX U z T L V P r x1 post xp) (fun sg post => wM_readSum sg rM y1 post)) {p : Nat} (hp : p ≤ n) : Run ad b n r tx ax kx (N2 + 1) p (fun U z T L V P post xp => wFX9_not ad rX U z T L V P r x1 post xp) (fun sg post => wM_readNot sg rM y1 post) := by
  have hn6 := ht.1
  rcases nots (r := r) (tx := tx) (ax := ax) (kx := kx) hA ht (n + 1) 0 p (by omega) hp (by omega) with ⟨p1, k1, a1, a2, a3, a4, a5, a6, a7⟩ | ⟨pl, a1, a2, a3, a4⟩
  · rcases h2 p1 a2 with ⟨p2, l2, n2, d2, f2, b1, b2', b3, b4, b5, b6, b7, b8⟩ | ⟨kd, pl, b1, b2', b3, b4, b5⟩
    · -- the sum is read; is it compared?
      have cls : ∀ (U z : Nat) (T L : Nat → Nat) (V : w_V) (P : w_P) (post : Nat → Nat → (Nat → Nat) → (Nat → Nat) → w_V → w_P → Prop) (xp : w_Xp), 30 * (p2 - p) ≤ U → frs z T → rdX ad b n T L V P r tx ax kx p → (∀ (U' z' : Nat) (T' L' : Nat → Nat) (V' : w_V) (P' : w_P) (e : Nat), U + k1 ≤ U' + 30 * (p2 - p) → xr r z T L V P z' T' L' V' P' → rdX ad b n T' L' V' P' r tx ax kx p2 → exprR ad T' V' P' d2 e l2 n2 f2 → (tIs b n p2 [60] = false → tIs b n p2 [61] = false → ∃ m, lFX9_not_91 ad rX post xp (fun (U114 z : Nat) (T L : Nat → Nat) (V112 : w_V) (P113 : w_P) (y116 : Nat) => (post y116 z T L V112 P113)) m U' z' T' L' V' P' (nI k1) e) ∧ ((tIs b n p2 [60] = true ∨ tIs b n p2 [61] = true) → jFX9_not_61 ad rX U' z' T' L' V' P' r x1 (nI k1) e post xp)) → wFX9_not ad rX U z T L V P r x1 post xp := by
        intro U z T L V P post xp hU hf hX k
        unfold wFX9_not
        refine ⟨n + 1, a6 rX x1 U z T L V P post xp _ (by omega) hf hX (fun U1 z1 T1 L1 V1 P1 g0 g1 g2 => ?_)⟩
        refine ⟨30 * (p2 - p1), U1 - 30 * (p2 - p1), by omega, b7 _ z1 T1 L1 V1 P1 _ xp (Nat.le_refl _) g1.1 g2 (fun e z2 T2 L2 V2 P2 w1 w2 w3 => ⟨w2.1.1, w3.eT, ?_⟩)⟩
        obtain ⟨q1, q2⟩ := k (U1 - 30 * (p2 - p1)) z2 T2 L2 V2 P2 e (by omega) (g1.tr w1) w2 w3
        intro s38 hs38
        refine sX_is hA ht w2 (by decide) hs38 ?_
        cases e60 : tIs b n p2 [60] with
        | true => rw [if_neg (show ¬ b2 true = 0 by decide)]; exact q2 (Or.inl e60)
        | false =>
          rw [if_pos (show b2 false = 0 from rfl)]
          intro s107 hs107
          refine sX_is hA ht w2 (by decide) hs107 ?_
          cases e61 : tIs b n p2 [61] with
          | true => rw [if_neg (show ¬ b2 true = 0 by decide)]; exact q2 (Or.inr e61)
          | false => rw [if_pos (show b2 false = 0 from rfl)]; exact q1 e60 e61
      have mdl : ∀ (sg : MS) (post : MS → Prop) (acc : List Int32), rdM b n sg p → sg 0 21 = 0 → layR sg acc → acc.length ≤ p → (∀ s9, fL sg s9 → rdM b n s9 p2 → layR s9 (acc ++ l2) → s9 0 21 = 0 → (tIs b n p2 [60] = false → tIs b n p2 [61] = false → jM_readNot_93 s9 rM (nI k1) post) ∧ (tIs b n p2 [60] = true → jM_readNot_78 s9 rM y1 (nI k1) (-24) post) ∧ (tIs b n p2 [60] = false → tIs b n p2 [61] = true → jM_readNot_78 s9 rM y1 (nI k1) (-25) post)) → wM_readNot sg rM y1 post := by
        intro sg post acc hM h0 hl ha k
        unfold wM_readNot
        refine ⟨n + 1, a7 rM y1 post _ sg hM h0 (fun s9 f9 m9 => b8 s9 _ acc m9 ((f9.2 21 rfl).trans h0) (layR.s f9 hl) (by omega) (fun s8 f8 m8 l8 => ?_))⟩
        have h08 : s8 0 21 = 0 := (f8.2.1 21 rfl).trans ((f9.2 21 rfl).trans h0)
        obtain ⟨q1, q2, q3⟩ := k s8 (f9.L.tr f8) m8 l8 h08
        refine sM_marked (c := 60) ht m8 h08 (by decide) (by decide) ?_
        cases e60 : tIs b n p2 [60] with
        | true =>
          rw [if_neg (show ¬ b2 true = 0 by decide)]
          unfold jM_readNot_62
          refine sM_marked (c := 60) ht m8 h08 (by decide) (by decide) ?_
          rw [e60, if_neg (show ¬ b2 true = 0 by decide)]
          exact q2 e60
        | false =>
          rw [if_pos (show b2 false = 0 from rfl)]
          refine sM_marked (c := 61) ht m8 h08 (by decide) (by decide) ?_
          cases e61 : tIs b n p2 [61] with
          | true =>
            rw [if_neg (show ¬ b2 true = 0 by decide)]
            unfold jM_readNot_62
            refine sM_marked (c := 60) ht m8 h08 (by decide) (by decide) ?_
            rw [e60, if_pos (show b2 false = 0 from rfl)]
            exact q3 e60 e61
          | false => rw [if_pos (show b2 false = 0 from rfl)]; exact q1 e60 e61
      have hcmp : (tIs b n p2 [60] = false ∧ tIs b n p2 [61] = false) ∨ ∃ c x, tIs b n p2 [c] = true ∧ tLt c = false ∧ c < 128 ∧ opC (nI c) x ∧ ((c = 60 ∧ x = -24 ∧ tIs b n p2 [60] = true) ∨ (c = 61 ∧ x = -25 ∧ tIs b n p2 [60] = false ∧ tIs b n p2 [61] = true)) := by
        cases e60 : tIs b n p2 [60] with
        | true => exact Or.inr ⟨60, -24, e60, by decide, by decide, by unfold opC; decide, Or.inl ⟨rfl, rfl, rfl⟩⟩
        | false =>
          cases e61 : tIs b n p2 [61] with
          | true => exact Or.inr ⟨61, -25, e61, by decide, by decide, by unfold opC; decide, Or.inr ⟨rfl, rfl, rfl, rfl⟩⟩
          | false => exact Or.inl ⟨rfl, rfl⟩
      rcases hcmp with ⟨e60, e61⟩ | ⟨c, x, ec, hc, hc2, hop, hcx⟩
      · refine Or.inl ⟨p2, l2 ++ List.replicate k1 (-28), n2, d2 + k1, wrF k1 f2, by omega, b2', by rw [List.length_append]; omega, by rw [List.length_append, List.length_replicate]; omega, by omega, by omega, ?_, ?_⟩
        · intro U z T L V P post xp hU hf hX k
          exact cls U z T L V P post xp hU hf hX (fun U' z' T' L' V' P' e u0 u1 u2 u3 => ⟨fun _ _ => ⟨k1 + 1, wrapX k1 U' z' T' L' V' P' e d2 n2 l2 f2 (by omega) (by omega) u1.1 u2 u3 (fun e' U9 z9 T9 L9 V9 P9 v1 v2 v3 => k e' z9 T9 L9 V9 P9 (u1.tr v1) v2 v3)⟩, fun q => by rcases q with q | q; rw [e60] at q; cases q; rw [e61] at q; cases q⟩)
        · intro sg post acc hM h0 hl ha k
          refine mdl sg post acc hM h0 hl ha (fun s9 f9 m9 l9 h9 => ⟨fun _ _ => ?_, fun q => (by rw [e60] at q; cases q), fun _ q => (by rw [e61] at q; cases q)⟩)
          unfold jM_readNot_93
          have := wrapM (rM := rM) (post := post) ht k1 0 s9 (acc ++ l2) (by omega) h9 l9 (by rw [List.length_append]; omega) (fun s8 f8 e8 l8 => k s8 (f9.tr f8) (m9.L f8 e8) (by rw [← List.append_assoc]; exact l8))
          rw [Nat.zero_add] at this
          exact ⟨_, this⟩
      · have hp2n : p2 < n := tis_lt ec
        have hp3 := t9nx_gt (b := b) hp2n
        have hp3n := t9nx_le (b := b) b2'
        rcases h2 (tNx b n p2) hp3n with ⟨p4, l4, n4, d4, f4, c1, c2, c3, c4, c5, c6, c7, c8⟩ | ⟨kd, pl, c1, c2, c3, c4, c5⟩
        · refine Or.inl ⟨p4, (l2 ++ (l4 ++ [x])) ++ List.replicate k1 (-28), max n2 (n4 + 1), max d2 d4 + 1 + k1, wrF k1 (fun as => rk x (f2 as) (f4 as)), by omega, c2, ?_, ?_, by omega, by omega, ?_, ?_⟩
          · rw [List.length_append, List.length_append]; omega
          · rw [List.length_append, List.length_append, List.length_append, List.length_replicate]
            show l2.length + (l4.length + 1) + k1 ≤ _
            omega
          · intro U z T L V P post xp hU hf hX k
            refine cls U z T L V P post xp (by omega) hf hX (fun U' z' T' L' V' P' e u0 u1 u2 u3 => ⟨fun q1 q2 => ?_, fun _ => ?_⟩)
            · rcases hcx with ⟨-, -, q⟩ | ⟨-, -, -, q⟩
              · rw [q1] at q; cases q
              · rw [q2] at q; cases q
            · obtain ⟨w, w1, w2, w3⟩ := sgn_word u2 hc ec
              obtain ⟨cc1, cc2⟩ := opC_char hc2 hop
              unfold jFX9_not_61
              refine ⟨w, w1, w2, sX_charAt w3 hc2 ⟨10, U' - 10, by omega, sX_goX hA ht u1.1 u2 (Nat.le_refl _) (fun zg Tg Lg Vg Pg g1 g2 => ?_)⟩⟩
              have heg := u3.r u2.1.1 g1
              refine ⟨g2.1.1, heg.eT, U' - 11, by omega, ?_⟩
              intro o zo To Lo Vo Po hw
              obtain ⟨x0, x2, x3, x4, x5, x6, x7, -⟩ := xr.nw (r := r) g1.1 hw (by rw [g2.1.1]; decide)
              have hX2 : rdX ad b n To Lo Vo Po r tx ax kx (tNx b n p2) := g2.x (fun a ha => x7 a (by rcases ha with q | q | q | q <;> (rw [q]; decide)))
              refine ⟨hX2.1.1, eT_xr x0 heg.eT, 30 * (p4 - tNx b n p2), U' - 11 - 30 * (p4 - tNx b n p2), by omega, c7 _ _ _ _ _ _ _ xp (Nat.le_refl _) x0.1 hX2 (fun e2 z2 T2 L2 V2 P2 v1 v2 v3 => ?_)⟩
              have hTo : T2 o = 11 := (v1.2.2.1 o (by rw [x3]; decide)).1.trans x3
              refine ⟨eT_xr v1 (eT_xr x0 heg.eT), hTo, v3.eT, 0, U' - 11 - 30 * (p4 - tNx b n p2), (Nat.zero_add _).symm, ?_⟩
              unfold wFX14_init
              refine ⟨cc1, cc2, fun V3 e3 P4 e4 P5 e5 => ⟨hTo, ?_⟩⟩
              obtain ⟨y1, y2, y3⟩ := both_fin g2.1.1 g1.1 hw v1 heg v3 v2 hop e3 e4 e5
              exact ⟨k1 + 1, wrapX k1 _ z2 T2 L2 V3 P5 o _ _ _ _ (by omega) (by omega) y1.1 y2 y3 (fun e' U9 z9 T9 L9 V9 P9 i1 i2 i3 => k e' z9 T9 L9 V9 P9 (((u1.tr g1).tr y1).tr i1) i2 i3)⟩
          · intro sg post acc hM h0 hl ha k
            have fin : ∀ (s9 : MS), fL sg s9 → rdM b n s9 p2 → layR s9 (acc ++ l2) → s9 0 21 = 0 → jM_readNot_78 s9 rM y1 (nI k1) x post := fun s9 f9 m9 l9 h9 => by
              unfold jM_readNot_78
              refine stepM_ok (K := fun g post => jM_readNot_93 g rM (nI k1) post) (M2 := fun sg post => wM_readSum sg rM y1 post) ht hp2n c1 c2 c4 c8 m9 h9 l9 (by rw [List.length_append]; omega) (fun s8 f8 m8 l8 => ?_)
              show jM_readNot_93 s8 rM (nI k1) post
              unfold jM_readNot_93
              have := wrapM (rM := rM) (post := post) ht k1 0 s8 ((acc ++ l2) ++ (l4 ++ [x])) (by omega) ((f8.2.1 21 rfl).trans h9) l8 (by rw [List.length_append, List.length_append, List.length_append]; show acc.length + l2.length + (l4.length + 1) + k1 ≤ 600; omega) (fun s7 f7 e7 l7 => k s7 ((f9.tr f8).tr f7) (m8.L f7 e7) (by
                have el : acc ++ (l2 ++ (l4 ++ [x]) ++ List.replicate k1 (-28)) = acc ++ l2 ++ (l4 ++ [x]) ++ List.replicate k1 (-28) := by simp [List.append_assoc]
                rw [el]; exact l7))
              rw [Nat.zero_add] at this
              exact ⟨_, this⟩
            refine mdl sg post acc hM h0 hl ha (fun s9 f9 m9 l9 h9 => ⟨fun q1 q2 => ?_, fun q => ?_, fun q1 q2 => ?_⟩)
            · rcases hcx with ⟨-, -, q⟩ | ⟨-, -, -, q⟩
              · rw [q1] at q; cases q
              · rw [q2] at q; cases q
            · rcases hcx with ⟨-, rfl, -⟩ | ⟨-, -, q', -⟩
              · exact fin s9 f9 m9 l9 h9
              · rw [q] at q'; cases q'
            · rcases hcx with ⟨-, -, q'⟩ | ⟨-, rfl, -, -⟩
              · rw [q1] at q'; cases q'
              · exact fin s9 f9 m9 l9 h9
        · refine Or.inr ⟨kd, pl, c1, by omega, c3, ?_, ?_⟩
          · intro U z T L V P post xp hU hf hX k
            refine cls U z T L V P post xp (by omega) hf hX (fun U' z' T' L' V' P' e u0 u1 u2 u3 => ⟨fun q1 q2 => ?_, fun _ => ?_⟩)
            · rcases hcx with ⟨-, -, q⟩ | ⟨-, -, -, q⟩
              · rw [q1] at q; cases q
              · rw [q2] at q; cases q
            · obtain ⟨w, w1, w2, w3⟩ := sgn_word u2 hc ec
              unfold jFX9_not_61
              refine ⟨w, w1, w2, sX_charAt w3 hc2 ⟨10, U' - 10, by omega, sX_goX hA ht u1.1 u2 (Nat.le_refl _) (fun zg Tg Lg Vg Pg g1 g2 => ?_)⟩⟩
              have heg := u3.r u2.1.1 g1
              refine ⟨g2.1.1, heg.eT, U' - 11, by omega, ?_⟩
              intro o zo To Lo Vo Po hw
              obtain ⟨x0, x2, x3, x4, x5, x6, x7, -⟩ := xr.nw (r := r) g1.1 hw (by rw [g2.1.1]; decide)
              have hX2 : rdX ad b n To Lo Vo Po r tx ax kx (tNx b n p2) := g2.x (fun a ha => x7 a (by rcases ha with q | q | q | q <;> (rw [q]; decide)))
              exact ⟨hX2.1.1, eT_xr x0 heg.eT, U' - 11, 0, rfl, c4 _ _ _ _ _ _ _ xp (by omega) x0.1 hX2 (k.m ((u1.tr g1).tr x0))⟩
          · intro sg post acc hM h0 hl ha k
            have fin : ∀ (s9 : MS) (x : Int32), fL sg s9 → rdM b n s9 p2 → layR s9 (acc ++ l2) → s9 0 21 = 0 → jM_readNot_78 s9 rM y1 (nI k1) x post := fun s9 x f9 m9 l9 h9 => by
              unfold jM_readNot_78
              refine stepM_ft (x := x) (K := fun g post => jM_readNot_93 g rM (nI k1) post) (M2 := fun sg post => wM_readSum sg rM y1 post) ht c1 hp2n (fun s8 post h8 w => ?_) c5 m9 h9 l9 (by rw [List.length_append]; omega) (fun s8 f8 m8 l8 => k s8 (f9.bb f8) m8 l8)
              show jM_readNot_93 s8 rM (nI k1) post
              unfold jM_readNot_93
              have := wrapB (rM := rM) k1 0 s8 (by omega) h8 w
              rw [Nat.zero_add] at this
              exact ⟨_, this⟩
            refine mdl sg post acc hM h0 hl ha (fun s9 f9 m9 l9 h9 => ⟨fun q1 q2 => ?_, fun q => fin s9 _ f9 m9 l9 h9, fun q1 q2 => fin s9 _ f9 m9 l9 h9⟩)
            rcases hcx with ⟨-, -, q⟩ | ⟨-, -, -, q⟩
            · rw [q1] at q; cases q
            · rw [q2] at q; cases q
    · refine Or.inr ⟨kd, pl, b1, by omega, b3, ?_, ?_⟩
      · intro U z T L V P post xp hU hf hX k
        show wFX9_not ad rX U z T L V P r x1 post xp
        unfold wFX9_not
        refine ⟨n + 1, a6 rX x1 U z T L V P post xp _ (by omega) hf hX (fun U1 z1 T1 L1 V1 P1 g0 g1 g2 => ?_)⟩
        exact ⟨U1, 0, rfl, b4 _ z1 T1 L1 V1 P1 _ xp (by omega) g1.1 g2 (k.m g1)⟩
      · intro sg post acc hM h0 hl ha k
        show wM_readNot sg rM y1 post
        unfold wM_readNot
        refine ⟨n + 1, a7 rM y1 post _ sg hM h0 (fun s9 f9 m9 => b5 s9 _ acc m9 ((f9.2 21 rfl).trans h0) (layR.s f9 hl) (by omega) (fun s8 f8 m8 l8 => ?_))⟩
        have hb : ¬ s8 0 21 = 0 := by rw [m8]; exact b1
        refine sM_markedB hb ?_
        rw [if_pos rfl]
        refine sM_markedB hb ?_
        rw [if_pos rfl]
        unfold jM_readNot_93
        have := wrapB (rM := rM) k1 0 s8 (by omega) hb (k s8 (f9.L.bb f8) m8 l8)
        rw [Nat.zero_add] at this
        exact ⟨_, this⟩
  · refine Or.inr ⟨2, pl, by decide, a1, a2, ?_, ?_⟩
    · intro U z T L V P post xp hU hf hX k
      show wFX9_not ad rX U z T L V P r x1 post xp
      unfold wFX9_not
      exact ⟨n + 1, a3 rX x1 U z T L V P post xp _ (by omega) hf hX k⟩
    · intro sg post acc hM h0 hl ha k
      show wM_readNot sg rM y1 post
      unfold wM_readNot
      exact ⟨n + 1, a4 rM y1 post _ sg hM h0 (fun s9 f9 m9 l9 => notB (k := 7) (by decide) (by rw [m9]; decide) (k s9 f9 m9 l9))⟩
end B
