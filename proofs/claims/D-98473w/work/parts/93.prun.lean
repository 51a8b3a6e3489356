/-! PURE: trees kept, made; an expression's reading at both: its outcome -/
set_option maxRecDepth 100000
/-- a tree's kind -/
abbrev eTT (T : Nat → Nat) (a : Nat) : Prop := eT T a
theorem exprR.mono {ad : Nat → Nat} {T : Nat → Nat} {V : w_V} {P : w_P} : ∀ (d d' a : Nat) (l : List Int32) (n n' : Nat) (f : (Nat → Int32) → Int32), exprR ad T V P d a l n f → d ≤ d' → n ≤ n' → exprR ad T V P d' a l n' f
  | 0, _, _, _, _, _, _, h, _, _ => h.elim
  | d + 1, d', a, l, n, n', f, h, hd, hn => by
    obtain ⟨e, rfl⟩ : ∃ e, d' = e + 1 := ⟨d' - 1, by omega⟩
    rcases h with ⟨ht, k, h1, h2, h3, h4, h5⟩ | ⟨ht, k, h1, h2, h3, h4, h5⟩ | ⟨ht, b, l1, f1, h0, h1, h2⟩ | ⟨ht, b, c, l1, l2, f1, f2, n2, x, g1, g2, h1, h2, h3, h4⟩
    · exact Or.inl ⟨ht, k, h1, h2, h3, by omega, h5⟩
    · exact Or.inr (Or.inl ⟨ht, k, h1, h2, h3, by omega, h5⟩)
    · exact Or.inr (Or.inr (Or.inl ⟨ht, b, l1, f1, h0, exprR.mono d e _ _ _ _ _ h1 (by omega) hn, h2⟩))
    · exact Or.inr (Or.inr (Or.inr ⟨ht, b, c, l1, l2, f1, f2, n2, x, g1, g2, exprR.mono d e _ _ _ _ _ h1 (by omega) hn, exprR.mono d e _ _ _ _ _ h2 (by omega) (Nat.le_refl _), by omega, h4⟩))
/-- a tree stands while the reader goes on -/
theorem exprR.k8 {ad : Nat → Nat} {T : Nat → Nat} {V : w_V} {P : w_P} {T' : Nat → Nat} {V' : w_V} {P' : w_P} (hx : ∀ a, eTT T a → T' a = T a ∧ V' a = V a ∧ P' a = P a) : ∀ (d a : Nat) (l : List Int32) (n : Nat) (f : (Nat → Int32) → Int32), exprR ad T V P d a l n f → exprR ad T' V' P' d a l n f
  | 0, _, _, _, _, h => h.elim
  | d + 1, a, l, n, f, h => by
    obtain ⟨e1, e3, e4⟩ := hx a h.eT
    rcases h with ⟨ht, h⟩ | ⟨ht, h⟩ | ⟨ht, b, l1, f1, h0, h1, h2⟩ | ⟨ht, b, c, l1, l2, f1, f2, n2, x, g1, g2, h1, h2, h3⟩
    · exact Or.inl ⟨e1.trans ht, by rw [e3]; exact h⟩
    · exact Or.inr (Or.inl ⟨e1.trans ht, by rw [e4]; exact h⟩)
    · exact Or.inr (Or.inr (Or.inl ⟨e1.trans ht, b, l1, f1, by rw [e4]; exact h0, exprR.k8 hx d _ _ _ _ h1, h2⟩))
    · exact Or.inr (Or.inr (Or.inr ⟨e1.trans ht, b, c, l1, l2, f1, f2, n2, x, by rw [e4]; exact g1, by rw [e4]; exact g2, exprR.k8 hx d _ _ _ _ h1, exprR.k8 hx d _ _ _ _ h2, by rw [e3]; exact h3⟩))
theorem eT_ne0 {T : Nat → Nat} {a : Nat} (h : eT T a) : T a ≠ 0 := by rcases h with h | h | h | h <;> (rw [h]; decide)
theorem eT_ne8 {T : Nat → Nat} {a : Nat} (h : eT T a) : T a ≠ 8 := by rcases h with h | h | h | h <;> (rw [h]; decide)
theorem exprR.r {ad : Nat → Nat} {r z : Nat} {T L : Nat → Nat} {V : w_V} {P : w_P} {z' : Nat} {T' L' : Nat → Nat} {V' : w_V} {P' : w_P} (hr : T r = 8) (hx : xr r z T L V P z' T' L' V' P') {d a n : Nat} {l : List Int32} {f : (Nat → Int32) → Int32} (h : exprR ad T V P d a l n f) : exprR ad T' V' P' d a l n f := h.k8 (fun a ha => by
  obtain ⟨h1, h2, h3⟩ := hx.2.2.1 a (eT_ne0 ha)
  have := h3 (fun e => eT_ne8 ha (by rw [e]; exact hr))
  exact ⟨h1, this.1, this.2⟩)
/-- a tree stands, where a node that is none yet is written -/
theorem exprR.put {ad : Nat → Nat} {T : Nat → Nat} {V V' : w_V} {P P' : w_P} {o : Nat} (ho : (T o = 11 ∧ P o 1 = none) ∨ (T o = 12 ∧ P o 0 = none)) (hV : ∀ a, a ≠ o → V' a = V a ∧ P' a = P a) : ∀ (d a : Nat) (l : List Int32) (n : Nat) (f : (Nat → Int32) → Int32), exprR ad T V P d a l n f → exprR ad T V' P' d a l n f
  | 0, _, _, _, _, h => h.elim
  | d + 1, a, l, n, f, h => by
    have ha : a ≠ o := fun e => by
      subst e
      rcases h with ⟨ht, h⟩ | ⟨ht, h⟩ | ⟨ht, b, l1, f1, h0, h1, h2⟩ | ⟨ht, b, c, l1, l2, f1, f2, n2, x, g1, g2, h1, h2, h3⟩
      · rcases ho with ⟨q, -⟩ | ⟨q, -⟩ <;> (rw [ht] at q; cases q)
      · rcases ho with ⟨q, -⟩ | ⟨q, -⟩ <;> (rw [ht] at q; cases q)
      · rcases ho with ⟨q, -⟩ | ⟨q, q2⟩
        · rw [ht] at q; cases q
        · rw [q2] at h0; cases h0
      · rcases ho with ⟨q, q2⟩ | ⟨q, -⟩
        · rw [q2] at g1; cases g1
        · rw [ht] at q; cases q
    obtain ⟨e3, e4⟩ := hV a ha
    rcases h with ⟨ht, h⟩ | ⟨ht, h⟩ | ⟨ht, b, l1, f1, h0, h1, h2⟩ | ⟨ht, b, c, l1, l2, f1, f2, n2, x, g1, g2, h1, h2, h3⟩
    · exact Or.inl ⟨ht, by rw [e3]; exact h⟩
    · exact Or.inr (Or.inl ⟨ht, by rw [e4]; exact h⟩)
    · exact Or.inr (Or.inr (Or.inl ⟨ht, b, l1, f1, by rw [e4]; exact h0, exprR.put ho hV d _ _ _ _ h1, h2⟩))
    · exact Or.inr (Or.inr (Or.inr ⟨ht, b, c, l1, l2, f1, f2, n2, x, by rw [e4]; exact g1, by rw [e4]; exact g2, exprR.put ho hV d _ _ _ _ h1, exprR.put ho hV d _ _ _ _ h2, by rw [e3]; exact h3⟩))
theorem up2_a {P : w_P} {o j : Nat} {x : Option Nat} {i : Nat} : up2 P o j x o i = if i = j then x else P o i := by
  show up1 P o (up1 (P o) j x) o i = _
  rw [up1_s]
  by_cases e : i = j
  · rw [if_pos e, e, up1_s]
  · rw [if_neg e, up1_n e]
section B
variable {ad b : Nat → Nat} {n r tx ax kx : Nat}
/-- two parts joined -/
theorem both_fin {z : Nat} {T L : Nat → Nat} {V : w_V} {P : w_P} {o z1 : Nat} {T1 L1 : Nat → Nat} {V1 : w_V} {P1 : w_P} {z2' : Nat} {T2 L2 : Nat → Nat} {V2 : w_V} {P2 : w_P} (hr : T r = 8) (hf : frs z T) (hw : nwH o z T L V P 11 0 z1 T1 L1 V1 P1) (hx : xr r z1 T1 L1 V1 P1 z2' T2 L2 V2 P2) {d1 e n1 : Nat} {l1 : List Int32} {f1 : (Nat → Int32) → Int32} (he : exprR ad T V P d1 e l1 n1 f1) {d2 e2 n2 : Nat} {l2 : List Int32} {f2 : (Nat → Int32) → Int32} (h2 : exprR ad T2 V2 P2 d2 e2 l2 n2 f2) {p3 : Nat} (hX : rdX ad b n T2 L2 V2 P2 r tx ax kx p3) {c : Nat} {x : Int32} (hop : opC (nI c) x) {V4 : w_V} {P4 P5 : w_P} (e4 : V4 = up3 V2 o 0 0 (nI c)) (e5 : P4 = up2 P2 o 1 (some e)) (e6 : P5 = up2 P4 o 2 (some e2)) :
    xr r z T L V P z2' T2 L2 V4 P5 ∧ rdX ad b n T2 L2 V4 P5 r tx ax kx p3 ∧ exprR ad T2 V4 P5 (max d1 d2 + 1) o (l1 ++ (l2 ++ [x])) (max n1 (n2 + 1)) (fun as => rk x (f1 as) (f2 as)) := by
  have hr0 : T r ≠ 0 := by rw [hr]; decide
  obtain ⟨x0, x2, x3, x4, x5, x6, x7, -⟩ := xr.nw (r := r) hf hw hr0
  have hr1 : T1 r = 8 := (x7 r hr0).1.trans hr
  have nor : o ≠ r := fun e => hr0 (by rw [← e]; exact x2)
  obtain ⟨y1, y2, y3⟩ := hx.2.2.1 o (by rw [x3]; decide)
  obtain ⟨y4, y5⟩ := y3 nor
  have hT2 : T2 o = 11 := y1.trans x3
  have hP2 : P2 o 1 = none := by rw [y5, x6]
  have hV : ∀ a, a ≠ o → V4 a = V2 a ∧ P5 a = P2 a := fun a ha => ⟨by rw [e4, up3_n ha], by rw [e6, up2_n ha, e5, up2_n ha]⟩
  refine ⟨(x0.tr hx).put x2 hr0 hV, hX.x (fun a ha => ?_), ?_⟩
  · have hao : a ≠ o := fun e => by rw [e, hT2] at ha; rcases ha with q | q | q | q <;> cases q
    exact ⟨rfl, rfl, (hV a hao).1, (hV a hao).2⟩
  · have h1' : exprR ad T1 V1 P1 d1 e l1 n1 f1 := he.k8 (fun a ha => by
      obtain ⟨c1, c2, c3, c4⟩ := x7 a (eT_ne0 ha)
      exact ⟨c1, c3, c4⟩)
    have h1'' := (exprR.r hr1 hx h1').put (o := o) (Or.inl ⟨hT2, hP2⟩) hV
    have h2'' := h2.put (o := o) (Or.inl ⟨hT2, hP2⟩) hV
    refine Or.inr (Or.inr (Or.inr ⟨hT2, e, e2, l1, l2, f1, f2, n2, x, ?_, ?_, exprR.mono _ _ _ _ _ _ _ h1'' (Nat.le_max_left _ _) (Nat.le_max_left _ _), exprR.mono _ _ _ _ _ _ _ h2'' (Nat.le_max_right _ _) (Nat.le_refl _), Nat.le_max_right _ _, rfl, ?_, rfl⟩))
    · rw [e6, up2_a, if_neg (by decide), e5, up2_a, if_pos rfl]
    · rw [e6, up2_a, if_pos rfl]
    · rw [e4, up3_a, s2_s]; exact hop
theorem opC_char : ∀ {c : Nat} {x : Int32}, c < 128 → opC (nI c) x → narrow .char (.int (nI c)) = .int (nI c) ∧ fits .char (.int (nI c)) = true := fun h _ => (chr128 _ h).2
abbrev clsW : Type := Nat → Nat → (Nat → Nat) → (Nat → Nat) → w_V → w_P → (Nat → Nat → (Nat → Nat) → (Nat → Nat) → w_V → w_P → Prop) → w_Xp → Prop
abbrev mdlW : Type := MS → (MS → Prop) → Prop
/-- signs laid -/
def layR (sg : MS) (acc : List Int32) : Prop := sg 4 13 = nI acc.length ∧ ∀ i, i < acc.length → sg 12 (600 + i) = acc.getD i 0
def fL (sg s9 : MS) : Prop := (∀ k, k ≠ 0 → k ≠ 4 → k ≠ 12 → s9 k = sg k) ∧ (∀ j, rj j = false → s9 0 j = sg 0 j) ∧ (∀ j, j ≠ 13 → s9 4 j = sg 4 j) ∧ ∀ i, i < 600 → s9 12 i = sg 12 i
def fB (sg s9 : MS) : Prop := (∀ k, k ≠ 0 → k ≠ 4 → k ≠ 12 → s9 k = sg k) ∧ (∀ j, rj j = false → j ≠ 21 → j ≠ 22 → s9 0 j = sg 0 j) ∧ (∀ j, j ≠ 13 → s9 4 j = sg 4 j) ∧ ∀ i, i < 600 → s9 12 i = sg 12 i
theorem fL.tr {s1 s2 s3 : MS} (h : fL s1 s2) (h2 : fL s2 s3) : fL s1 s3 := ⟨fun k a c d => (h2.1 k a c d).trans (h.1 k a c d), fun j a => (h2.2.1 j a).trans (h.2.1 j a), fun j a => (h2.2.2.1 j a).trans (h.2.2.1 j a), fun j a => (h2.2.2.2 j a).trans (h.2.2.2 j a)⟩
theorem fL.bb {s1 s2 s3 : MS} (h : fL s1 s2) (h2 : fB s2 s3) : fB s1 s3 := ⟨fun k a c d => (h2.1 k a c d).trans (h.1 k a c d), fun j a c d => (h2.2.1 j a c d).trans (h.2.1 j a), fun j a => (h2.2.2.1 j a).trans (h.2.2.1 j a), fun j a => (h2.2.2.2 j a).trans (h.2.2.2 j a)⟩
theorem fS.L {s1 s2 : MS} (h : fS s1 s2) : fL s1 s2 := ⟨fun k a _ _ => h.1 k a, h.2, fun j _ => by rw [h.1 4 (by decide)], fun i _ => by rw [h.1 12 (by decide)]⟩
theorem fB.wr (sg : MS) (k : Int32) (p : Nat) : fB sg (wr sg k p) := ⟨fun i a _ _ => wr_k a, fun j _ c d => wr_j c d, fun j _ => by rw [wr_k (by decide)], fun i _ => by rw [wr_k (by decide)]⟩
theorem layR.s {s1 s2 : MS} {acc : List Int32} (h : fS s1 s2) (hl : layR s1 acc) : layR s2 acc := ⟨by rw [h.1 4 (by decide)]; exact hl.1, fun i hi => by rw [h.1 12 (by decide)]; exact hl.2 i hi⟩
def okX (ad b : Nat → Nat) (n r tx ax kx c p p' : Nat) (l : List Int32) (nn d : Nat) (f : (Nat → Int32) → Int32) (W : clsW) : Prop := ∀ (U z : Nat) (T L : Nat → Nat) (V : w_V) (P : w_P) (post : Nat → Nat → (Nat → Nat) → (Nat → Nat) → w_V → w_P → Prop) (xp : w_Xp), c ≤ U → frs z T → rdX ad b n T L V P r tx ax kx p → (∀ (e z' : Nat) (T' L' : Nat → Nat) (V' : w_V) (P' : w_P), xr r z T L V P z' T' L' V' P' → rdX ad b n T' L' V' P' r tx ax kx p' → exprR ad T' V' P' d e l nn f → post e z' T' L' V' P') → W U z T L V P post xp
def ftX (ad b : Nat → Nat) (n r tx ax kx c p : Nat) (k : Int32) (pl : Nat) (W : clsW) : Prop := ∀ (U z : Nat) (T L : Nat → Nat) (V : w_V) (P : w_P) (post : Nat → Nat → (Nat → Nat) → (Nat → Nat) → w_V → w_P → Prop) (xp : w_Xp), c ≤ U → frs z T → rdX ad b n T L V P r tx ax kx p → xfC xp r z T L V P k pl → W U z T L V P post xp
def okM (b : Nat → Nat) (n p p' : Nat) (l : List Int32) (W : mdlW) : Prop := ∀ (sg : MS) (post : MS → Prop) (acc : List Int32), rdM b n sg p → sg 0 21 = 0 → layR sg acc → acc.length ≤ p → (∀ s9, fL sg s9 → rdM b n s9 p' → layR s9 (acc ++ l) → post s9) → W sg post
def ftM (b : Nat → Nat) (n p : Nat) (k : Int32) (pl : Nat) (W : mdlW) : Prop := ∀ (sg : MS) (post : MS → Prop) (acc : List Int32), rdM b n sg p → sg 0 21 = 0 → layR sg acc → acc.length ≤ p → (∀ s9, fB sg s9 → s9 0 21 = k → s9 0 22 = nI pl → post s9) → W sg post
/-- a reading at both, from the token p: a tree and its signs, or the same fault -/
def Run (ad b : Nat → Nat) (n r tx ax kx N p : Nat) (W : clsW) (M : mdlW) : Prop := (∃ p' l nn d f, p < p' ∧ p' ≤ n ∧ 0 < l.length ∧ l.length ≤ p' - p ∧ nn ≤ N ∧ d ≤ p' - p ∧ okX ad b n r tx ax kx (30 * (p' - p)) p p' l nn d f W ∧ okM b n p p' l M) ∨ ∃ k pl, k ≠ 0 ∧ p ≤ pl ∧ pl ≤ n ∧ ftX ad b n r tx ax kx (30 * (pl - p) + 30) p k pl W ∧ ftM b n p k pl M
def bdM (M : mdlW) : Prop := ∀ (sg : MS) (post : MS → Prop), ¬ sg 0 21 = 0 → post sg → M sg post
/-- the same after a tree, which it grows -/
def LRun (ad b : Nat → Nat) (n r tx ax kx N p : Nat) (l : List Int32) (nn d : Nat) (f : (Nat → Int32) → Int32) (W : Nat → clsW) (M : mdlW) : Prop :=
  (∃ p' lx n' d' f', p ≤ p' ∧ p' ≤ n ∧ lx.length ≤ p' - p ∧ n' ≤ N ∧ d' ≤ d + (p' - p) ∧ (∀ (U z : Nat) (T L : Nat → Nat) (V : w_V) (P : w_P) (e : Nat) (post : Nat → Nat → (Nat → Nat) → (Nat → Nat) → w_V → w_P → Prop) (xp : w_Xp), 30 * (p' - p) ≤ U → frs z T → rdX ad b n T L V P r tx ax kx p → exprR ad T V P d e l nn f → (∀ (e' z' : Nat) (T' L' : Nat → Nat) (V' : w_V) (P' : w_P), xr r z T L V P z' T' L' V' P' → rdX ad b n T' L' V' P' r tx ax kx p' → exprR ad T' V' P' d' e' (l ++ lx) n' f' → post e' z' T' L' V' P') → W e U z T L V P post xp) ∧ okM b n p p' lx M) ∨
  ∃ k pl, k ≠ 0 ∧ p ≤ pl ∧ pl ≤ n ∧ (∀ (U z : Nat) (T L : Nat → Nat) (V : w_V) (P : w_P) (e : Nat) (post : Nat → Nat → (Nat → Nat) → (Nat → Nat) → w_V → w_P → Prop) (xp : w_Xp), 30 * (pl - p) + 30 ≤ U → frs z T → rdX ad b n T L V P r tx ax kx p → exprR ad T V P d e l nn f → xfC xp r z T L V P k pl → W e U z T L V P post xp) ∧ ftM b n p k pl M
def bindX (r : Nat) (W1 : clsW) (WL : Nat → clsW) : clsW := fun U z T L V P post xp => ∃ c1 U2 : Nat, U = c1 + U2 ∧ W1 c1 z T L V P (fun (r7 : Nat) (z : Nat) (T L : Nat → Nat) (V4 : w_V) (P5 : w_P) => (T r = 8 ∧ eT T r7 ∧ WL r7 U2 z T L V4 P5 post xp)) xp
def bindM (M1 ML : mdlW) : mdlW := fun sg post => M1 sg (fun g2 => ML g2 post)
theorem Run.bind {N1 N p : Nat} {W1 : clsW} {M1 : mdlW} {WL : Nat → clsW} {ML : mdlW} (h1 : Run ad b n r tx ax kx N1 p W1 M1) (h2 : ∀ p1 l1 n1 d1 f1, p1 ≤ n → n1 ≤ N1 → LRun ad b n r tx ax kx N p1 l1 n1 d1 f1 WL ML) (hb : bdM ML) : Run ad b n r tx ax kx N p (bindX r W1 WL) (bindM M1 ML) := by
  rcases h1 with ⟨p1, l1, n1, d1, f1, a1, a2, a3, a4, a5, a6, a7, a8⟩ | ⟨k, pl, a1, a2, a3, a4, a5⟩
  · rcases h2 p1 l1 n1 d1 f1 a2 a5 with ⟨p', lx, n', d', f', c1, c2, c3, c4, c5, c6, c7⟩ | ⟨k, pl, c1, c2, c3, c4, c5⟩
    · refine Or.inl ⟨p', l1 ++ lx, n', d', f', by omega, c2, by rw [List.length_append]; omega, by rw [List.length_append]; omega, c4, by omega, ?_, ?_⟩
      · intro U z T L V P post xp hU hf hX k
        refine ⟨30 * (p1 - p), U - 30 * (p1 - p), by omega, a7 _ z T L V P _ xp (Nat.le_refl _) hf hX (fun e z1 T1 L1 V1 P1 x1 x2 x3 => ⟨x2.1.1, x3.eT, c6 _ z1 T1 L1 V1 P1 e post xp (by omega) x1.1 x2 x3 (fun e' z' T' L' V' P' y1 y2 y3 => k e' z' T' L' V' P' (x1.tr y1) y2 y3)⟩)⟩
      · intro sg post acc hM h0 hl ha k
        refine a8 sg _ acc hM h0 hl ha (fun s9 y1 y2 y3 => c7 s9 post (acc ++ l1) y2 ((y1.2.1 21 rfl).trans h0) y3 (by rw [List.length_append]; omega) (fun s8 w1 w2 w3 => k s8 (y1.tr w1) w2 (by rw [← List.append_assoc]; exact w3)))
    · refine Or.inr ⟨k, pl, c1, by omega, c3, ?_, ?_⟩
      · intro U z T L V P post xp hU hf hX kx'
        refine ⟨30 * (p1 - p), U - 30 * (p1 - p), by omega, a7 _ z T L V P _ xp (Nat.le_refl _) hf hX (fun e z1 T1 L1 V1 P1 x1 x2 x3 => ⟨x2.1.1, x3.eT, c4 _ z1 T1 L1 V1 P1 e post xp (by omega) x1.1 x2 x3 (kx'.m x1)⟩)⟩
      · intro sg post acc hM h0 hl ha kk
        refine a8 sg _ acc hM h0 hl ha (fun s9 y1 y2 y3 => c5 s9 post (acc ++ l1) y2 ((y1.2.1 21 rfl).trans h0) y3 (by rw [List.length_append]; omega) (fun s8 w1 w2 w3 => kk s8 (y1.bb w1) w2 w3))
  · refine Or.inr ⟨k, pl, a1, a2, a3, ?_, ?_⟩
    · intro U z T L V P post xp hU hf hX kx'
      exact ⟨U, 0, rfl, a4 U z T L V P _ xp hU hf hX kx'⟩
    · intro sg post acc hM h0 hl ha kk
      refine a5 sg _ acc hM h0 hl ha (fun s9 y1 y2 y3 => hb s9 post (by rw [y2]; exact a1) (kk s9 y1 y2 y3))
end B
