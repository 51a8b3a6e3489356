/-! PURE: products, sums, and, or at both (printed by gen/g95.py) -/
set_option maxRecDepth 100000
section B
variable {ad b : Nat → Nat} {n r tx ax kx : Nat}
theorem bd_part (rE : MS → Int32 → (MS → Prop) → Prop) (x1 : Int32) : bdM (fun sg post => wM_readPart sg rE x1 post) := by
  intro sg post hb k
  show wM_readPart sg rE x1 post
  unfold wM_readPart
  rw [if_neg hb]
  exact k
theorem sgn_word {T L : Nat → Nat} {V : w_V} {P : w_P} {p : Nat} (h : rdX ad b n T L V P r tx ax kx p) {c : Nat} (hc : tLt c = false) (e : tIs b n p [c] = true) : ∃ w, P r 7 = some w ∧ T w = 18 ∧ strX T L V P w [c] := by
  obtain ⟨k3, ec⟩ := (t9tis_sg hc).mp e
  obtain ⟨w, w1, w2⟩ := h.2.2.2.2.2.1 (Or.inr k3)
  refine ⟨w, w1, w2.1, ?_⟩
  rw [t9wrd_3 k3, ec] at w2
  exact w2
theorem tis_lt {s : List Nat} {p : Nat} (h : tIs b n p s = true) : p < n := t9lt_k (t9tis_k h)
def op_product (b : Nat → Nat) (n p : Nat) : Option (Nat × Int32) := if tIs b n p [42] = true then some (42, -22) else if tIs b n p [47] = true then some (47, -23) else none
def wl_product (ad : Nat → Nat) (rE : rEF) (r : Nat) (x1 : Int32) (m : Nat) : Nat → clsW := fun e U z T L V P post xp => lFX9_product_6 ad rE r x1 post xp (fun (U66 z : Nat) (T L : Nat → Nat) (V64 : w_V) (P65 : w_P) (y68 : Nat) => (post y68 z T L V64 P65)) m U z T L V P e
def ml_product (rE : MS → Int32 → (MS → Prop) → Prop) (x1 : Int32) (m : Nat) : mdlW := fun sg post => lM_readProduct_5 rE x1 post m sg
theorem bdl_product (rE : MS → Int32 → (MS → Prop) → Prop) (x1 : Int32) (m : Nat) : bdM (ml_product rE x1 (m + 1)) := by
  intro sg post hb k
  unfold ml_product lM_readProduct_5
  refine sM_markedB hb ?_
  rw [if_pos rfl]
  refine sM_markedB hb ?_
  rw [if_pos rfl]
  exact k
theorem bd_product (rE : MS → Int32 → (MS → Prop) → Prop) (x1 : Int32) : bdM (fun sg post => wM_readProduct sg rE x1 post) := by
  intro sg post hb k
  show wM_readProduct sg rE x1 post
  unfold wM_readProduct
  exact bd_part rE x1 sg _ hb ⟨1, bdl_product rE x1 0 sg post hb k⟩
theorem run_product (hA : hAd ad) (ht : tOk b n) {N2 : Nat} {rX : rEF} {rM : MS → Int32 → (MS → Prop) → Prop} {x1 y1 : Int32} (h2 : ∀ p, p ≤ n → Run ad b n r tx ax kx N2 p (fun U z T L V P post xp => wFX9_part ad rX U z T L V P r x1 post xp) (fun sg post => wM_readPart sg rM y1 post)) {p : Nat} (hp : p ≤ n) : Run ad b n r tx ax kx (N2 + 1) p (fun U z T L V P post xp => wFX9_product ad rX U z T L V P r x1 post xp) (fun sg post => wM_readProduct sg rM y1 post) := by
  have hop : ∀ p c x, op_product b n p = some (c, x) → (c = 42 ∧ x = -22 ∧ tIs b n p [42] = true) ∨ (c = 47 ∧ x = -23 ∧ tIs b n p [42] = false ∧ tIs b n p [47] = true) := fun p c x e => by
    unfold op_product at e
    by_cases e1 : tIs b n p [42] = true
    · rw [if_pos e1] at e; cases e; exact Or.inl ⟨rfl, rfl, e1⟩
    · rw [if_neg e1] at e
      by_cases e2 : tIs b n p [47] = true
      · rw [if_pos e2] at e; cases e; exact Or.inr ⟨rfl, rfl, by simpa using e1, e2⟩
      · rw [if_neg e2] at e; cases e
  have hno : ∀ p, op_product b n p = none → tIs b n p [42] = false ∧ tIs b n p [47] = false := fun p e => by
    unfold op_product at e
    by_cases e1 : tIs b n p [42] = true
    · rw [if_pos e1] at e; cases e
    · rw [if_neg e1] at e
      by_cases e2 : tIs b n p [47] = true
      · rw [if_pos e2] at e; cases e
      · exact ⟨by simpa using e1, by simpa using e2⟩
  have hL := loop_run (r := r) (tx := tx) (ax := ax) (kx := kx) hA ht (N2 := N2) (N := N2 + 1) (wl_product ad rX r x1) (ml_product rM y1) (op_product b n) (fun p c x e => by
      rcases hop p c x e with ⟨rfl, rfl, q⟩ | ⟨rfl, rfl, -, q⟩
      · exact ⟨tis_lt q, by unfold opC; decide, by decide⟩
      · exact ⟨tis_lt q, by unfold opC; decide, by decide⟩) (Nat.le_refl _) h2 (bdl_product rM y1)
    (fun m p eo U z T L V P e post xp hX k => by
      obtain ⟨q1, q2⟩ := hno p eo
      unfold wl_product lFX9_product_6
      intro s10 hs10
      refine sX_is hA ht hX (by decide) hs10 ?_
      rw [q1, if_pos (show b2 false = 0 from rfl)]
      intro s59 hs59
      refine sX_is hA ht hX (by decide) hs59 ?_
      rw [q2, if_pos (show b2 false = 0 from rfl)]
      exact k)
    (fun m p c x eo U z T L V P e post xp hX k => by
      have step : ∀ (hc : tLt c = false) (hc2 : c < 128), tIs b n p [c] = true → jFX9_product_26 ad rX U z T L V P r x1 e post xp (lFX9_product_6 ad rX r x1 post xp (fun (U66 z : Nat) (T L : Nat → Nat) (V64 : w_V) (P65 : w_P) (y68 : Nat) => (post y68 z T L V64 P65)) m) := fun hc hc2 q => by
        obtain ⟨w, w1, w2, w3⟩ := sgn_word hX hc q
        unfold jFX9_product_26
        exact ⟨w, w1, w2, sX_charAt w3 hc2 k⟩
      unfold wl_product lFX9_product_6
      intro s10 hs10
      refine sX_is hA ht hX (by decide) hs10 ?_
      rcases hop p c x eo with ⟨rfl, rfl, q⟩ | ⟨rfl, rfl, q, q2⟩
      · rw [q, if_neg (show ¬ b2 true = 0 by decide)]
        exact step (by decide) (by decide) q
      · rw [q, if_pos (show b2 false = 0 from rfl)]
        intro s59 hs59
        refine sX_is hA ht hX (by decide) hs59 ?_
        rw [q2, if_neg (show ¬ b2 true = 0 by decide)]
        exact step (by decide) (by decide) q2)
    (fun m p eo sg post hM h0 k => by
      obtain ⟨q1, q2⟩ := hno p eo
      unfold ml_product lM_readProduct_5
      refine sM_marked (c := 42) ht hM h0 (by decide) (by decide) ?_
      rw [q1, if_pos (show b2 false = 0 from rfl)]
      refine sM_marked (c := 47) ht hM h0 (by decide) (by decide) ?_
      rw [q2, if_pos (show b2 false = 0 from rfl)]
      exact k)
    (fun m p c x eo sg post hM h0 k => by
      unfold ml_product lM_readProduct_5
      refine sM_marked (c := 42) ht hM h0 (by decide) (by decide) ?_
      rcases hop p c x eo with ⟨rfl, rfl, q⟩ | ⟨rfl, rfl, q, q2⟩
      · rw [q, if_neg (show ¬ b2 true = 0 by decide)]
        unfold jM_readProduct_23
        refine sM_marked (c := 42) ht hM h0 (by decide) (by decide) ?_
        rw [q, if_neg (show ¬ b2 true = 0 by decide)]
        exact k
      · rw [q, if_pos (show b2 false = 0 from rfl)]
        refine sM_marked (c := 47) ht hM h0 (by decide) (by decide) ?_
        rw [q2, if_neg (show ¬ b2 true = 0 by decide)]
        unfold jM_readProduct_23
        refine sM_marked (c := 42) ht hM h0 (by decide) (by decide) ?_
        rw [q, if_pos (show b2 false = 0 from rfl)]
        exact k)
  have hB := Run.bind (N := N2 + 1) (h2 p hp) (WL := fun e U z T L V P post xp => ∃ m, wl_product ad rX r x1 m e U z T L V P post xp) (ML := fun sg post => ∃ m, ml_product rM y1 m sg post) (fun p1 l1 n1 d1 f1 g1 g2 => (hL (n + 1) p1 l1 n1 d1 f1 (by omega) g1 (by omega)).to (fun e U z T L V P post xp w => ⟨_, w⟩) (fun sg post w => ⟨_, w⟩)) (fun sg post hb k => ⟨1, bdl_product rM y1 0 sg post hb k⟩)
  exact hB.to (fun U z T L V P post xp w => by unfold wFX9_product; exact w) (fun sg post w => by show wM_readProduct sg rM y1 post; unfold wM_readProduct; exact w)
def op_sum (b : Nat → Nat) (n p : Nat) : Option (Nat × Int32) := if tIs b n p [43] = true then some (43, -20) else if tIs b n p [45] = true then some (45, -21) else none
def wl_sum (ad : Nat → Nat) (rE : rEF) (r : Nat) (x1 : Int32) (m : Nat) : Nat → clsW := fun e U z T L V P post xp => lFX9_sum_6 ad rE r x1 post xp (fun (U66 z : Nat) (T L : Nat → Nat) (V64 : w_V) (P65 : w_P) (y68 : Nat) => (post y68 z T L V64 P65)) m U z T L V P e
def ml_sum (rE : MS → Int32 → (MS → Prop) → Prop) (x1 : Int32) (m : Nat) : mdlW := fun sg post => lM_readSum_5 rE x1 post m sg
theorem bdl_sum (rE : MS → Int32 → (MS → Prop) → Prop) (x1 : Int32) (m : Nat) : bdM (ml_sum rE x1 (m + 1)) := by
  intro sg post hb k
  unfold ml_sum lM_readSum_5
  refine sM_markedB hb ?_
  rw [if_pos rfl]
  refine sM_markedB hb ?_
  rw [if_pos rfl]
  exact k
theorem bd_sum (rE : MS → Int32 → (MS → Prop) → Prop) (x1 : Int32) : bdM (fun sg post => wM_readSum sg rE x1 post) := by
  intro sg post hb k
  show wM_readSum sg rE x1 post
  unfold wM_readSum
  exact bd_product rE x1 sg _ hb ⟨1, bdl_sum rE x1 0 sg post hb k⟩
theorem run_sum (hA : hAd ad) (ht : tOk b n) {N2 : Nat} {rX : rEF} {rM : MS → Int32 → (MS → Prop) → Prop} {x1 y1 : Int32} (h2 : ∀ p, p ≤ n → Run ad b n r tx ax kx N2 p (fun U z T L V P post xp => wFX9_product ad rX U z T L V P r x1 post xp) (fun sg post => wM_readProduct sg rM y1 post)) {p : Nat} (hp : p ≤ n) : Run ad b n r tx ax kx (N2 + 1) p (fun U z T L V P post xp => wFX9_sum ad rX U z T L V P r x1 post xp) (fun sg post => wM_readSum sg rM y1 post) := by
  have hop : ∀ p c x, op_sum b n p = some (c, x) → (c = 43 ∧ x = -20 ∧ tIs b n p [43] = true) ∨ (c = 45 ∧ x = -21 ∧ tIs b n p [43] = false ∧ tIs b n p [45] = true) := fun p c x e => by
    unfold op_sum at e
    by_cases e1 : tIs b n p [43] = true
    · rw [if_pos e1] at e; cases e; exact Or.inl ⟨rfl, rfl, e1⟩
    · rw [if_neg e1] at e
      by_cases e2 : tIs b n p [45] = true
      · rw [if_pos e2] at e; cases e; exact Or.inr ⟨rfl, rfl, by simpa using e1, e2⟩
      · rw [if_neg e2] at e; cases e
  have hno : ∀ p, op_sum b n p = none → tIs b n p [43] = false ∧ tIs b n p [45] = false := fun p e => by
    unfold op_sum at e
    by_cases e1 : tIs b n p [43] = true
    · rw [if_pos e1] at e; cases e
    · rw [if_neg e1] at e
      by_cases e2 : tIs b n p [45] = true
      · rw [if_pos e2] at e; cases e
      · exact ⟨by simpa using e1, by simpa using e2⟩
  have hL := loop_run (r := r) (tx := tx) (ax := ax) (kx := kx) hA ht (N2 := N2) (N := N2 + 1) (wl_sum ad rX r x1) (ml_sum rM y1) (op_sum b n) (fun p c x e => by
      rcases hop p c x e with ⟨rfl, rfl, q⟩ | ⟨rfl, rfl, -, q⟩
      · exact ⟨tis_lt q, by unfold opC; decide, by decide⟩
      · exact ⟨tis_lt q, by unfold opC; decide, by decide⟩) (Nat.le_refl _) h2 (bdl_sum rM y1)
    (fun m p eo U z T L V P e post xp hX k => by
      obtain ⟨q1, q2⟩ := hno p eo
      unfold wl_sum lFX9_sum_6
      intro s10 hs10
      refine sX_is hA ht hX (by decide) hs10 ?_
      rw [q1, if_pos (show b2 false = 0 from rfl)]
      intro s59 hs59
      refine sX_is hA ht hX (by decide) hs59 ?_
      rw [q2, if_pos (show b2 false = 0 from rfl)]
      exact k)
    (fun m p c x eo U z T L V P e post xp hX k => by
      have step : ∀ (hc : tLt c = false) (hc2 : c < 128), tIs b n p [c] = true → jFX9_sum_26 ad rX U z T L V P r x1 e post xp (lFX9_sum_6 ad rX r x1 post xp (fun (U66 z : Nat) (T L : Nat → Nat) (V64 : w_V) (P65 : w_P) (y68 : Nat) => (post y68 z T L V64 P65)) m) := fun hc hc2 q => by
        obtain ⟨w, w1, w2, w3⟩ := sgn_word hX hc q
        unfold jFX9_sum_26
        exact ⟨w, w1, w2, sX_charAt w3 hc2 k⟩
      unfold wl_sum lFX9_sum_6
      intro s10 hs10
      refine sX_is hA ht hX (by decide) hs10 ?_
      rcases hop p c x eo with ⟨rfl, rfl, q⟩ | ⟨rfl, rfl, q, q2⟩
      · rw [q, if_neg (show ¬ b2 true = 0 by decide)]
        exact step (by decide) (by decide) q
      · rw [q, if_pos (show b2 false = 0 from rfl)]
        intro s59 hs59
        refine sX_is hA ht hX (by decide) hs59 ?_
        rw [q2, if_neg (show ¬ b2 true = 0 by decide)]
        exact step (by decide) (by decide) q2)
    (fun m p eo sg post hM h0 k => by
      obtain ⟨q1, q2⟩ := hno p eo
      unfold ml_sum lM_readSum_5
      refine sM_marked (c := 43) ht hM h0 (by decide) (by decide) ?_
      rw [q1, if_pos (show b2 false = 0 from rfl)]
      refine sM_marked (c := 45) ht hM h0 (by decide) (by decide) ?_
      rw [q2, if_pos (show b2 false = 0 from rfl)]
      exact k)
    (fun m p c x eo sg post hM h0 k => by
      unfold ml_sum lM_readSum_5
      refine sM_marked (c := 43) ht hM h0 (by decide) (by decide) ?_
      rcases hop p c x eo with ⟨rfl, rfl, q⟩ | ⟨rfl, rfl, q, q2⟩
      · rw [q, if_neg (show ¬ b2 true = 0 by decide)]
        unfold jM_readSum_23
        refine sM_marked (c := 43) ht hM h0 (by decide) (by decide) ?_
        rw [q, if_neg (show ¬ b2 true = 0 by decide)]
        exact k
      · rw [q, if_pos (show b2 false = 0 from rfl)]
        refine sM_marked (c := 45) ht hM h0 (by decide) (by decide) ?_
        rw [q2, if_neg (show ¬ b2 true = 0 by decide)]
        unfold jM_readSum_23
        refine sM_marked (c := 43) ht hM h0 (by decide) (by decide) ?_
        rw [q, if_pos (show b2 false = 0 from rfl)]
        exact k)
  have hB := Run.bind (N := N2 + 1) (h2 p hp) (WL := fun e U z T L V P post xp => ∃ m, wl_sum ad rX r x1 m e U z T L V P post xp) (ML := fun sg post => ∃ m, ml_sum rM y1 m sg post) (fun p1 l1 n1 d1 f1 g1 g2 => (hL (n + 1) p1 l1 n1 d1 f1 (by omega) g1 (by omega)).to (fun e U z T L V P post xp w => ⟨_, w⟩) (fun sg post w => ⟨_, w⟩)) (fun sg post hb k => ⟨1, bdl_sum rM y1 0 sg post hb k⟩)
  exact hB.to (fun U z T L V P post xp w => by unfold wFX9_sum; exact w) (fun sg post w => by show wM_readSum sg rM y1 post; unfold wM_readSum; exact w)
def op_and (b : Nat → Nat) (n p : Nat) : Option (Nat × Int32) := if tIs b n p [97, 110, 100] = true then some (38, -26) else none
def wl_and (ad : Nat → Nat) (rE : rEF) (r : Nat) (x1 : Int32) (m : Nat) : Nat → clsW := fun e U z T L V P post xp => lFX9_and_6 ad rE r x1 post xp (fun (U66 z : Nat) (T L : Nat → Nat) (V64 : w_V) (P65 : w_P) (y68 : Nat) => (post y68 z T L V64 P65)) m U z T L V P e
def ml_and (rE : MS → Int32 → (MS → Prop) → Prop) (x1 : Int32) (m : Nat) : mdlW := fun sg post => lM_readAnd_5 rE x1 post m sg
theorem bdl_and (rE : MS → Int32 → (MS → Prop) → Prop) (x1 : Int32) (m : Nat) : bdM (ml_and rE x1 (m + 1)) := by
  intro sg post hb k
  unfold ml_and lM_readAnd_5
  refine sM_isB hb ?_
  rw [if_pos rfl]
  exact k
theorem lrun_and (hA : hAd ad) (ht : tOk b n) {N2 : Nat} {rX : rEF} {rM : MS → Int32 → (MS → Prop) → Prop} {x1 y1 : Int32} (h2 : ∀ p, p ≤ n → Run ad b n r tx ax kx N2 p (fun U z T L V P post xp => wFX9_not ad rX U z T L V P r x1 post xp) (fun sg post => wM_readNot sg rM y1 post)) {p : Nat} (hp : p ≤ n) : Run ad b n r tx ax kx (N2 + 1) p (bindX r (fun U z T L V P post xp => wFX9_not ad rX U z T L V P r x1 post xp) (fun e U z T L V P post xp => ∃ m, wl_and ad rX r x1 m e U z T L V P post xp)) (bindM (fun sg post => wM_readNot sg rM y1 post) (fun sg post => ∃ m, ml_and rM y1 m sg post)) := by
  have hop : ∀ p c x, op_and b n p = some (c, x) → c = 38 ∧ x = -26 ∧ tIs b n p [97, 110, 100] = true := fun p c x e => by
    unfold op_and at e
    by_cases e1 : tIs b n p [97, 110, 100] = true
    · rw [if_pos e1] at e; cases e; exact ⟨rfl, rfl, e1⟩
    · rw [if_neg e1] at e; cases e
  have hno : ∀ p, op_and b n p = none → tIs b n p [97, 110, 100] = false := fun p e => by
    unfold op_and at e
    by_cases e1 : tIs b n p [97, 110, 100] = true
    · rw [if_pos e1] at e; cases e
    · simpa using e1
  have hL := loop_run (r := r) (tx := tx) (ax := ax) (kx := kx) hA ht (N2 := N2) (N := N2 + 1) (wl_and ad rX r x1) (ml_and rM y1) (op_and b n) (fun p c x e => by
      obtain ⟨rfl, rfl, q⟩ := hop p c x e
      exact ⟨tis_lt q, by unfold opC; decide, by decide⟩) (Nat.le_refl _) h2 (bdl_and rM y1)
    (fun m p eo U z T L V P e post xp hX k => by
      unfold wl_and lFX9_and_6
      intro s10 hs10
      refine sX_is hA ht hX (by decide) hs10 ?_
      rw [hno p eo, if_pos (show b2 false = 0 from rfl)]
      exact k)
    (fun m p c x eo U z T L V P e post xp hX k => by
      obtain ⟨rfl, rfl, q⟩ := hop p c x eo
      unfold wl_and lFX9_and_6
      intro s10 hs10
      refine sX_is hA ht hX (by decide) hs10 ?_
      rw [q, if_neg (show ¬ b2 true = 0 by decide)]
      exact k)
    (fun m p eo sg post hM h0 k => by
      unfold ml_and lM_readAnd_5
      refine sM_is ht hM h0 (by decide) (by decide) ?_
      rw [hno p eo, if_pos (show b2 false = 0 from rfl)]
      exact k)
    (fun m p c x eo sg post hM h0 k => by
      obtain ⟨rfl, rfl, q⟩ := hop p c x eo
      unfold ml_and lM_readAnd_5
      refine sM_is ht hM h0 (by decide) (by decide) ?_
      rw [q, if_neg (show ¬ b2 true = 0 by decide)]
      exact k)
  exact Run.bind (N := N2 + 1) (h2 p hp) (fun p1 l1 n1 d1 f1 g1 g2 => (hL (n + 1) p1 l1 n1 d1 f1 (by omega) g1 (by omega)).to (fun e U z T L V P post xp w => ⟨_, w⟩) (fun sg post w => ⟨_, w⟩)) (fun sg post hb k => ⟨1, bdl_and rM y1 0 sg post hb k⟩)
def op_or (b : Nat → Nat) (n p : Nat) : Option (Nat × Int32) := if tIs b n p [111, 114] = true then some (124, -27) else none
def wl_or (ad : Nat → Nat) (rE : rEF) (r : Nat) (x1 : Int32) (m : Nat) : Nat → clsW := fun e U z T L V P post xp => lFX9_expr_51 ad rE r x1 post xp (fun (U66 z : Nat) (T L : Nat → Nat) (V64 : w_V) (P65 : w_P) (y68 : Nat) => (post y68 z T L V64 P65)) m U z T L V P e
def ml_or (rE : MS → Int32 → (MS → Prop) → Prop) (x1 : Int32) (m : Nat) : mdlW := fun sg post => lM_readExpressionF_67 rE x1 post m sg
theorem bdl_or (rE : MS → Int32 → (MS → Prop) → Prop) (x1 : Int32) (m : Nat) : bdM (ml_or rE x1 (m + 1)) := by
  intro sg post hb k
  unfold ml_or lM_readExpressionF_67
  refine sM_isB hb ?_
  rw [if_pos rfl]
  exact k
theorem lrun_or (hA : hAd ad) (ht : tOk b n) {N2 : Nat} {rX : rEF} {rM : MS → Int32 → (MS → Prop) → Prop} {x1 y1 : Int32} (h2 : ∀ p, p ≤ n → Run ad b n r tx ax kx N2 p (fun U z T L V P post xp => wFX9_and ad rX U z T L V P r x1 post xp) (fun sg post => wM_readAnd sg rM y1 post)) {p : Nat} (hp : p ≤ n) : Run ad b n r tx ax kx (N2 + 1) p (bindX r (fun U z T L V P post xp => wFX9_and ad rX U z T L V P r x1 post xp) (fun e U z T L V P post xp => ∃ m, wl_or ad rX r x1 m e U z T L V P post xp)) (bindM (fun sg post => wM_readAnd sg rM y1 post) (fun sg post => ∃ m, ml_or rM y1 m sg post)) := by
  have hop : ∀ p c x, op_or b n p = some (c, x) → c = 124 ∧ x = -27 ∧ tIs b n p [111, 114] = true := fun p c x e => by
    unfold op_or at e
    by_cases e1 : tIs b n p [111, 114] = true
    · rw [if_pos e1] at e; cases e; exact ⟨rfl, rfl, e1⟩
    · rw [if_neg e1] at e; cases e
  have hno : ∀ p, op_or b n p = none → tIs b n p [111, 114] = false := fun p e => by
    unfold op_or at e
    by_cases e1 : tIs b n p [111, 114] = true
    · rw [if_pos e1] at e; cases e
    · simpa using e1
  have hL := loop_run (r := r) (tx := tx) (ax := ax) (kx := kx) hA ht (N2 := N2) (N := N2 + 1) (wl_or ad rX r x1) (ml_or rM y1) (op_or b n) (fun p c x e => by
      obtain ⟨rfl, rfl, q⟩ := hop p c x e
      exact ⟨tis_lt q, by unfold opC; decide, by decide⟩) (Nat.le_refl _) h2 (bdl_or rM y1)
    (fun m p eo U z T L V P e post xp hX k => by
      unfold wl_or lFX9_expr_51
      intro s10 hs10
      refine sX_is hA ht hX (by decide) hs10 ?_
      rw [hno p eo, if_pos (show b2 false = 0 from rfl)]
      exact k)
    (fun m p c x eo U z T L V P e post xp hX k => by
      obtain ⟨rfl, rfl, q⟩ := hop p c x eo
      unfold wl_or lFX9_expr_51
      intro s10 hs10
      refine sX_is hA ht hX (by decide) hs10 ?_
      rw [q, if_neg (show ¬ b2 true = 0 by decide)]
      exact k)
    (fun m p eo sg post hM h0 k => by
      unfold ml_or lM_readExpressionF_67
      refine sM_is ht hM h0 (by decide) (by decide) ?_
      rw [hno p eo, if_pos (show b2 false = 0 from rfl)]
      exact k)
    (fun m p c x eo sg post hM h0 k => by
      obtain ⟨rfl, rfl, q⟩ := hop p c x eo
      unfold ml_or lM_readExpressionF_67
      refine sM_is ht hM h0 (by decide) (by decide) ?_
      rw [q, if_neg (show ¬ b2 true = 0 by decide)]
      exact k)
  exact Run.bind (N := N2 + 1) (h2 p hp) (fun p1 l1 n1 d1 f1 g1 g2 => (hL (n + 1) p1 l1 n1 d1 f1 (by omega) g1 (by omega)).to (fun e U z T L V P post xp w => ⟨_, w⟩) (fun sg post w => ⟨_, w⟩)) (fun sg post hb k => ⟨1, bdl_or rM y1 0 sg post hb k⟩)
end B
