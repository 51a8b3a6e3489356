/-! PURE: a land's reading at both: a statement, all of them -/
set_option maxRecDepth 100000
def dn (g w : Bool) : Int32 := if g = true then (if w = true then 3 else 1) else (if w = true then 2 else 0)
theorem dn_0 (g w : Bool) : dn g w ||| 0 = dn g w := by cases g <;> cases w <;> decide
theorem dn_1 (w : Bool) : dn false w ||| 1 = dn true w := by cases w <;> decide
theorem dn_2 (g : Bool) : dn g false ||| 2 = dn g true := by cases g <;> decide
theorem dn_a0 (g w : Bool) : (0 : Int32) &&& dn g w = 0 := by cases g <;> cases w <;> decide
theorem dn_a1 (w : Bool) : (1 : Int32) &&& dn false w = 0 ∧ ¬ ((1 : Int32) &&& dn true w = 0) := by cases w <;> decide
theorem dn_a2 (g : Bool) : (2 : Int32) &&& dn g false = 0 ∧ ¬ ((2 : Int32) &&& dn g true = 0) := by cases g <;> decide
section L
variable {ad b : Nat → Nat} {n : Nat} {B : bsE} {r tx ax kx l jl cl vw : Nat} {D : MS} {lw : (Nat → Int32) → Int32} {g w : Bool} {p z : Nat} {T L : Nat → Nat} {V : w_V} {P : w_P}
/-- a statement read at both, with its semicolon -/
def iRun (ad b : Nat → Nat) (n : Nat) (B : bsE) (r tx ax kx l jl cl vw : Nat) (D : MS) (lw : (Nat → Int32) → Int32) (g w : Bool) (p : Nat) : Prop :=
  (∃ (D' : MS) (lw' : (Nat → Int32) → Int32) (g' w' : Bool) (p' : Nat), DOk D' ∧ (w' = false → nS D' = 0) ∧ p < p' ∧ p' ≤ n ∧ (∀ (post ke : lpT) (xp : w_Xp) (m U z : Nat) (T L : Nat → Nat) (V : w_V) (P : w_P), 30 * (p' - p) ≤ U → CL ad b n B r tx ax kx l jl cl vw D lw g w p z T L V P → (∀ (U' z' : Nat) (T' L' : Nat → Nat) (V' : w_V) (P' : w_P), U ≤ U' + 30 * (p' - p) → z ≤ z' → CL ad b n B r tx ax kx l jl cl vw D' lw' g' w' p' z' T' L' V' P' → lFX9_land_8 ad r l post xp ke m U' z' T' L' V' P') → lFX9_land_8 ad r l post xp ke (m + 1) U z T L V P) ∧ ∀ (sg0 sg : MS) (post : Int32 → MS → Prop), ML b n sg0 D p sg → (∀ s9, ML b n sg0 D' p' s9 → post (dn g' w') s9) → wM_readLine sg (dn g w) post) ∨
  ∃ (k : Int32) (pl : Nat), k ≠ 0 ∧ p ≤ pl ∧ pl ≤ n ∧ (∀ (post ke : lpT) (xp : w_Xp) (m U z : Nat) (T L : Nat → Nat) (V : w_V) (P : w_P), 30 * (pl - p) + 30 ≤ U → CL ad b n B r tx ax kx l jl cl vw D lw g w p z T L V P → xfL B xp z k pl → lFX9_land_8 ad r l post xp ke (m + 1) U z T L V P) ∧ ∀ (sg0 sg : MS) (post : Int32 → MS → Prop), ML b n sg0 D p sg → (∀ x s9, fU sg0 s9 → s9 0 21 = k → s9 0 22 = nI pl → post x s9) → wM_readLine sg (dn g w) post
theorem bRun.semi (hA : hAd ad) (ht : tOk b n) {g' w' : Bool} {cW : lpT → lpT → w_Xp → lpT} {mW' : MS → (MS → Prop) → Prop} (hb : bRun ad b n B r tx ax kx l jl cl vw D lw g w g' w' p cW mW') (hc : ∀ (post ke : lpT) (xp : w_Xp) (m U z : Nat) (T L : Nat → Nat) (V : w_V) (P : w_P), CL ad b n B r tx ax kx l jl cl vw D lw g w p z T L V P → cW post (lFX9_land_8 ad r l post xp ke m) xp U z T L V P → lFX9_land_8 ad r l post xp ke (m + 1) U z T L V P) (hm : ∀ (sg0 sg : MS) (post : Int32 → MS → Prop), ML b n sg0 D p sg → mW' sg (fun g2 => wM_mark g2 59 (fun g3 => post (dn g' w') g3)) → wM_readLine sg (dn g w) post) : iRun ad b n B r tx ax kx l jl cl vw D lw g w p := by
  rcases hb with ⟨D', lw', p1, a1, a2, a3, a4, a5, a6⟩ | ⟨k, pl, a1, a2, a3, a4, a5⟩
  · cases e : tIs b n p1 [59] with
    | true =>
      have hp1n : p1 < n := tis_lt e
      have hp2 := t9nx_gt (b := b) hp1n
      have hp2n := t9nx_le (b := b) a4
      refine Or.inl ⟨D', lw', g', w', tNx b n p1, a1, a2, by omega, hp2n, ?_, ?_⟩
      · intro post ke xp m U z T L V P hU hC k
        refine hc post ke xp m U z T L V P hC (a5 post _ xp U z T L V P (by omega) hC (fun U' z' T' L' V' P' u1 u2 u3 => ?_))
        unfold jFX9_land_283
        intro s96 hs96
        refine ⟨12, U' - 12, by omega, sX_need hA ht u3.1 u3.2.1 (by decide) hs96 (by omega) (fun _ => ?_) (fun q => by rw [e] at q; cases q)⟩
        intro z2 T2 L2 V2 P2 x1 x2
        have hC2 := u3.x x1 x2
        exact ⟨x2.1.1, hC2.2.2.2.2.2.2.1.1, k _ _ _ _ _ _ (by omega) (Nat.le_trans u2 x1.2.1) hC2⟩
      · intro sg0 sg post hM k
        refine hm sg0 sg post hM (a6 sg0 sg _ hM (fun s9 hM9 => ?_))
        exact sM_mark (c := 59) ht hM9.1 hM9.2.1 (by decide) (by decide) (fun _ s8 f8 m8 => k s8 (hM9.s f8 m8)) (fun q => by rw [e] at q; cases q)
    | false =>
      refine Or.inr ⟨1, p1, by decide, by omega, a4, ?_, ?_⟩
      · intro post ke xp m U z T L V P hU hC k
        refine hc post ke xp m U z T L V P hC (a5 post _ xp U z T L V P (by omega) hC (fun U' z' T' L' V' P' u1 u2 u3 => ?_))
        unfold jFX9_land_283
        intro s96 hs96
        exact ⟨12, U' - 12, by omega, sX_need hA ht u3.1 u3.2.1 (by decide) hs96 (by omega) (fun q => by rw [e] at q; cases q) (fun _ => (k.m u2).c u3)⟩
      · intro sg0 sg post hM k
        refine hm sg0 sg post hM (a6 sg0 sg _ hM (fun s9 hM9 => ?_))
        exact sM_mark (c := 59) ht hM9.1 hM9.2.1 (by decide) (by decide) (fun q => by rw [e] at q; cases q) (fun _ => k _ _ (hM9.2.2.2.tr (fB.wr _ _ _).U) wr_21 wr_22)
  · refine Or.inr ⟨k, pl, a1, a2, a3, ?_, ?_⟩
    · intro post ke xp m U z T L V P hU hC kk
      exact hc post ke xp m U z T L V P hC (a4 post _ xp U z T L V P hU hC kk)
    · intro sg0 sg post hM kk
      exact hm sg0 sg post hM (a5 sg0 sg _ hM (fun s9 f9 m9 l9 => sM_markB (by rw [m9]; exact a1) (kk _ s9 f9 m9 l9)))
/-- the words that begin a statement -/
def kws : List (List Nat) := [[116, 111, 119, 110], [114, 111, 97, 100], [103, 111, 115, 115, 105, 112], [108, 97, 119], [99, 97, 115, 101], [106, 117, 100, 103, 101], [100, 101, 97, 102], [119, 105, 115, 101]]
theorem kws_ne {i j : Nat} (hi : i < 8) (hj : j < 8) (h : tIs b n p (kws.getD i []) = true) (hij : i ≠ j) : tIs b n p (kws.getD j []) = false := by
  have : ∀ i, i < 8 → ∀ j, j < 8 → i ≠ j → kws.getD i [] ≠ kws.getD j [] := by decide
  exact t9tis_ne h (this i hi j hj hij)

theorem jws_ok : ∀ i, i < jws.length → ∃ c s, jws.getD i [] = c :: s ∧ tLt c = true ∧ (c :: s).length ≤ 6 ∧ ∀ d ∈ c :: s, d < 256 := by
  intro i hi
  have : i < 3 := hi
  rcases (show i = 0 ∨ i = 1 ∨ i = 2 by omega) with e | e | e <;> subst e
  · exact ⟨106, _, rfl, by decide, by decide, by decide⟩
  · exact ⟨100, _, rfl, by decide, by decide, by decide⟩
  · exact ⟨119, _, rfl, by decide, by decide, by decide⟩
theorem jws_kws : ∀ i, i < 3 → jws.getD i [] = kws.getD (i + 5) [] := by decide
/-- the model's way: which word, the flags -/
theorem rl_go (ht : tOk b n) {sg0 sg : MS} {post : Int32 → MS → Prop} (hM : ML b n sg0 D p sg) {t0 r12 : Int32} (hg : tIs b n p [103, 111, 115, 115, 105, 112] = true → t0 = 1) (hl : tIs b n p [103, 111, 115, 115, 105, 112] = false → tIs b n p [108, 97, 119] = true → t0 = 2) (h0 : tIs b n p [103, 111, 115, 115, 105, 112] = false → tIs b n p [108, 97, 119] = false → t0 = 0) (hj : ∀ i, i < 3 → tIs b n p (jws.getD i []) = true → r12 = nI i) (hn : (∀ i, i < 3 → tIs b n p (jws.getD i []) = false) → r12 = -1) {x1 : Int32} (k : if ((t0 &&& x1) = 0 : Prop) then (jM_readLine_50 sg x1 t0 r12 post) else (wM_wrong sg 5 (fun (g45 : MS) => (jM_readLine_50 g45 x1 t0 r12 post)))) : wM_readLine sg x1 post := by
  have k29 : jM_readLine_29 sg x1 t0 post := by
    unfold jM_readLine_29
    refine sM_which (ws := jws) ht hM.1 hM.2.1 (by decide) jws_ok (fun i hi hv _ => ?_) (fun hno => ?_)
    · rw [← hj i hi hv]; exact k
    · rw [← hn hno]; exact k
  unfold wM_readLine
  refine sM_is ht hM.1 hM.2.1 (by decide) (by decide) ?_
  cases eg : tIs b n p [103, 111, 115, 115, 105, 112] with
  | true => rw [if_neg (show ¬ b2 true = 0 by decide), ← hg eg]; exact k29
  | false =>
    rw [if_pos (show b2 false = 0 from rfl)]
    refine sM_is ht hM.1 hM.2.1 (by decide) (by decide) ?_
    cases el : tIs b n p [108, 97, 119] with
    | true => rw [if_neg (show ¬ b2 true = 0 by decide), ← hl eg el]; exact k29
    | false => rw [if_pos (show b2 false = 0 from rfl), ← h0 eg el]; exact k29
theorem no_j {i : Nat} (hi : i < 5) (e : tIs b n p (kws.getD i []) = true) : ∀ j, j < 3 → tIs b n p (jws.getD j []) = false := fun j hj => by
  rw [jws_kws j hj]
  exact kws_ne (by omega) (by omega) e (by omega)

theorem i_town (hA : hAd ad) (ht : tOk b n) (hD : DOk D) (hw : w = false → nS D = 0) (hp : p ≤ n) (e : tIs b n p [116, 111, 119, 110] = true) : iRun ad b n B r tx ax kx l jl cl vw D lw g w p := by
  have h0 : tKin b n p ≠ 0 := t9tis_k e
  refine (b_town hA ht hD hw hp e).semi hA ht (fun post ke xp m U z T L V P hC k => ?_) (fun sg0 sg post hM k => ?_)
  · unfold lFX9_land_8
    refine ⟨_, hC.2.1.2.2.2.2.1, ?_⟩
    rw [if_neg (show ¬ ad (srt (tKin b n p)) = ad 9 from fun e => h0 ((srt_iff (j := 0) hA t9kin_lt (by decide)).mp e))]
    intro t0 ht0
    refine sX_is hA ht hC.2.1 (by decide) ht0 ?_
    rw [e, if_neg (show ¬ b2 true = 0 by decide)]
    exact k
  · exact (rl_go (t0 := 0) (r12 := -1) ht hM (fun q => by rw [show tIs b n p [103, 111, 115, 115, 105, 112] = false from kws_ne (i := 0) (j := 2) (by decide) (by decide) e (by decide)] at q; cases q) (fun _ q => by rw [show tIs b n p [108, 97, 119] = false from kws_ne (i := 0) (j := 3) (by decide) (by decide) e (by decide)] at q; cases q) (fun _ _ => rfl) (fun j hj q => by rw [no_j (i := 0) (by decide) e j hj] at q; cases q) (fun _ => rfl) (by
      rw [if_pos (dn_a0 g w)]
      unfold jM_readLine_50
      rw [if_pos (by decide), if_pos rfl]
      refine sM_is ht hM.1 hM.2.1 (by decide) (by decide) ?_
      rw [e, if_neg (show ¬ b2 true = 0 by decide)]
      unfold jM_readLine_163
      rw [dn_0]
      exact k))

theorem i_road (hA : hAd ad) (ht : tOk b n) (hD : DOk D) (hw : w = false → nS D = 0) (hp : p ≤ n) (e : tIs b n p [114, 111, 97, 100] = true) : iRun ad b n B r tx ax kx l jl cl vw D lw g w p := by
  have h0 : tKin b n p ≠ 0 := t9tis_k e
  refine (b_road hA ht hD hw hp e).semi hA ht (fun post ke xp m U z T L V P hC k => ?_) (fun sg0 sg post hM k => ?_)
  · unfold lFX9_land_8
    refine ⟨_, hC.2.1.2.2.2.2.1, ?_⟩
    rw [if_neg (show ¬ ad (srt (tKin b n p)) = ad 9 from fun e => h0 ((srt_iff (j := 0) hA t9kin_lt (by decide)).mp e))]
    intro t0 ht0
    refine sX_is hA ht hC.2.1 (by decide) ht0 ?_
    rw [show tIs b n p [116, 111, 119, 110] = false from kws_ne (i := 1) (j := 0) (by decide) (by decide) e (by decide), if_pos (show b2 false = 0 from rfl)]
    intro t1 ht1
    refine sX_is hA ht hC.2.1 (by decide) ht1 ?_
    rw [e, if_neg (show ¬ b2 true = 0 by decide)]
    exact k
  · exact (rl_go (t0 := 0) (r12 := -1) ht hM (fun q => by rw [show tIs b n p [103, 111, 115, 115, 105, 112] = false from kws_ne (i := 1) (j := 2) (by decide) (by decide) e (by decide)] at q; cases q) (fun _ q => by rw [show tIs b n p [108, 97, 119] = false from kws_ne (i := 1) (j := 3) (by decide) (by decide) e (by decide)] at q; cases q) (fun _ _ => rfl) (fun j hj q => by rw [no_j (i := 1) (by decide) e j hj] at q; cases q) (fun _ => rfl) (by
      rw [if_pos (dn_a0 g w)]
      unfold jM_readLine_50
      rw [if_pos (by decide), if_pos rfl]
      refine sM_is ht hM.1 hM.2.1 (by decide) (by decide) ?_
      rw [show tIs b n p [116, 111, 119, 110] = false from kws_ne (i := 1) (j := 0) (by decide) (by decide) e (by decide), if_pos (show b2 false = 0 from rfl)]
      refine sM_is ht hM.1 hM.2.1 (by decide) (by decide) ?_
      rw [e, if_neg (show ¬ b2 true = 0 by decide)]
      unfold jM_readLine_163
      rw [dn_0]
      exact k))

theorem i_case (hA : hAd ad) (ht : tOk b n) (hD : DOk D) (hw : w = false → nS D = 0) (hp : p ≤ n) (e : tIs b n p [99, 97, 115, 101] = true) : iRun ad b n B r tx ax kx l jl cl vw D lw g w p := by
  have h0 : tKin b n p ≠ 0 := t9tis_k e
  refine (b_case hA ht hD hw hp e).semi hA ht (fun post ke xp m U z T L V P hC k => ?_) (fun sg0 sg post hM k => ?_)
  · unfold lFX9_land_8
    refine ⟨_, hC.2.1.2.2.2.2.1, ?_⟩
    rw [if_neg (show ¬ ad (srt (tKin b n p)) = ad 9 from fun e => h0 ((srt_iff (j := 0) hA t9kin_lt (by decide)).mp e))]
    intro t0 ht0
    refine sX_is hA ht hC.2.1 (by decide) ht0 ?_
    rw [show tIs b n p [116, 111, 119, 110] = false from kws_ne (i := 4) (j := 0) (by decide) (by decide) e (by decide), if_pos (show b2 false = 0 from rfl)]
    intro t1 ht1
    refine sX_is hA ht hC.2.1 (by decide) ht1 ?_
    rw [show tIs b n p [114, 111, 97, 100] = false from kws_ne (i := 4) (j := 1) (by decide) (by decide) e (by decide), if_pos (show b2 false = 0 from rfl)]
    intro s31 hs31
    refine ⟨0, U, (Nat.zero_add U).symm, sX_begins (i := 0) hA ht hC (Or.inl ⟨rfl, rfl, rfl, rfl⟩) (by decide) hs31 (fun _ => ⟨hC.2.1.1.1, hC.2.2.2.2.2.2.1.1, ?_⟩) (fun q => by rw [show tIs b n p [103, 111, 115, 115, 105, 112] = false from kws_ne (i := 4) (j := 2) (by decide) (by decide) e (by decide)] at q; cases q) (fun q => by rw [show tIs b n p [103, 111, 115, 115, 105, 112] = false from kws_ne (i := 4) (j := 2) (by decide) (by decide) e (by decide)] at q; cases q)⟩
    rw [if_pos rfl]
    intro s42 hs42
    refine ⟨0, U, (Nat.zero_add U).symm, sX_begins (i := 1) hA ht hC (Or.inr ⟨rfl, rfl, rfl, rfl⟩) (by decide) hs42 (fun _ => ⟨hC.2.1.1.1, hC.2.2.2.2.2.2.1.1, ?_⟩) (fun q => by rw [show tIs b n p [108, 97, 119] = false from kws_ne (i := 4) (j := 3) (by decide) (by decide) e (by decide)] at q; cases q) (fun q => by rw [show tIs b n p [108, 97, 119] = false from kws_ne (i := 4) (j := 3) (by decide) (by decide) e (by decide)] at q; cases q)⟩
    rw [if_pos rfl]
    intro t4 ht4
    refine sX_is hA ht hC.2.1 (by decide) ht4 ?_
    rw [e, if_neg (show ¬ b2 true = 0 by decide)]
    exact k
  · exact (rl_go (t0 := 0) (r12 := -1) ht hM (fun q => by rw [show tIs b n p [103, 111, 115, 115, 105, 112] = false from kws_ne (i := 4) (j := 2) (by decide) (by decide) e (by decide)] at q; cases q) (fun _ q => by rw [show tIs b n p [108, 97, 119] = false from kws_ne (i := 4) (j := 3) (by decide) (by decide) e (by decide)] at q; cases q) (fun _ _ => rfl) (fun j hj q => by rw [no_j (i := 4) (by decide) e j hj] at q; cases q) (fun _ => rfl) (by
      rw [if_pos (dn_a0 g w)]
      unfold jM_readLine_50
      rw [if_pos (by decide), if_pos rfl]
      refine sM_is ht hM.1 hM.2.1 (by decide) (by decide) ?_
      rw [show tIs b n p [116, 111, 119, 110] = false from kws_ne (i := 4) (j := 0) (by decide) (by decide) e (by decide), if_pos (show b2 false = 0 from rfl)]
      refine sM_is ht hM.1 hM.2.1 (by decide) (by decide) ?_
      rw [show tIs b n p [114, 111, 97, 100] = false from kws_ne (i := 4) (j := 1) (by decide) (by decide) e (by decide), if_pos (show b2 false = 0 from rfl)]
      refine sM_is ht hM.1 hM.2.1 (by decide) (by decide) ?_
      rw [e, if_neg (show ¬ b2 true = 0 by decide)]
      unfold jM_readLine_163
      rw [dn_0]
      exact k))

theorem i_judge (hA : hAd ad) (ht : tOk b n) (hD : DOk D) (hw : w = false → nS D = 0) (hp : p ≤ n) (e : tIs b n p [106, 117, 100, 103, 101] = true) : iRun ad b n B r tx ax kx l jl cl vw D lw g w p := by
  have h0 : tKin b n p ≠ 0 := t9tis_k e
  refine (b_judge hA ht hD hw hp (i := 0) (by decide) e).semi hA ht (fun post ke xp m U z T L V P hC k => ?_) (fun sg0 sg post hM k => ?_)
  · unfold lFX9_land_8
    refine ⟨_, hC.2.1.2.2.2.2.1, ?_⟩
    rw [if_neg (show ¬ ad (srt (tKin b n p)) = ad 9 from fun e => h0 ((srt_iff (j := 0) hA t9kin_lt (by decide)).mp e))]
    intro t0 ht0
    refine sX_is hA ht hC.2.1 (by decide) ht0 ?_
    rw [show tIs b n p [116, 111, 119, 110] = false from kws_ne (i := 5) (j := 0) (by decide) (by decide) e (by decide), if_pos (show b2 false = 0 from rfl)]
    intro t1 ht1
    refine sX_is hA ht hC.2.1 (by decide) ht1 ?_
    rw [show tIs b n p [114, 111, 97, 100] = false from kws_ne (i := 5) (j := 1) (by decide) (by decide) e (by decide), if_pos (show b2 false = 0 from rfl)]
    intro s31 hs31
    refine ⟨0, U, (Nat.zero_add U).symm, sX_begins (i := 0) hA ht hC (Or.inl ⟨rfl, rfl, rfl, rfl⟩) (by decide) hs31 (fun _ => ⟨hC.2.1.1.1, hC.2.2.2.2.2.2.1.1, ?_⟩) (fun q => by rw [show tIs b n p [103, 111, 115, 115, 105, 112] = false from kws_ne (i := 5) (j := 2) (by decide) (by decide) e (by decide)] at q; cases q) (fun q => by rw [show tIs b n p [103, 111, 115, 115, 105, 112] = false from kws_ne (i := 5) (j := 2) (by decide) (by decide) e (by decide)] at q; cases q)⟩
    rw [if_pos rfl]
    intro s42 hs42
    refine ⟨0, U, (Nat.zero_add U).symm, sX_begins (i := 1) hA ht hC (Or.inr ⟨rfl, rfl, rfl, rfl⟩) (by decide) hs42 (fun _ => ⟨hC.2.1.1.1, hC.2.2.2.2.2.2.1.1, ?_⟩) (fun q => by rw [show tIs b n p [108, 97, 119] = false from kws_ne (i := 5) (j := 3) (by decide) (by decide) e (by decide)] at q; cases q) (fun q => by rw [show tIs b n p [108, 97, 119] = false from kws_ne (i := 5) (j := 3) (by decide) (by decide) e (by decide)] at q; cases q)⟩
    rw [if_pos rfl]
    intro t4 ht4
    refine sX_is hA ht hC.2.1 (by decide) ht4 ?_
    rw [show tIs b n p [99, 97, 115, 101] = false from kws_ne (i := 5) (j := 4) (by decide) (by decide) e (by decide), if_pos (show b2 false = 0 from rfl)]
    intro t5 ht5
    refine sX_is hA ht hC.2.1 (by decide) ht5 ?_
    rw [e, if_neg (show ¬ b2 true = 0 by decide)]
    unfold jFX9_land_248
    exact k
  · refine rl_go (t0 := 0) (r12 := nI 0) ht hM (fun q => by rw [show tIs b n p [103, 111, 115, 115, 105, 112] = false from kws_ne (i := 5) (j := 2) (by decide) (by decide) e (by decide)] at q; cases q) (fun _ q => by rw [show tIs b n p [108, 97, 119] = false from kws_ne (i := 5) (j := 3) (by decide) (by decide) e (by decide)] at q; cases q) (fun _ _ => rfl) (fun i' hi' q => ?_) (fun q => by have := q 0 (by decide); rw [show tIs b n p (jws.getD 0 []) = true from e] at this; cases this) ?_
    · by_cases ei : i' = 0
      · rw [ei]
      · rw [jws_kws i' hi', kws_ne (i := 5) (by decide) (by omega) e (by omega)] at q; cases q
    · rw [if_pos (dn_a0 g w)]
      unfold jM_readLine_50
      rw [if_pos (by decide), if_neg (by decide)]
      unfold jM_readLine_163
      rw [dn_0]
      exact k

theorem i_deaf (hA : hAd ad) (ht : tOk b n) (hD : DOk D) (hw : w = false → nS D = 0) (hp : p ≤ n) (e : tIs b n p [100, 101, 97, 102] = true) : iRun ad b n B r tx ax kx l jl cl vw D lw g w p := by
  have h0 : tKin b n p ≠ 0 := t9tis_k e
  refine (b_judge hA ht hD hw hp (i := 1) (by decide) e).semi hA ht (fun post ke xp m U z T L V P hC k => ?_) (fun sg0 sg post hM k => ?_)
  · unfold lFX9_land_8
    refine ⟨_, hC.2.1.2.2.2.2.1, ?_⟩
    rw [if_neg (show ¬ ad (srt (tKin b n p)) = ad 9 from fun e => h0 ((srt_iff (j := 0) hA t9kin_lt (by decide)).mp e))]
    intro t0 ht0
    refine sX_is hA ht hC.2.1 (by decide) ht0 ?_
    rw [show tIs b n p [116, 111, 119, 110] = false from kws_ne (i := 6) (j := 0) (by decide) (by decide) e (by decide), if_pos (show b2 false = 0 from rfl)]
    intro t1 ht1
    refine sX_is hA ht hC.2.1 (by decide) ht1 ?_
    rw [show tIs b n p [114, 111, 97, 100] = false from kws_ne (i := 6) (j := 1) (by decide) (by decide) e (by decide), if_pos (show b2 false = 0 from rfl)]
    intro s31 hs31
    refine ⟨0, U, (Nat.zero_add U).symm, sX_begins (i := 0) hA ht hC (Or.inl ⟨rfl, rfl, rfl, rfl⟩) (by decide) hs31 (fun _ => ⟨hC.2.1.1.1, hC.2.2.2.2.2.2.1.1, ?_⟩) (fun q => by rw [show tIs b n p [103, 111, 115, 115, 105, 112] = false from kws_ne (i := 6) (j := 2) (by decide) (by decide) e (by decide)] at q; cases q) (fun q => by rw [show tIs b n p [103, 111, 115, 115, 105, 112] = false from kws_ne (i := 6) (j := 2) (by decide) (by decide) e (by decide)] at q; cases q)⟩
    rw [if_pos rfl]
    intro s42 hs42
    refine ⟨0, U, (Nat.zero_add U).symm, sX_begins (i := 1) hA ht hC (Or.inr ⟨rfl, rfl, rfl, rfl⟩) (by decide) hs42 (fun _ => ⟨hC.2.1.1.1, hC.2.2.2.2.2.2.1.1, ?_⟩) (fun q => by rw [show tIs b n p [108, 97, 119] = false from kws_ne (i := 6) (j := 3) (by decide) (by decide) e (by decide)] at q; cases q) (fun q => by rw [show tIs b n p [108, 97, 119] = false from kws_ne (i := 6) (j := 3) (by decide) (by decide) e (by decide)] at q; cases q)⟩
    rw [if_pos rfl]
    intro t4 ht4
    refine sX_is hA ht hC.2.1 (by decide) ht4 ?_
    rw [show tIs b n p [99, 97, 115, 101] = false from kws_ne (i := 6) (j := 4) (by decide) (by decide) e (by decide), if_pos (show b2 false = 0 from rfl)]
    intro t5 ht5
    refine sX_is hA ht hC.2.1 (by decide) ht5 ?_
    rw [show tIs b n p [106, 117, 100, 103, 101] = false from kws_ne (i := 6) (j := 5) (by decide) (by decide) e (by decide), if_pos (show b2 false = 0 from rfl)]
    intro t6 ht6
    refine sX_is hA ht hC.2.1 (by decide) ht6 ?_
    rw [e, if_neg (show ¬ b2 true = 0 by decide)]
    unfold jFX9_land_248
    exact k
  · refine rl_go (t0 := 0) (r12 := nI 1) ht hM (fun q => by rw [show tIs b n p [103, 111, 115, 115, 105, 112] = false from kws_ne (i := 6) (j := 2) (by decide) (by decide) e (by decide)] at q; cases q) (fun _ q => by rw [show tIs b n p [108, 97, 119] = false from kws_ne (i := 6) (j := 3) (by decide) (by decide) e (by decide)] at q; cases q) (fun _ _ => rfl) (fun i' hi' q => ?_) (fun q => by have := q 1 (by decide); rw [show tIs b n p (jws.getD 1 []) = true from e] at this; cases this) ?_
    · by_cases ei : i' = 1
      · rw [ei]
      · rw [jws_kws i' hi', kws_ne (i := 6) (by decide) (by omega) e (by omega)] at q; cases q
    · rw [if_pos (dn_a0 g w)]
      unfold jM_readLine_50
      rw [if_pos (by decide), if_neg (by decide)]
      unfold jM_readLine_163
      rw [dn_0]
      exact k

theorem i_wise (hA : hAd ad) (ht : tOk b n) (hD : DOk D) (hw : w = false → nS D = 0) (hp : p ≤ n) (e : tIs b n p [119, 105, 115, 101] = true) : iRun ad b n B r tx ax kx l jl cl vw D lw g w p := by
  have h0 : tKin b n p ≠ 0 := t9tis_k e
  refine (b_judge hA ht hD hw hp (i := 2) (by decide) e).semi hA ht (fun post ke xp m U z T L V P hC k => ?_) (fun sg0 sg post hM k => ?_)
  · unfold lFX9_land_8
    refine ⟨_, hC.2.1.2.2.2.2.1, ?_⟩
    rw [if_neg (show ¬ ad (srt (tKin b n p)) = ad 9 from fun e => h0 ((srt_iff (j := 0) hA t9kin_lt (by decide)).mp e))]
    intro t0 ht0
    refine sX_is hA ht hC.2.1 (by decide) ht0 ?_
    rw [show tIs b n p [116, 111, 119, 110] = false from kws_ne (i := 7) (j := 0) (by decide) (by decide) e (by decide), if_pos (show b2 false = 0 from rfl)]
    intro t1 ht1
    refine sX_is hA ht hC.2.1 (by decide) ht1 ?_
    rw [show tIs b n p [114, 111, 97, 100] = false from kws_ne (i := 7) (j := 1) (by decide) (by decide) e (by decide), if_pos (show b2 false = 0 from rfl)]
    intro s31 hs31
    refine ⟨0, U, (Nat.zero_add U).symm, sX_begins (i := 0) hA ht hC (Or.inl ⟨rfl, rfl, rfl, rfl⟩) (by decide) hs31 (fun _ => ⟨hC.2.1.1.1, hC.2.2.2.2.2.2.1.1, ?_⟩) (fun q => by rw [show tIs b n p [103, 111, 115, 115, 105, 112] = false from kws_ne (i := 7) (j := 2) (by decide) (by decide) e (by decide)] at q; cases q) (fun q => by rw [show tIs b n p [103, 111, 115, 115, 105, 112] = false from kws_ne (i := 7) (j := 2) (by decide) (by decide) e (by decide)] at q; cases q)⟩
    rw [if_pos rfl]
    intro s42 hs42
    refine ⟨0, U, (Nat.zero_add U).symm, sX_begins (i := 1) hA ht hC (Or.inr ⟨rfl, rfl, rfl, rfl⟩) (by decide) hs42 (fun _ => ⟨hC.2.1.1.1, hC.2.2.2.2.2.2.1.1, ?_⟩) (fun q => by rw [show tIs b n p [108, 97, 119] = false from kws_ne (i := 7) (j := 3) (by decide) (by decide) e (by decide)] at q; cases q) (fun q => by rw [show tIs b n p [108, 97, 119] = false from kws_ne (i := 7) (j := 3) (by decide) (by decide) e (by decide)] at q; cases q)⟩
    rw [if_pos rfl]
    intro t4 ht4
    refine sX_is hA ht hC.2.1 (by decide) ht4 ?_
    rw [show tIs b n p [99, 97, 115, 101] = false from kws_ne (i := 7) (j := 4) (by decide) (by decide) e (by decide), if_pos (show b2 false = 0 from rfl)]
    intro t5 ht5
    refine sX_is hA ht hC.2.1 (by decide) ht5 ?_
    rw [show tIs b n p [106, 117, 100, 103, 101] = false from kws_ne (i := 7) (j := 5) (by decide) (by decide) e (by decide), if_pos (show b2 false = 0 from rfl)]
    intro t6 ht6
    refine sX_is hA ht hC.2.1 (by decide) ht6 ?_
    rw [show tIs b n p [100, 101, 97, 102] = false from kws_ne (i := 7) (j := 6) (by decide) (by decide) e (by decide), if_pos (show b2 false = 0 from rfl)]
    intro t7 ht7
    refine sX_is hA ht hC.2.1 (by decide) ht7 ?_
    rw [e, if_neg (show ¬ b2 true = 0 by decide)]
    unfold jFX9_land_248
    exact k
  · refine rl_go (t0 := 0) (r12 := nI 2) ht hM (fun q => by rw [show tIs b n p [103, 111, 115, 115, 105, 112] = false from kws_ne (i := 7) (j := 2) (by decide) (by decide) e (by decide)] at q; cases q) (fun _ q => by rw [show tIs b n p [108, 97, 119] = false from kws_ne (i := 7) (j := 3) (by decide) (by decide) e (by decide)] at q; cases q) (fun _ _ => rfl) (fun i' hi' q => ?_) (fun q => by have := q 2 (by decide); rw [show tIs b n p (jws.getD 2 []) = true from e] at this; cases this) ?_
    · by_cases ei : i' = 2
      · rw [ei]
      · rw [jws_kws i' hi', kws_ne (i := 7) (by decide) (by omega) e (by omega)] at q; cases q
    · rw [if_pos (dn_a0 g w)]
      unfold jM_readLine_50
      rw [if_pos (by decide), if_neg (by decide)]
      unfold jM_readLine_163
      rw [dn_0]
      exact k

theorem i_gossip (hA : hAd ad) (ht : tOk b n) (hD : DOk D) (hw : w = false → nS D = 0) (hp : p ≤ n) (e : tIs b n p [103, 111, 115, 115, 105, 112] = true) : iRun ad b n B r tx ax kx l jl cl vw D lw g w p := by
  have h0 : tKin b n p ≠ 0 := t9tis_k e
  cases hfl : g with
  | true =>
    subst hfl
    refine Or.inr ⟨5, p, by decide, Nat.le_refl _, hp, ?_, ?_⟩
    · intro post ke xp m U z T L V P hU hC k
      unfold lFX9_land_8
      refine ⟨_, hC.2.1.2.2.2.2.1, ?_⟩
      rw [if_neg (show ¬ ad (srt (tKin b n p)) = ad 9 from fun e => h0 ((srt_iff (j := 0) hA t9kin_lt (by decide)).mp e))]
      intro t0 ht0
      refine sX_is hA ht hC.2.1 (by decide) ht0 ?_
      rw [show tIs b n p [116, 111, 119, 110] = false from kws_ne (i := 2) (j := 0) (by decide) (by decide) e (by decide), if_pos (show b2 false = 0 from rfl)]
      intro t1 ht1
      refine sX_is hA ht hC.2.1 (by decide) ht1 ?_
      rw [show tIs b n p [114, 111, 97, 100] = false from kws_ne (i := 2) (j := 1) (by decide) (by decide) e (by decide), if_pos (show b2 false = 0 from rfl)]
      intro s31 hs31
      exact ⟨U, 0, rfl, sX_begins (i := 0) hA ht hC (Or.inl ⟨rfl, rfl, rfl, rfl⟩) (by decide) hs31 (fun q => by rw [e] at q; cases q) (fun _ q => by cases q) (fun _ _ => ⟨by omega, k⟩)⟩
    · intro sg0 sg post hM k
      refine rl_go (t0 := 1) (r12 := -1) ht hM (fun _ => rfl) (fun q => by rw [e] at q; cases q) (fun q => by rw [e] at q; cases q) (fun j hj q => by rw [no_j (i := 2) (by decide) e j hj] at q; cases q) (fun _ => rfl) ?_
      rw [if_neg (dn_a1 w).2]
      refine sM_wrong hM.1.2.2.1 hM.2.1 ?_
      have hb : ¬ wr sg 5 p 0 21 = 0 := by rw [wr_21]; decide
      unfold jM_readLine_50
      rw [if_neg (by decide), if_neg hb]
      unfold jM_readLine_65
      rw [if_pos rfl]
      refine sM_readNumB hb ?_
      unfold jM_readLine_163
      exact sM_markB (by rw [s2_k (by decide)]; exact hb) (k _ _ ((hM.2.2.2.tr (fB.wr _ _ _).U).w ⟨by decide, by decide⟩) (by rw [s2_k (by decide)]; exact wr_21) (by rw [s2_k (by decide)]; exact wr_22))
  | false =>
    subst hfl
    refine (b_gossip hA ht hD hw hp e
    (fun (post kb : lpT) (xp : w_Xp) (U34 z : Nat) (T L : Nat → Nat) (V36 : w_V) (P37 : w_P) => (∀ s42 : Nat, T s42 = 0 → (∃ c44 U45 : Nat, U34 = c44 + U45 ∧ wFX9_begins ad c44 z T L V36 P37 r s42 [108, 97, 119] 1 (fun (r50 : Int32) (z : Nat) (T L : Nat → Nat) (V47 : w_V) (P48 : w_P) => (T r = 8 ∧ T l = 3 ∧ (if (r50 = 0 : Prop) then (∀ s53 : Nat, T s53 = 0 → (wX9_is ad T L V47 P48 r s53 [99, 97, 115, 101] (fun (r55 : Int32) => (if (r55 = 0 : Prop) then (∀ s58 : Nat, T s58 = 0 → (wX9_is ad T L V47 P48 r s58 [106, 117, 100, 103, 101] (fun (r60 : Int32) => (if (r60 = 0 : Prop) then (∀ s107 : Nat, T s107 = 0 → (wX9_is ad T L V47 P48 r s107 [100, 101, 97, 102] (fun (r109 : Int32) => (if (r109 = 0 : Prop) then (∀ s112 : Nat, T s112 = 0 → (wX9_is ad T L V47 P48 r s112 [119, 105, 115, 101] (fun (r114 : Int32) => (if (r114 = 0 : Prop) then (jFX9_land_253 ad U45 z T L V47 P48 r l 0 r post xp kb) else (jFX9_land_248 ad U45 z T L V47 P48 r l r post xp kb))))) else (jFX9_land_248 ad U45 z T L V47 P48 r l r post xp kb))))) else (jFX9_land_248 ad U45 z T L V47 P48 r l r post xp kb))))) else (∃ b117 : Nat, P48 l 7 = some b117 ∧ T b117 = 16 ∧ (wJ2_size ad T L V47 P48 b117 (fun (r120 : Int32) => (if (6 ≤ r120 : Prop) then (jFX9_land_204 ad U45 z T L V47 P48 r l 0 r post xp kb) else (jFX9_land_204 ad U45 z T L V47 P48 r l 1 r post xp kb))))))))) else (∃ c150 U151 : Nat, U45 = c150 + U151 ∧ wFx ad 9 c150 z T L V47 P48 r 0 (fun (r156 : Nat) (z : Nat) (T L : Nat → Nat) (V153 : w_V) (P154 : w_P) => (T l = 3 ∧ T r = 8 ∧ eT T r156 ∧ (∀ P160 : w_P, P160 = (up2 P154 l 8 (some r156)) → (jFX9_land_283 ad U151 z T L V153 P160 r l post xp kb)))) xp)))) xp)))).semi hA ht (fun post ke xp m U z T L V P hC k => ?_) (fun sg0 sg post hM k => ?_)
    · unfold lFX9_land_8
      refine ⟨_, hC.2.1.2.2.2.2.1, ?_⟩
      rw [if_neg (show ¬ ad (srt (tKin b n p)) = ad 9 from fun e => h0 ((srt_iff (j := 0) hA t9kin_lt (by decide)).mp e))]
      intro t0 ht0
      refine sX_is hA ht hC.2.1 (by decide) ht0 ?_
      rw [show tIs b n p [116, 111, 119, 110] = false from kws_ne (i := 2) (j := 0) (by decide) (by decide) e (by decide), if_pos (show b2 false = 0 from rfl)]
      intro t1 ht1
      refine sX_is hA ht hC.2.1 (by decide) ht1 ?_
      rw [show tIs b n p [114, 111, 97, 100] = false from kws_ne (i := 2) (j := 1) (by decide) (by decide) e (by decide), if_pos (show b2 false = 0 from rfl)]
      exact k
    · refine rl_go (t0 := 1) (r12 := -1) ht hM (fun _ => rfl) (fun q => by rw [e] at q; cases q) (fun q => by rw [e] at q; cases q) (fun j hj q => by rw [no_j (i := 2) (by decide) e j hj] at q; cases q) (fun _ => rfl) ?_
      rw [if_pos (dn_a1 w).1]
      unfold jM_readLine_50
      rw [if_neg (by decide), if_pos hM.2.1]
      unfold jM_readLine_65 jM_readLine_163
      rw [dn_1]
      simp only [if_pos]
      exact k

theorem i_law (hA : hAd ad) (ht : tOk b n) (hD : DOk D) (hw : w = false → nS D = 0) (hp : p ≤ n) (e : tIs b n p [108, 97, 119] = true) : iRun ad b n B r tx ax kx l jl cl vw D lw g w p := by
  have h0 : tKin b n p ≠ 0 := t9tis_k e
  cases hfl : w with
  | true =>
    subst hfl
    refine Or.inr ⟨5, p, by decide, Nat.le_refl _, hp, ?_, ?_⟩
    · intro post ke xp m U z T L V P hU hC k
      unfold lFX9_land_8
      refine ⟨_, hC.2.1.2.2.2.2.1, ?_⟩
      rw [if_neg (show ¬ ad (srt (tKin b n p)) = ad 9 from fun e => h0 ((srt_iff (j := 0) hA t9kin_lt (by decide)).mp e))]
      intro t0 ht0
      refine sX_is hA ht hC.2.1 (by decide) ht0 ?_
      rw [show tIs b n p [116, 111, 119, 110] = false from kws_ne (i := 3) (j := 0) (by decide) (by decide) e (by decide), if_pos (show b2 false = 0 from rfl)]
      intro t1 ht1
      refine sX_is hA ht hC.2.1 (by decide) ht1 ?_
      rw [show tIs b n p [114, 111, 97, 100] = false from kws_ne (i := 3) (j := 1) (by decide) (by decide) e (by decide), if_pos (show b2 false = 0 from rfl)]
      intro s31 hs31
      refine ⟨0, U, (Nat.zero_add U).symm, sX_begins (i := 0) hA ht hC (Or.inl ⟨rfl, rfl, rfl, rfl⟩) (by decide) hs31 (fun _ => ⟨hC.2.1.1.1, hC.2.2.2.2.2.2.1.1, ?_⟩) (fun q => by rw [show tIs b n p [103, 111, 115, 115, 105, 112] = false from kws_ne (i := 3) (j := 2) (by decide) (by decide) e (by decide)] at q; cases q) (fun q => by rw [show tIs b n p [103, 111, 115, 115, 105, 112] = false from kws_ne (i := 3) (j := 2) (by decide) (by decide) e (by decide)] at q; cases q)⟩
      rw [if_pos rfl]
      intro s42 hs42
      exact ⟨U, 0, rfl, sX_begins (i := 1) hA ht hC (Or.inr ⟨rfl, rfl, rfl, rfl⟩) (by decide) hs42 (fun q => by rw [e] at q; cases q) (fun _ q => by cases q) (fun _ _ => ⟨by omega, k⟩)⟩
    · intro sg0 sg post hM k
      refine rl_go (t0 := 2) (r12 := -1) ht hM (fun q => by rw [show tIs b n p [103, 111, 115, 115, 105, 112] = false from kws_ne (i := 3) (j := 2) (by decide) (by decide) e (by decide)] at q; cases q) (fun _ _ => rfl) (fun _ q => by rw [e] at q; cases q) (fun j hj q => by rw [no_j (i := 3) (by decide) e j hj] at q; cases q) (fun _ => rfl) ?_
      rw [if_neg (dn_a2 g).2]
      refine sM_wrong hM.1.2.2.1 hM.2.1 ?_
      have hb : ¬ wr sg 5 p 0 21 = 0 := by rw [wr_21]; decide
      unfold jM_readLine_50
      rw [if_neg (by decide), if_neg hb]
      unfold jM_readLine_65
      rw [if_neg (by decide)]
      refine bd_expr 6 0 _ _ hb ?_
      unfold jM_readLine_163
      exact sM_markB hb (k _ _ (hM.2.2.2.tr (fB.wr _ _ _).U) wr_21 wr_22)
  | false =>
    subst hfl
    refine (b_law hA ht hD (hw rfl) hp e
    (fun (post kb : lpT) (xp : w_Xp) (U45 z : Nat) (T L : Nat → Nat) (V47 : w_V) (P48 : w_P) => (∀ s53 : Nat, T s53 = 0 → (wX9_is ad T L V47 P48 r s53 [99, 97, 115, 101] (fun (r55 : Int32) => (if (r55 = 0 : Prop) then (∀ s58 : Nat, T s58 = 0 → (wX9_is ad T L V47 P48 r s58 [106, 117, 100, 103, 101] (fun (r60 : Int32) => (if (r60 = 0 : Prop) then (∀ s107 : Nat, T s107 = 0 → (wX9_is ad T L V47 P48 r s107 [100, 101, 97, 102] (fun (r109 : Int32) => (if (r109 = 0 : Prop) then (∀ s112 : Nat, T s112 = 0 → (wX9_is ad T L V47 P48 r s112 [119, 105, 115, 101] (fun (r114 : Int32) => (if (r114 = 0 : Prop) then (jFX9_land_253 ad U45 z T L V47 P48 r l 0 r post xp kb) else (jFX9_land_248 ad U45 z T L V47 P48 r l r post xp kb))))) else (jFX9_land_248 ad U45 z T L V47 P48 r l r post xp kb))))) else (jFX9_land_248 ad U45 z T L V47 P48 r l r post xp kb))))) else (∃ b117 : Nat, P48 l 7 = some b117 ∧ T b117 = 16 ∧ (wJ2_size ad T L V47 P48 b117 (fun (r120 : Int32) => (if (6 ≤ r120 : Prop) then (jFX9_land_204 ad U45 z T L V47 P48 r l 0 r post xp kb) else (jFX9_land_204 ad U45 z T L V47 P48 r l 1 r post xp kb))))))))))).semi hA ht (fun post ke xp m U z T L V P hC k => ?_) (fun sg0 sg post hM k => ?_)
    · unfold lFX9_land_8
      refine ⟨_, hC.2.1.2.2.2.2.1, ?_⟩
      rw [if_neg (show ¬ ad (srt (tKin b n p)) = ad 9 from fun e => h0 ((srt_iff (j := 0) hA t9kin_lt (by decide)).mp e))]
      intro t0 ht0
      refine sX_is hA ht hC.2.1 (by decide) ht0 ?_
      rw [show tIs b n p [116, 111, 119, 110] = false from kws_ne (i := 3) (j := 0) (by decide) (by decide) e (by decide), if_pos (show b2 false = 0 from rfl)]
      intro t1 ht1
      refine sX_is hA ht hC.2.1 (by decide) ht1 ?_
      rw [show tIs b n p [114, 111, 97, 100] = false from kws_ne (i := 3) (j := 1) (by decide) (by decide) e (by decide), if_pos (show b2 false = 0 from rfl)]
      intro s31 hs31
      refine ⟨0, U, (Nat.zero_add U).symm, sX_begins (i := 0) hA ht hC (Or.inl ⟨rfl, rfl, rfl, rfl⟩) (by decide) hs31 (fun _ => ⟨hC.2.1.1.1, hC.2.2.2.2.2.2.1.1, ?_⟩) (fun q => by rw [show tIs b n p [103, 111, 115, 115, 105, 112] = false from kws_ne (i := 3) (j := 2) (by decide) (by decide) e (by decide)] at q; cases q) (fun q => by rw [show tIs b n p [103, 111, 115, 115, 105, 112] = false from kws_ne (i := 3) (j := 2) (by decide) (by decide) e (by decide)] at q; cases q)⟩
      rw [if_pos rfl]
      exact k
    · refine rl_go (t0 := 2) (r12 := -1) ht hM (fun q => by rw [show tIs b n p [103, 111, 115, 115, 105, 112] = false from kws_ne (i := 3) (j := 2) (by decide) (by decide) e (by decide)] at q; cases q) (fun _ _ => rfl) (fun _ q => by rw [e] at q; cases q) (fun j hj q => by rw [no_j (i := 3) (by decide) e j hj] at q; cases q) (fun _ => rfl) ?_
      rw [if_pos (dn_a2 g).1]
      unfold jM_readLine_50
      rw [if_neg (by decide), if_pos hM.2.1]
      unfold jM_readLine_65 jM_readLine_163
      rw [dn_2]
      exact k

theorem i_none (hA : hAd ad) (ht : tOk b n) (hp : p ≤ n) (h0 : tKin b n p ≠ 0) (no : ∀ i, i < 8 → tIs b n p (kws.getD i []) = false) : iRun ad b n B r tx ax kx l jl cl vw D lw g w p := by
  refine Or.inr ⟨1, p, by decide, Nat.le_refl _, hp, ?_, ?_⟩
  · intro post ke xp m U z T L V P hU hC k
    unfold lFX9_land_8
    refine ⟨_, hC.2.1.2.2.2.2.1, ?_⟩
    rw [if_neg (show ¬ ad (srt (tKin b n p)) = ad 9 from fun e => h0 ((srt_iff (j := 0) hA t9kin_lt (by decide)).mp e))]
    intro t0 ht0
    refine sX_is hA ht hC.2.1 (by decide) ht0 ?_
    rw [show tIs b n p [116, 111, 119, 110] = false from no 0 (by decide), if_pos (show b2 false = 0 from rfl)]
    intro t1 ht1
    refine sX_is hA ht hC.2.1 (by decide) ht1 ?_
    rw [show tIs b n p [114, 111, 97, 100] = false from no 1 (by decide), if_pos (show b2 false = 0 from rfl)]
    intro s31 hs31
    refine ⟨0, U, (Nat.zero_add U).symm, sX_begins (i := 0) hA ht hC (Or.inl ⟨rfl, rfl, rfl, rfl⟩) (by decide) hs31 (fun _ => ⟨hC.2.1.1.1, hC.2.2.2.2.2.2.1.1, ?_⟩) (fun q => by rw [show tIs b n p [103, 111, 115, 115, 105, 112] = false from no 2 (by decide)] at q; cases q) (fun q => by rw [show tIs b n p [103, 111, 115, 115, 105, 112] = false from no 2 (by decide)] at q; cases q)⟩
    rw [if_pos rfl]
    intro s42 hs42
    refine ⟨0, U, (Nat.zero_add U).symm, sX_begins (i := 1) hA ht hC (Or.inr ⟨rfl, rfl, rfl, rfl⟩) (by decide) hs42 (fun _ => ⟨hC.2.1.1.1, hC.2.2.2.2.2.2.1.1, ?_⟩) (fun q => by rw [show tIs b n p [108, 97, 119] = false from no 3 (by decide)] at q; cases q) (fun q => by rw [show tIs b n p [108, 97, 119] = false from no 3 (by decide)] at q; cases q)⟩
    rw [if_pos rfl]
    intro t4 ht4
    refine sX_is hA ht hC.2.1 (by decide) ht4 ?_
    rw [show tIs b n p [99, 97, 115, 101] = false from no 4 (by decide), if_pos (show b2 false = 0 from rfl)]
    intro t5 ht5
    refine sX_is hA ht hC.2.1 (by decide) ht5 ?_
    rw [show tIs b n p [106, 117, 100, 103, 101] = false from no 5 (by decide), if_pos (show b2 false = 0 from rfl)]
    intro t6 ht6
    refine sX_is hA ht hC.2.1 (by decide) ht6 ?_
    rw [show tIs b n p [100, 101, 97, 102] = false from no 6 (by decide), if_pos (show b2 false = 0 from rfl)]
    intro t7 ht7
    refine sX_is hA ht hC.2.1 (by decide) ht7 ?_
    rw [show tIs b n p [119, 105, 115, 101] = false from no 7 (by decide), if_pos (show b2 false = 0 from rfl)]
    unfold jFX9_land_253
    exact ⟨U, 0, rfl, sX_check0 hC.1 hC.2.1 (by omega) (k.c hC)⟩
  · intro sg0 sg post hM k
    refine rl_go (t0 := 0) (r12 := -1) ht hM (fun q => by rw [show tIs b n p [103, 111, 115, 115, 105, 112] = false from no 2 (by decide)] at q; cases q) (fun _ q => by rw [show tIs b n p [108, 97, 119] = false from no 3 (by decide)] at q; cases q) (fun _ _ => rfl) (fun j hj q => by rw [jws_kws j hj, no (j + 5) (by omega)] at q; cases q) (fun _ => rfl) ?_
    rw [if_pos (dn_a0 g w)]
    unfold jM_readLine_50
    rw [if_pos (by decide), if_pos rfl]
    refine sM_is ht hM.1 hM.2.1 (by decide) (by decide) ?_
    rw [show tIs b n p [116, 111, 119, 110] = false from no 0 (by decide), if_pos (show b2 false = 0 from rfl)]
    refine sM_is ht hM.1 hM.2.1 (by decide) (by decide) ?_
    rw [show tIs b n p [114, 111, 97, 100] = false from no 1 (by decide), if_pos (show b2 false = 0 from rfl)]
    refine sM_is ht hM.1 hM.2.1 (by decide) (by decide) ?_
    rw [show tIs b n p [99, 97, 115, 101] = false from no 4 (by decide), if_pos (show b2 false = 0 from rfl)]
    refine sM_wrong hM.1.2.2.1 hM.2.1 ?_
    unfold jM_readLine_163
    exact sM_markB (by rw [wr_21]; decide) (k _ _ (hM.2.2.2.tr (fB.wr _ _ _).U) wr_21 wr_22)
theorem i_any (hA : hAd ad) (ht : tOk b n) (hD : DOk D) (hw : w = false → nS D = 0) (hp : p ≤ n) (h0 : tKin b n p ≠ 0) : iRun ad b n B r tx ax kx l jl cl vw D lw g w p := by
  by_cases e0 : tIs b n p [116, 111, 119, 110] = true
  · exact i_town hA ht hD hw hp e0
  by_cases e1 : tIs b n p [114, 111, 97, 100] = true
  · exact i_road hA ht hD hw hp e1
  by_cases e2 : tIs b n p [103, 111, 115, 115, 105, 112] = true
  · exact i_gossip hA ht hD hw hp e2
  by_cases e3 : tIs b n p [108, 97, 119] = true
  · exact i_law hA ht hD hw hp e3
  by_cases e4 : tIs b n p [99, 97, 115, 101] = true
  · exact i_case hA ht hD hw hp e4
  by_cases e5 : tIs b n p [106, 117, 100, 103, 101] = true
  · exact i_judge hA ht hD hw hp e5
  by_cases e6 : tIs b n p [100, 101, 97, 102] = true
  · exact i_deaf hA ht hD hw hp e6
  by_cases e7 : tIs b n p [119, 105, 115, 101] = true
  · exact i_wise hA ht hD hw hp e7
  refine i_none hA ht hp h0 (fun i hi => ?_)
  rcases (show i = 0 ∨ i = 1 ∨ i = 2 ∨ i = 3 ∨ i = 4 ∨ i = 5 ∨ i = 6 ∨ i = 7 by omega) with q | q | q | q | q | q | q | q <;> subst q
  · exact (show tIs b n p [116, 111, 119, 110] = false by simpa using e0)
  · exact (show tIs b n p [114, 111, 97, 100] = false by simpa using e1)
  · exact (show tIs b n p [103, 111, 115, 115, 105, 112] = false by simpa using e2)
  · exact (show tIs b n p [108, 97, 119] = false by simpa using e3)
  · exact (show tIs b n p [99, 97, 115, 101] = false by simpa using e4)
  · exact (show tIs b n p [106, 117, 100, 103, 101] = false by simpa using e5)
  · exact (show tIs b n p [100, 101, 97, 102] = false by simpa using e6)
  · exact (show tIs b n p [119, 105, 115, 101] = false by simpa using e7)

end L
