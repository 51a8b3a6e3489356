/-! PURE: all statements at both -/
set_option maxRecDepth 100000
section L
variable {ad b : Nat → Nat} {n : Nat} {B : bsE} {r tx ax kx l jl cl vw : Nat} {D : MS} {lw : (Nat → Int32) → Int32} {g w : Bool} {p z : Nat} {T L : Nat → Nat} {V : w_V} {P : w_P}
theorem land_all (hA : hAd ad) (ht : tOk b n) : ∀ (m : Nat) (D : MS) (lw : (Nat → Int32) → Int32) (g w : Bool) (p : Nat), n - p < m → p ≤ n → DOk D → (w = false → nS D = 0) →
    (∃ (D' : MS) (lw' : (Nat → Int32) → Int32) (g' w' : Bool), DOk D' ∧
      (∀ (post ke : lpT) (xp : w_Xp) (U z : Nat) (T L : Nat → Nat) (V : w_V) (P : w_P), 30 * (n - p) ≤ U → CL ad b n B r tx ax kx l jl cl vw D lw g w p z T L V P → (∀ (U' z' : Nat) (T' L' : Nat → Nat) (V' : w_V) (P' : w_P), z ≤ z' → CL ad b n B r tx ax kx l jl cl vw D' lw' g' w' n z' T' L' V' P' → ke U' z' T' L' V' P') → lFX9_land_8 ad r l post xp ke m U z T L V P) ∧
      ∀ (sg0 sg : MS) (post : Int32 → MS → Prop) (ke : MS → Prop), ML b n sg0 D p sg → (∀ s9, ML b n sg0 D' n s9 → ke s9) → lM_land_112 post ke m (dn g w) sg) ∨
    ∃ (k : Int32) (pl : Nat), k ≠ 0 ∧ pl ≤ n ∧
      (∀ (post ke : lpT) (xp : w_Xp) (U z : Nat) (T L : Nat → Nat) (V : w_V) (P : w_P), 30 * (n - p) + 30 ≤ U → CL ad b n B r tx ax kx l jl cl vw D lw g w p z T L V P → xfL B xp z k pl → lFX9_land_8 ad r l post xp ke m U z T L V P) ∧
      ∀ (sg0 sg : MS) (post : Int32 → MS → Prop) (ke : MS → Prop), ML b n sg0 D p sg → (∀ s9, fU sg0 s9 → s9 0 21 = k → s9 0 22 = nI pl → ke s9) → lM_land_112 post ke m (dn g w) sg := by
  intro m
  induction m with
  | zero => intro D lw g w p h; omega
  | succ m ih =>
    intro D lw g w p hm hp hD hw
    by_cases h0 : tKin b n p = 0
    · have epn : p = n := by have := t9kin_0.mp h0; omega
      subst epn
      refine Or.inl ⟨D, lw, g, w, hD, ?_, ?_⟩
      · intro post ke xp U z T L V P hU hC k
        unfold lFX9_land_8
        refine ⟨_, hC.2.1.2.2.2.2.1, ?_⟩
        rw [if_pos (by rw [h0]; rfl)]
        exact k U z T L V P (Nat.le_refl _) hC
      · intro sg0 sg post ke hM k
        unfold lM_land_112
        rw [if_pos hM.2.1, if_pos (show sg 0 17 = 0 from (kin_nI (j := 0) hM.1 (by decide)).mpr h0)]
        exact k sg hM
    · have mst : ∀ (sg0 sg : MS) (post : Int32 → MS → Prop) (ke : MS → Prop), ML b n sg0 D p sg → wM_readLine sg (dn g w) (fun r13 g14 => lM_land_112 post ke m r13 g14) → lM_land_112 post ke (m + 1) (dn g w) sg := fun sg0 sg post ke hM k => by
        unfold lM_land_112
        rw [if_pos hM.2.1, if_neg (show ¬ sg 0 17 = 0 from fun q => h0 ((kin_nI (j := 0) hM.1 (by decide)).mp q))]
        exact k
      have hpn : p < n := t9lt_k h0
      rcases i_any (B := B) (r := r) (tx := tx) (ax := ax) (kx := kx) (l := l) (jl := jl) (cl := cl) (vw := vw) (lw := lw) (g := g) (w := w) hA ht hD hw hp h0 with ⟨D1, lw1, g1, w1, p1, a1, a2, a3, a4, a5, a6⟩ | ⟨k, pl, a1, a2, a3, a4, a5⟩
      · rcases ih D1 lw1 g1 w1 p1 (by omega) a4 a1 a2 with ⟨D', lw', g', w', b1, b2', b3⟩ | ⟨k, pl, b1, b2', b3, b4⟩
        · refine Or.inl ⟨D', lw', g', w', b1, ?_, ?_⟩
          · intro post ke xp U z T L V P hU hC k
            exact a5 post ke xp m U z T L V P (by omega) hC (fun U' z' T' L' V' P' u1 u2 u3 => b2' post ke xp U' z' T' L' V' P' (by omega) u3 (fun U9 z9 T9 L9 V9 P9 v1 v2 => k U9 z9 T9 L9 V9 P9 (Nat.le_trans u2 v1) v2))
          · intro sg0 sg post ke hM k
            exact mst sg0 sg post ke hM (a6 sg0 sg _ hM (fun s9 hM9 => b3 sg0 s9 post ke hM9 k))
        · refine Or.inr ⟨k, pl, b1, b2', ?_, ?_⟩
          · intro post ke xp U z T L V P hU hC kk
            exact a5 post ke xp m U z T L V P (by omega) hC (fun U' z' T' L' V' P' u1 u2 u3 => b3 post ke xp U' z' T' L' V' P' (by omega) u3 (kk.m u2))
          · intro sg0 sg post ke hM kk
            exact mst sg0 sg post ke hM (a6 sg0 sg _ hM (fun s9 hM9 => b4 sg0 s9 post ke hM9 kk))
      · refine Or.inr ⟨k, pl, a1, a3, ?_, ?_⟩
        · intro post ke xp U z T L V P hU hC kk
          exact a4 post ke xp m U z T L V P (by omega) hC kk
        · intro sg0 sg post ke hM kk
          refine mst sg0 sg post ke hM (a5 sg0 sg _ hM (fun x s9 f9 m9 l9 => ?_))
          obtain ⟨m', rfl⟩ : ∃ m', m = m' + 1 := ⟨m - 1, by omega⟩
          unfold lM_land_112
          rw [if_neg (by rw [m9]; exact a1)]
          exact kk s9 f9 m9 l9
end L
