/-! PURE: game, the class's side -/
set_option maxRecDepth 100000
/-- all things that are lie below z -/
def frs (z : Nat) (T : Nat → Nat) : Prop := ∀ a, T a ≠ 0 → a < z
section QB
variable {ad : Nat → Nat} {T L : Nat → Nat} {V : w_V} {P : w_P} {t : Nat} {A : Nat → Nat} {sg : MS} {lw : (Nat → Int32) → Int32}
theorem cfr.u1 {V1 V2 : w_V} {z : Nat} {σ : MS} (h : cfr V1 V2 t A) (hz : t ≠ z) : cfr (up1 V1 z σ) (up1 V2 z σ) t A := by
  refine ⟨fun a h1 h2 h3 h4 => ?_, fun k i q => ?_⟩
  · by_cases e : a = z
    · subst e; rw [up1_s, up1_s]
    · rw [up1_n e, up1_n e]; exact h.1 a h1 h2 h3 h4
  · rw [up1_n hz, up1_n hz]; exact h.2 k i q
theorem qX_game (h : cR ad T L V P t A sg lw) (hb : bxP T L P t A) {z : Nat} (hz : frs z T) {x w : Int32} {post : Int32 → Nat → (Nat → Nat) → (Nat → Nat) → w_V → w_P → Prop} {xp : w_Xp}
    (hp : ∀ c, c < nC sg → x = nI c → ¬ w < 0 → ¬ 1 < w → ∀ (z2 : Nat) (T2 L2 : Nat → Nat) (V9 : w_V) (P2 : w_P), z ≤ z2 → frs z2 T2 → (∀ a, T a ≠ 0 → T2 a = T a ∧ L2 a = L a ∧ P2 a = P a) → (∀ a, T a ≠ 0 → a ≠ A 3 → a ≠ A 4 → a ≠ A 10 → a ≠ t → V9 a = V a) → cR ad T2 L2 V9 P2 t A sg lw → post (pick w (gamF sg lw c (nJ sg * nJ sg))) z2 T2 L2 V9 P2)
    (h0 : notN x (nC sg) ∨ w < 0 ∨ 1 < w → ∀ q z2, z ≤ z2 → xp q cNSE z2 T L V P) : wFX1_game ad 3 z T L V P t x w post xp := by
  have hJ := h.1.1.2.1
  have hC := h.1.1.2.2.1
  obtain ⟨j1, j2, j3⟩ := h.1.2.2.1.2.2.1
  unfold wFX1_game
  refine ⟨2, rfl, sX_caseAt h hb (fun c hc ec => sX_within (fun q1 q2 => ⟨1, rfl, sX_there1 ?_⟩) (fun q => ⟨1, rfl, sX_there0 (h0 (Or.inr q))⟩)) (fun q => h0 (Or.inl q))⟩
  have hp' := hp c hc ec q1 q2
  subst ec
  have hnn : nJ sg * nJ sg ≤ 25 := Nat.mul_le_mul hJ.2 hJ.2
  refine ⟨A 5, hb.1.2.1, h.1.2.2.1.1.1, A 6, j1, j2.1, ?_⟩
  unfold wJ2_size
  rw [j2.2.1]
  refine ⟨nJ sg * nJ sg, 1, 0, nI_mul _ _, by omega, by omega, by omega, rfl, ?_⟩
  intro o z1 T1 L1 V1 P1 hw
  obtain ⟨eo, ez, eT, eL, eV, eP⟩ := hw
  subst eo
  have tz : T o = 0 := by
    by_cases e : T o = 0
    · exact e
    · exact absurd (hz o e) (by omega)
  have hx : xt T L V P T1 L1 V1 P1 := by
    intro a ha
    have hao : a ≠ o := fun e => ha (by rw [e]; exact tz)
    rw [eT, eL, eV, eP]
    exact ⟨up1_n hao, up1_n hao, up1_n hao, up1_n hao⟩
  have hb1 := hb.x hx
  have h1 := h.x hx hb
  have hv1 := h1.vw
  have to : T1 o = 1002 := by rw [eT, up1_s]
  have hz1 : frs z1 T1 := by
    intro a ha
    rw [ez]
    by_cases e : a = o
    · omega
    · rw [eT, up1_n e] at ha
      have := hz a ha
      omega
  have t_o : t ≠ o := T_ne hb1.1.1 to (by decide)
  -- what is kept
  have keep : ∀ W : w_V, cfr V1 (up1 W o (V1 o)) t A → cR ad T1 L1 W P1 t A sg lw := fun W hW => (h1.fr hb1 hW).w hb1 (fun a _ _ ha => by
    have e : a ≠ o := fun e => ha (by rw [e]; exact to)
    rw [up1_n e])
  refine ⟨hb1.1.1, ?_⟩
  refine loop0 (F := fun n i (W : w_V) => lFX1_game_35 ad t (nI c) w (nI (nJ sg)) o o 0 (nJ sg * nJ sg) post xp _ n 0 z1 T1 L1 W P1 i) (nJ sg * nJ sg) (fun k W => cfr V1 (up1 W o (V1 o)) t A ∧ ∀ i, i < k → W o 0 i = b2 (gv sg lw c (i / nJ sg) (i % nJ sg))) V1 ⟨by rw [show up1 V1 o (V1 o) = V1 from by funext a; by_cases e : a = o; (subst e; exact up1_s); (exact up1_n e)]; exact cfr.rf _ _ _, fun i hi => absurd hi (by omega)⟩ (fun n k W hk hs kk => ?_)
  obtain ⟨hW, hwn⟩ := hs
  show lFX1_game_35 ad t (nI c) w (nI (nJ sg)) o o 0 (nJ sg * nJ sg) post xp _ (n + 1) 0 z1 T1 L1 W P1 (nI k)
  unfold lFX1_game_35
  rw [nI_mul]
  have hR := keep W hW
  by_cases hkN : k < nJ sg * nJ sg
  · rw [if_neg (nI_ge hkN (by omega)), nI_1]
    have hJ0 : 0 < nJ sg := by
      rcases Nat.eq_zero_or_pos (nJ sg) with q | q
      · rw [q] at hkN; omega
      · exact q
    have n0 : ¬ nI (nJ sg) = 0 := nI_ne0 hJ0 (by omega)
    refine ⟨n0, n0, ?_⟩
    rw [nI_mod (by omega) (by omega), nI_div (by omega) (by omega)]
    refine sX_wins hR hb1 hc (Nat.div_lt_of_lt_mul hkN) (Nat.mod_lt _ hJ0) (fun W2 d1 => ⟨k, hkN, rfl, fun W3 e3 => ?_⟩)
    rw [nar_b2] at e3
    have eo2 : W2 o = W o := d1.k hb1 hv1 to (by decide)
    refine kk W3 hkN ⟨?_, fun i hi => ?_⟩
    · have e : up1 W3 o (V1 o) = up1 W2 o (V1 o) := by
        funext a
        by_cases e : a = o
        · subst e; rw [up1_s, up1_s]
        · rw [up1_n e, up1_n e, e3, up3_n e]
      rw [e]
      exact hW.tr (d1.u1 t_o)
    · rw [e3, up3_a]
      by_cases e : i = k
      · subst e; rw [s2_s]
      · rw [s2_i e, eo2]; exact hwn i (by omega)
  · have ek : k = nJ sg * nJ sg := by omega
    rw [if_pos (nI_le (by omega) (by omega))]
    rw [ek] at hwn
    have ix : ∀ a b, a < nJ sg → b < nJ sg → nJ sg * a + b < nJ sg * nJ sg := by
      intro a b ha hb
      have : nJ sg * a + nJ sg ≤ nJ sg * nJ sg := by
        rw [← Nat.mul_succ]; exact Nat.mul_le_mul_left _ (by omega)
      omega
    have wv : ∀ a b, a < nJ sg → b < nJ sg → W o 0 (nJ sg * a + b) = b2 (gv sg lw c a b) := by
      intro a b ha hb
      rw [hwn _ (ix a b ha hb), (dm_at (d := a) hb).1, (dm_at (d := a) hb).2]
    refine loop0 (F := fun n i (q : pP) => lFX1_game_76 ad w (nI (nJ sg)) o o 0 (nJ sg * nJ sg) post xp _ n 0 z1 T1 L1 W P1 q.1 q.2 i) (nJ sg * nJ sg) (fun k q => q = gamF sg lw c k) (0, -1) rfl (fun n2 k q hk hq kk2 => ?_)
    obtain ⟨y, f⟩ := q
    show lFX1_game_76 ad w (nI (nJ sg)) o o 0 (nJ sg * nJ sg) post xp _ (n2 + 1) 0 z1 T1 L1 W P1 y f (nI k)
    unfold lFX1_game_76
    rw [nI_mul]
    by_cases hkN : k < nJ sg * nJ sg
    · rw [if_neg (nI_ge hkN (by omega))]
      have hJ0 : 0 < nJ sg := by
        rcases Nat.eq_zero_or_pos (nJ sg) with q | q
        · rw [q] at hkN; omega
        · exact q
      have n0 : ¬ nI (nJ sg) = 0 := nI_ne0 hJ0 (by omega)
      obtain ⟨a, ea⟩ : ∃ a, k / nJ sg = a := ⟨_, rfl⟩
      obtain ⟨b, eb⟩ : ∃ b, k % nJ sg = b := ⟨_, rfl⟩
      have haN : a < nJ sg := by rw [← ea]; exact Nat.div_lt_of_lt_mul hkN
      have hbN : b < nJ sg := by rw [← eb]; exact Nat.mod_lt _ hJ0
      have kab : k = nJ sg * a + b := by rw [← ea, ← eb]; exact (Nat.div_add_mod k _).symm
      have hn := fun q e => kk2 q hkN e
      rw [gamF_s, ← hq, ea, eb] at hn
      have sp : ∀ N k, k < N → anyI (fun o => if gv sg lw c a b = true then !gv sg lw c a o else gv sg lw c o b) (N - k) k = if (if gv sg lw c a b = true then !gv sg lw c a k else gv sg lw c k b) = true then true else anyI (fun o => if gv sg lw c a b = true then !gv sg lw c a o else gv sg lw c o b) (N - (k + 1)) (k + 1) := fun N k hk => anyI_s hk
      refine loop0 (F := fun n i (r : Bool) => lFX1_game_90 ad w (nI (nJ sg)) o o 0 (nJ sg * nJ sg) y f (nI k) post xp _ n 0 z1 T1 L1 W P1 (b2 r) i) (nJ sg) (fun m r => (r = true ∧ restB sg lw c a b = !anyI (fun o => if gv sg lw c a b = true then !gv sg lw c a o else gv sg lw c o b) (nJ sg - m) m) ∨ (r = false ∧ restB sg lw c a b = false)) true (Or.inl ⟨rfl, rfl⟩) (fun n3 m r hm hr kk3 => ?_)
      show lFX1_game_90 ad w (nI (nJ sg)) o o 0 (nJ sg * nJ sg) y f (nI k) post xp _ (n3 + 1) 0 z1 T1 L1 W P1 (b2 r) (nI m)
      unfold lFX1_game_90 jFX1_game_146 jFX1_game_142 jFX1_game_147
      by_cases hmN : m < nJ sg
      · rw [if_neg (nI_ge hmN (by omega)), nI_1 m]
        rcases hr with ⟨hr, hr2⟩ | ⟨hr, hr2⟩
        · subst hr
          rw [if_neg (show ¬ b2 true = 0 by decide)]
          rw [sp (nJ sg) m hmN] at hr2
          refine ⟨k, hkN, rfl, ?_⟩
          rw [hwn k hkN, ea, eb]
          cases hv : gv sg lw c a b with
          | false =>
            rw [if_pos (show b2 false = 0 from rfl)]
            rw [hv, if_neg (show ¬ false = true by decide)] at hr2
            rw [hv] at kk3
            refine ⟨n0, nJ sg * m + b, ix m b hmN hbN, ?_, ?_⟩
            · rw [nI_mod (by omega) (by omega), eb, nI_mul, nI_add, Nat.mul_comm]
            · rw [wv m b hmN hbN]
              cases hv2 : gv sg lw c m b with
              | false =>
                rw [hv2, if_neg (show ¬ false = true by decide)] at hr2
                rw [if_pos (show b2 false = 0 from rfl)]
                exact kk3 true hmN (Or.inl ⟨rfl, hr2⟩)
              | true =>
                rw [hv2, if_pos rfl] at hr2
                rw [if_neg (show ¬ b2 true = 0 by decide)]
                exact kk3 false hmN (Or.inr ⟨rfl, hr2⟩)
          | true =>
            rw [if_neg (show ¬ b2 true = 0 by decide)]
            rw [hv, if_pos (show true = true from rfl)] at hr2
            rw [hv] at kk3
            refine ⟨n0, nJ sg * a + m, ix a m haN hmN, ?_, ?_⟩
            · rw [nI_div (by omega) (by omega), ea, nI_mul, nI_add, Nat.mul_comm]
            · rw [wv a m haN hmN]
              cases hv2 : gv sg lw c a m with
              | false =>
                rw [hv2, if_pos (show (!false) = true from rfl)] at hr2
                rw [if_pos (show b2 false = 0 from rfl)]
                exact kk3 false hmN (Or.inr ⟨rfl, hr2⟩)
              | true =>
                rw [hv2, if_neg (show ¬ (!true) = true by decide)] at hr2
                rw [if_neg (show ¬ b2 true = 0 by decide)]
                exact kk3 true hmN (Or.inl ⟨rfl, hr2⟩)
        · subst hr
          rw [if_pos (show b2 false = 0 from rfl)]
          exact kk3 false hmN (Or.inr ⟨rfl, hr2⟩)
      · have em : m = nJ sg := by omega
        rw [if_pos (nI_le (by omega) (by omega))]
        unfold jFX1_game_186
        rw [nI_1 k]
        rcases hr with ⟨hr, hr2⟩ | ⟨hr, hr2⟩
        · subst hr
          rw [em, anyI_z] at hr2
          rw [hr2, if_pos (show (!false) = true from rfl)] at hn
          rw [if_neg (show ¬ b2 true = 0 by decide)]
          dsimp only at hn
          by_cases hf : f = -1
          · rw [if_pos hf] at hn ⊢
            refine ⟨n0, n0, ?_⟩
            rw [nI_mod (by omega) (by omega), nI_div (by omega) (by omega), ea, eb]
            exact hn (_, _) rfl
          · rw [if_neg hf] at hn ⊢
            exact hn (_, _) rfl
        · subst hr
          rw [hr2, if_neg (by decide)] at hn
          rw [if_pos (show b2 false = 0 from rfl)]
          exact hn (y, f) rfl
    · have ek : k = nJ sg * nJ sg := by omega
      rw [if_pos (nI_le (by omega) (by omega))]
      have hp2 := hp' z1 T1 L1 W P1 (by omega) hz1 (fun a ha => ⟨(hx a ha).1, (hx a ha).2.1, (hx a ha).2.2.2⟩) (fun a ha g3 g4 g10 gt => ?_) hR
      · rw [← ek, ← hq] at hp2
        unfold pick at hp2
        by_cases c0 : w = 0
        · rw [if_pos c0] at hp2 ⊢; exact hp2
        · rw [if_neg c0] at hp2 ⊢; exact hp2
      · have hao : a ≠ o := fun e => ha (by rw [e]; exact tz)
        have := hW.1 a g3 g4 g10 gt
        rw [up1_n hao] at this
        rw [this]
        exact (hx a ha).2.2.1
end QB
