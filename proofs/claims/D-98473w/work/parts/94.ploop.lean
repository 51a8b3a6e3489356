/-! PURE: an operator's step at both; loops of them -/
set_option maxRecDepth 100000
section B
variable {ad b : Nat → Nat} {n r tx ax kx : Nat}
def stepX (ad : Nat → Nat) (r c : Nat) (W2 : clsW) (K : Nat → clsW) : Nat → clsW := fun x2 U z T L V P post xp => (∃ c15 U16 : Nat, U = c15 + U16 ∧ wFX9_go ad c15 z T L V P r (fun (z : Nat) (T L : Nat → Nat) (V18 : w_V) (P19 : w_P) => (T r = 8 ∧ eT T x2 ∧ (∃ U29 : Nat, U16 = 1 + U29 ∧ nwQ z T L V18 P19 11 0 (fun (o24 z : Nat) (T L : Nat → Nat) (V25 : w_V) (P26 : w_P) => (T r = 8 ∧ eT T x2 ∧ (∃ c33 U34 : Nat, U29 = c33 + U34 ∧ W2 c33 z T L V25 P26 (fun (r39 : Nat) (z : Nat) (T L : Nat → Nat) (V36 : w_V) (P37 : w_P) => (eT T x2 ∧ T o24 = 11 ∧ T r = 8 ∧ eT T r39 ∧ (∃ c44 U45 : Nat, U34 = c44 + U45 ∧ wFX14_init ad c44 z T L V36 P37 o24 (nI c) x2 r39 (fun (z : Nat) (T L : Nat → Nat) (V47 : w_V) (P48 : w_P) => (T o24 = 11 ∧ T r = 8 ∧ K o24 U45 z T L V47 P48 post xp))))) xp)))))))
theorem eT_xr {z : Nat} {T L : Nat → Nat} {V : w_V} {P : w_P} {z' : Nat} {T' L' : Nat → Nat} {V' : w_V} {P' : w_P} (hx : xr r z T L V P z' T' L' V' P') {a : Nat} (h : eT T a) : eT T' a := by
  have := (hx.2.2.1 a (eT_ne0 h)).1
  unfold eT at h ⊢
  rw [this]
  exact h
theorem step_ok (hA : hAd ad) (ht : tOk b n) {p1 p3 c n2 d2 : Nat} {x : Int32} {l2 : List Int32} {f2 : (Nat → Int32) → Int32} {W2 : clsW} {K : Nat → clsW} (hp : p1 < n) (hop : opC (nI c) x) (hc : c < 128) (h3 : tNx b n p1 ≤ p3) (h2 : okX ad b n r tx ax kx (30 * (p3 - tNx b n p1)) (tNx b n p1) p3 l2 n2 d2 f2 W2) {U z : Nat} {T L : Nat → Nat} {V : w_V} {P : w_P} {e : Nat} {post : Nat → Nat → (Nat → Nat) → (Nat → Nat) → w_V → w_P → Prop} {xp : w_Xp} {l1 : List Int32} {n1 d1 : Nat} {f1 : (Nat → Int32) → Int32} (hU : 30 * (p3 - p1) ≤ U) (hf : frs z T) (hX : rdX ad b n T L V P r tx ax kx p1) (he : exprR ad T V P d1 e l1 n1 f1)
    (k : ∀ (o U' z' : Nat) (T' L' : Nat → Nat) (V' : w_V) (P' : w_P), U ≤ U' + 30 * (p3 - p1) → xr r z T L V P z' T' L' V' P' → rdX ad b n T' L' V' P' r tx ax kx p3 → exprR ad T' V' P' (max d1 d2 + 1) o (l1 ++ (l2 ++ [x])) (max n1 (n2 + 1)) (fun as => rk x (f1 as) (f2 as)) → K o U' z' T' L' V' P' post xp) : stepX ad r c W2 K e U z T L V P post xp := by
  have hp2 := t9nx_gt (b := b) hp
  obtain ⟨cc1, cc2⟩ := opC_char hc hop
  refine ⟨10, U - 10, by omega, sX_goX hA ht hf hX (Nat.le_refl _) (fun zg Tg Lg Vg Pg g1 g2 => ?_)⟩
  have hrg : Tg r = 8 := g2.1.1
  have heg := he.r hX.1.1 g1
  refine ⟨hrg, heg.eT, U - 11, by omega, ?_⟩
  intro o zo To Lo Vo Po hw
  obtain ⟨x0, x2, x3, x4, x5, x6, x7, -⟩ := xr.nw (r := r) g1.1 hw (by rw [hrg]; decide)
  have hX2 : rdX ad b n To Lo Vo Po r tx ax kx (tNx b n p1) := g2.x (fun a ha => x7 a (by rcases ha with q | q | q | q <;> (rw [q]; decide)))
  refine ⟨hX2.1.1, eT_xr x0 heg.eT, 30 * (p3 - tNx b n p1), U - 11 - 30 * (p3 - tNx b n p1), by omega, h2 _ _ _ _ _ _ _ xp (Nat.le_refl _) x0.1 hX2 (fun e2 z2 T2 L2 V2 P2 w1 w2 w3 => ?_)⟩
  have hTo : T2 o = 11 := (w1.2.2.1 o (by rw [x3]; decide)).1.trans x3
  refine ⟨eT_xr w1 (eT_xr x0 heg.eT), hTo, w2.1.1, w3.eT, 0, U - 11 - 30 * (p3 - tNx b n p1), (Nat.zero_add _).symm, ?_⟩
  unfold wFX14_init
  refine ⟨cc1, cc2, fun V3 e3 P4 e4 P5 e5 => ⟨hTo, w2.1.1, ?_⟩⟩
  obtain ⟨y1, y2, y3⟩ := both_fin hrg g1.1 hw w1 heg w3 w2 hop e3 e4 e5
  exact k o _ z2 T2 L2 V3 P5 (by omega) (g1.tr y1) y2 y3
theorem step_ft (hA : hAd ad) (ht : tOk b n) {p1 pl c : Nat} {kd : Int32} {W2 : clsW} {K : Nat → clsW} (hp : p1 < n) (h3 : tNx b n p1 ≤ pl) (h2 : ftX ad b n r tx ax kx (30 * (pl - tNx b n p1) + 30) (tNx b n p1) kd pl W2) {U z : Nat} {T L : Nat → Nat} {V : w_V} {P : w_P} {e : Nat} {post : Nat → Nat → (Nat → Nat) → (Nat → Nat) → w_V → w_P → Prop} {xp : w_Xp} {l1 : List Int32} {n1 d1 : Nat} {f1 : (Nat → Int32) → Int32} (hU : 30 * (pl - p1) + 30 ≤ U) (hf : frs z T) (hX : rdX ad b n T L V P r tx ax kx p1) (he : exprR ad T V P d1 e l1 n1 f1) (k : xfC xp r z T L V P kd pl) : stepX ad r c W2 K e U z T L V P post xp := by
  have hp2 := t9nx_gt (b := b) hp
  refine ⟨10, U - 10, by omega, sX_goX hA ht hf hX (Nat.le_refl _) (fun zg Tg Lg Vg Pg g1 g2 => ?_)⟩
  have hrg : Tg r = 8 := g2.1.1
  have heg := he.r hX.1.1 g1
  refine ⟨hrg, heg.eT, U - 11, by omega, ?_⟩
  intro o zo To Lo Vo Po hw
  obtain ⟨x0, x2, x3, x4, x5, x6, x7, -⟩ := xr.nw (r := r) g1.1 hw (by rw [hrg]; decide)
  have hX2 : rdX ad b n To Lo Vo Po r tx ax kx (tNx b n p1) := g2.x (fun a ha => x7 a (by rcases ha with q | q | q | q <;> (rw [q]; decide)))
  exact ⟨hX2.1.1, eT_xr x0 heg.eT, U - 11, 0, rfl, h2 _ _ _ _ _ _ _ xp (by omega) x0.1 hX2 (k.m (g1.tr x0))⟩
theorem getD_a1 {l m : List Int32} {i : Nat} (h : i < l.length) : (l ++ m).getD i 0 = l.getD i 0 := getD_app1 h
theorem sM_lay (ht : tOk b n) {sg : MS} {acc : List Int32} {x : Int32} (hb : sg 0 21 = 0) (hl : layR sg acc) (ha : acc.length < 600) {post : MS → Prop} (k : ∀ s9, fL sg s9 → s9 0 = sg 0 → layR s9 (acc ++ [x]) → post s9) : wM_lay sg x post := by
  unfold wM_lay
  rw [if_pos hb]
  refine ⟨600 + acc.length, by omega, by rw [hl.1, show (600 : Int32) = nI 600 from rfl, nI_add], ?_⟩
  refine k _ ⟨fun k h0 h4 h12 => ?_, fun j hj => ?_, fun j hj => ?_, fun i hi => ?_⟩ ?_ ⟨?_, fun i hi => ?_⟩
  · rw [s2_rowN h4, s2_rowN h12]
  · rw [s2_k (by decide), s2_k (by decide)]
  · rw [s2_i hj, s2_k (by decide)]
  · rw [s2_k (by decide), s2_i (by omega)]
  · rw [s2_rowN (by decide), s2_rowN (by decide)]
  · rw [s2_s, s2_k (by decide), hl.1, nI_1, List.length_append]
    rfl
  · rw [s2_k (by decide)]
    rw [List.length_append] at hi
    have hi' : i < acc.length + 1 := hi
    by_cases e : i = acc.length
    · rw [e, s2_s]
      have := getD_app2 (l := acc) (l2 := [x]) (i := 0)
      rw [Nat.add_zero] at this
      rw [this]
      rfl
    · rw [s2_i (by omega), hl.2 i (by omega), getD_app1 (by omega)]
theorem rdM.L {sg s9 : MS} {p : Nat} (h : rdM b n sg p) (hL : fL sg s9) (h0 : s9 0 = sg 0) : rdM b n s9 p := h.f (hL.1 14 (by decide) (by decide) (by decide)) (fun j _ => by rw [h0])
def stepM (x : Int32) (M2 K : mdlW) : mdlW := fun sg post => wM_stepOn sg (fun (g8 : MS) => (M2 g8 (fun (g10 : MS) => (wM_lay g10 x (fun (g12 : MS) => (K g12 post))))))
theorem stepM_ok (ht : tOk b n) {p1 p3 : Nat} {x : Int32} {l2 : List Int32} {M2 K : mdlW} (hp : p1 < n) (h3 : tNx b n p1 < p3) (h3n : p3 ≤ n) (hl2 : l2.length ≤ p3 - tNx b n p1) (h2 : okM b n (tNx b n p1) p3 l2 M2) {sg : MS} {post : MS → Prop} {acc : List Int32} (hM : rdM b n sg p1) (h0 : sg 0 21 = 0) (hl : layR sg acc) (ha : acc.length ≤ p1) (k : ∀ s9, fL sg s9 → rdM b n s9 p3 → layR s9 (acc ++ (l2 ++ [x])) → K s9 post) : stepM x M2 K sg post := by
  have hp2 := t9nx_gt (b := b) hp
  have hn6 := ht.1
  refine sM_go ht hM (fun g8 f8 m8 => h2 g8 _ acc m8 ((f8.2 21 rfl).trans h0) (layR.s f8 hl) (by omega) (fun g10 f10 m10 l10 => ?_))
  refine sM_lay ht ((f10.2.1 21 rfl).trans ((f8.2 21 rfl).trans h0)) l10 (by rw [List.length_append]; omega) (fun s9 f9 e9 l9 => ?_)
  rw [List.append_assoc] at l9
  exact k s9 ((f8.L.tr f10).tr f9) (m10.L f9 e9) l9
theorem stepM_ft (ht : tOk b n) {p1 pl : Nat} {x kd : Int32} {M2 K : mdlW} (hk : kd ≠ 0) (hp : p1 < n) (hK : bdM K) (h2 : ftM b n (tNx b n p1) kd pl M2) {sg : MS} {post : MS → Prop} {acc : List Int32} (hM : rdM b n sg p1) (h0 : sg 0 21 = 0) (hl : layR sg acc) (ha : acc.length ≤ p1) (k : ∀ s9, fB sg s9 → s9 0 21 = kd → s9 0 22 = nI pl → post s9) : stepM x M2 K sg post := by
  have hp2 := t9nx_gt (b := b) hp
  refine sM_go ht hM (fun g8 f8 m8 => h2 g8 _ acc m8 ((f8.2 21 rfl).trans h0) (layR.s f8 hl) (by omega) (fun g10 f10 m10 l10 => ?_))
  refine sM_layB (by rw [m10]; exact hk) (hK _ _ (by rw [m10]; exact hk) (k g10 (f8.L.bb f10) m10 l10))
theorem loop_run (hA : hAd ad) (ht : tOk b n) {N2 N : Nat} {W2 : clsW} {M2 : mdlW} (WLf : Nat → Nat → clsW) (MLf : Nat → mdlW) (op : Nat → Option (Nat × Int32)) (hop : ∀ p c x, op p = some (c, x) → p < n ∧ opC (nI c) x ∧ c < 128) (hN : N2 + 1 ≤ N) (h2 : ∀ p, p ≤ n → Run ad b n r tx ax kx N2 p W2 M2) (hbL : ∀ m, bdM (MLf (m + 1)))
    (hs : ∀ m p, op p = none → ∀ (U z : Nat) (T L : Nat → Nat) (V : w_V) (P : w_P) (e : Nat) (post : Nat → Nat → (Nat → Nat) → (Nat → Nat) → w_V → w_P → Prop) (xp : w_Xp), rdX ad b n T L V P r tx ax kx p → post e z T L V P → WLf (m + 1) e U z T L V P post xp)
    (hg : ∀ m p c x, op p = some (c, x) → ∀ (U z : Nat) (T L : Nat → Nat) (V : w_V) (P : w_P) (e : Nat) (post : Nat → Nat → (Nat → Nat) → (Nat → Nat) → w_V → w_P → Prop) (xp : w_Xp), rdX ad b n T L V P r tx ax kx p → stepX ad r c W2 (WLf m) e U z T L V P post xp → WLf (m + 1) e U z T L V P post xp)
    (hsM : ∀ m p, op p = none → ∀ (sg : MS) (post : MS → Prop), rdM b n sg p → sg 0 21 = 0 → post sg → MLf (m + 1) sg post)
    (hgM : ∀ m p c x, op p = some (c, x) → ∀ (sg : MS) (post : MS → Prop), rdM b n sg p → sg 0 21 = 0 → stepM x M2 (MLf m) sg post → MLf (m + 1) sg post) :
    ∀ m p1 l1 n1 d1 f1, n - p1 < m → p1 ≤ n → n1 ≤ N → LRun ad b n r tx ax kx N p1 l1 n1 d1 f1 (WLf m) (MLf m) := by
  intro m
  induction m with
  | zero => intro p1 l1 n1 d1 f1 hm; omega
  | succ m ih =>
    intro p1 l1 n1 d1 f1 hm hp hn1
    cases eo : op p1 with
    | none =>
      refine Or.inl ⟨p1, [], n1, d1, f1, Nat.le_refl _, hp, by simp, hn1, by omega, ?_, ?_⟩
      · intro U z T L V P e post xp hU hf hX he k
        exact hs m p1 eo U z T L V P e post xp hX (k e z T L V P (xr.rf hf) hX (by rw [List.append_nil]; exact he))
      · intro sg post acc hM h0 hl ha k
        exact hsM m p1 eo sg post hM h0 (k sg ⟨fun _ _ _ _ => rfl, fun _ _ => rfl, fun _ _ => rfl, fun _ _ => rfl⟩ hM (by rw [List.append_nil]; exact hl))
    | some cx =>
      obtain ⟨c, x⟩ := cx
      obtain ⟨hpn, ho, hc⟩ := hop p1 c x eo
      have hp2 := t9nx_gt (b := b) hpn
      have hp2n := t9nx_le (b := b) hp
      rcases h2 (tNx b n p1) hp2n with ⟨p3, l2, n2, d2, f2, a1, a2, a3, a4, a5, a6, a7, a8⟩ | ⟨kd, pl, a1, a2, a3, a4, a5⟩
      · have hm1 : n - p3 < m := by omega
        have hmx : max n1 (n2 + 1) ≤ N := by omega
        rcases ih p3 (l1 ++ (l2 ++ [x])) (max n1 (n2 + 1)) (max d1 d2 + 1) (fun as => rk x (f1 as) (f2 as)) hm1 a2 hmx with ⟨p', lx, n', d', f', c1, c2, c3, c4, c5, c6, c7⟩ | ⟨kd, pl, c1, c2, c3, c4, c5⟩
        · refine Or.inl ⟨p', (l2 ++ [x]) ++ lx, n', d', f', by omega, c2, ?_, c4, by omega, ?_, ?_⟩
          · rw [List.length_append, List.length_append]
            show l2.length + 1 + lx.length ≤ _
            omega
          · intro U z T L V P e post xp hU hf hX he k
            refine hg m p1 c x eo U z T L V P e post xp hX (step_ok hA ht hpn ho hc (by omega) a7 (by omega) hf hX he (fun o U' z' T' L' V' P' u1 u2 u3 u4 => c6 U' z' T' L' V' P' o post xp (by omega) u2.1 u3 u4 (fun e' z9 T9 L9 V9 P9 v1 v2 v3 => k e' z9 T9 L9 V9 P9 (u2.tr v1) v2 (by rw [← List.append_assoc]; exact v3))))
          · intro sg post acc hM h0 hl ha k
            refine hgM m p1 c x eo sg post hM h0 (stepM_ok ht hpn (by omega) a2 a4 a8 hM h0 hl ha (fun s9 u1 u2 u3 => c7 s9 post (acc ++ (l2 ++ [x])) u2 ((u1.2.1 21 rfl).trans h0) u3 ?_ (fun s8 v1 v2 v3 => k s8 (u1.tr v1) v2 (by rw [← List.append_assoc]; exact v3))))
            rw [List.length_append, List.length_append]
            show acc.length + (l2.length + 1) ≤ p3
            omega
        · refine Or.inr ⟨kd, pl, c1, by omega, c3, ?_, ?_⟩
          · intro U z T L V P e post xp hU hf hX he k
            refine hg m p1 c x eo U z T L V P e post xp hX (step_ok hA ht hpn ho hc (by omega) a7 (by omega) hf hX he (fun o U' z' T' L' V' P' u1 u2 u3 u4 => c4 U' z' T' L' V' P' o post xp (by omega) u2.1 u3 u4 (k.m u2)))
          · intro sg post acc hM h0 hl ha k
            refine hgM m p1 c x eo sg post hM h0 (stepM_ok ht hpn (by omega) a2 a4 a8 hM h0 hl ha (fun s9 u1 u2 u3 => c5 s9 post (acc ++ (l2 ++ [x])) u2 ((u1.2.1 21 rfl).trans h0) u3 ?_ (fun s8 v1 v2 v3 => k s8 (u1.bb v1) v2 v3)))
            rw [List.length_append, List.length_append]
            show acc.length + (l2.length + 1) ≤ p3
            omega
      · refine Or.inr ⟨kd, pl, a1, by omega, a3, ?_, ?_⟩
        · intro U z T L V P e post xp hU hf hX he k
          exact hg m p1 c x eo U z T L V P e post xp hX (step_ft hA ht hpn (by omega) a4 hU hf hX he k)
        · intro sg post acc hM h0 hl ha k
          obtain ⟨m', rfl⟩ : ∃ m', m = m' + 1 := ⟨m - 1, by omega⟩
          exact hgM (m' + 1) p1 c x eo sg post hM h0 (stepM_ft ht a1 hpn (hbL m') a5 hM h0 hl ha k)
theorem Run.to {N p : Nat} {W W' : clsW} {M M' : mdlW} (h : Run ad b n r tx ax kx N p W M) (hX : ∀ U z T L V P post xp, W U z T L V P post xp → W' U z T L V P post xp) (hM : ∀ sg post, M sg post → M' sg post) : Run ad b n r tx ax kx N p W' M' := by
  rcases h with ⟨p1, l1, n1, d1, f1, a1, a2, a3, a4, a5, a6, a7, a8⟩ | ⟨k, pl, a1, a2, a3, a4, a5⟩
  · exact Or.inl ⟨p1, l1, n1, d1, f1, a1, a2, a3, a4, a5, a6, fun U z T L V P post xp g1 g2 g3 g4 => hX _ _ _ _ _ _ _ _ (a7 U z T L V P post xp g1 g2 g3 g4), fun sg post acc g1 g2 g3 g4 g5 => hM _ _ (a8 sg post acc g1 g2 g3 g4 g5)⟩
  · exact Or.inr ⟨k, pl, a1, a2, a3, fun U z T L V P post xp g1 g2 g3 g4 => hX _ _ _ _ _ _ _ _ (a4 U z T L V P post xp g1 g2 g3 g4), fun sg post acc g1 g2 g3 g4 g5 => hM _ _ (a5 sg post acc g1 g2 g3 g4 g5)⟩
theorem LRun.to {N p : Nat} {l : List Int32} {nn d : Nat} {f : (Nat → Int32) → Int32} {W W' : Nat → clsW} {M M' : mdlW} (h : LRun ad b n r tx ax kx N p l nn d f W M) (hX : ∀ e U z T L V P post xp, W e U z T L V P post xp → W' e U z T L V P post xp) (hM : ∀ sg post, M sg post → M' sg post) : LRun ad b n r tx ax kx N p l nn d f W' M' := by
  rcases h with ⟨p1, l1, n1, d1, f1, a1, a2, a4, a5, a6, a7, a8⟩ | ⟨k, pl, a1, a2, a3, a4, a5⟩
  · exact Or.inl ⟨p1, l1, n1, d1, f1, a1, a2, a4, a5, a6, fun U z T L V P e post xp g1 g2 g3 g4 g5 => hX _ _ _ _ _ _ _ _ _ (a7 U z T L V P e post xp g1 g2 g3 g4 g5), fun sg post acc g1 g2 g3 g4 g5 => hM _ _ (a8 sg post acc g1 g2 g3 g4 g5)⟩
  · exact Or.inr ⟨k, pl, a1, a2, a3, fun U z T L V P e post xp g1 g2 g3 g4 g5 => hX _ _ _ _ _ _ _ _ _ (a4 U z T L V P e post xp g1 g2 g3 g4 g5), fun sg post acc g1 g2 g3 g4 g5 => hM _ _ (a5 sg post acc g1 g2 g3 g4 g5)⟩
end B
