/-! PURE: a land being read, at both; town, gossip, law -/
set_option maxRecDepth 100000
/-- a land's rows are well -/
def DOk (D : MS) : Prop := lndOk D ∧ (∃ m, D 4 1 = nI m ∧ m < 512) ∧ (∃ k, D 4 2 = nI k ∧ k ≤ 14) ∧ ∀ j, j < nJ D → ∃ d, D 7 j = nI d ∧ d ≤ 60
abbrev bsE : Type := (Nat → Nat) × (Nat → Nat) × w_V × w_P
/-- the class's reader at p, the land at l read so far -/
def CL (ad b : Nat → Nat) (n : Nat) (B : bsE) (r tx ax kx l jl cl vw : Nat) (D : MS) (lw : (Nat → Int32) → Int32) (g w : Bool) (p z : Nat) (T L : Nat → Nat) (V : w_V) (P : w_P) : Prop :=
  frs z T ∧ rdX ad b n T L V P r tx ax kx p ∧ xt B.1 B.2.1 B.2.2.1 B.2.2.2 T L V P ∧ (B.1 r = 0 ∧ B.1 l = 0 ∧ B.1 jl = 0 ∧ B.1 cl = 0) ∧ jl ≠ cl ∧ (V r 9 0 = b2 g ∧ V r 9 1 = b2 w) ∧ (T l = 3 ∧ V l 0 0 = D 4 0 ∧ V l 0 1 = D 4 2 ∧ V l 0 2 = D 4 3 ∧ V l 0 3 = D 4 1) ∧ (∀ k, k < 81 → V l 5 k = D 5 k) ∧ (P l 9 = some vw ∧ T vw = 4) ∧ lawR ad T V P (P l 8) D lw ∧
  ∃ ja ca, B.1 ja = 0 ∧ B.1 ca = 0 ∧ ja ≠ ca ∧ jdL T L V P l jl ja D ∧ caL T L V P l cl ca D ∧ (1 ≤ L ja ∧ L ja ≤ 9) ∧ 1 ≤ L ca ∧ L ca ≤ 9
/-- the model's land being read -/
def mAg (sg D : MS) : Prop := (∀ i, i < 7 → sg 4 (7 + i) = D 4 i) ∧ (∀ i, i < 81 → sg 5 (81 + i) = D 5 i) ∧ (∀ j, j < nJ D → sg 6 (5 + j) = D 6 j ∧ sg 7 (5 + j) = D 7 j ∧ sg 8 (5 + j) = D 8 j ∧ sg 9 (5 + j) = D 9 j ∧ ∀ i, i < stp D j → sg 10 (35 + (7 * j + i)) = D 10 (7 * j + i)) ∧ (∀ c t, c < nC D → t < 9 → sg 11 (54 + (9 * c + t)) = D 11 (9 * c + t)) ∧ ∀ i, i < nS D → sg 12 (600 + i) = D 12 i
def hlf : Nat → Nat
  | 4 => 7
  | 5 => 81
  | 6 => 5
  | 7 => 5
  | 8 => 5
  | 9 => 5
  | 10 => 35
  | 11 => 54
  | 12 => 600
  | _ => 0
/-- what reading a land leaves of the model -/
def fU (sg s9 : MS) : Prop := (∀ k i, k ≠ 0 → (hlf k = 0 ∨ i < hlf k) → s9 k i = sg k i) ∧ ∀ j, rj j = false → j ≠ 21 → j ≠ 22 → s9 0 j = sg 0 j
theorem fU.rf (sg : MS) : fU sg sg := ⟨fun _ _ _ _ => rfl, fun _ _ _ _ => rfl⟩
theorem fU.tr {s1 s2 s3 : MS} (h : fU s1 s2) (h2 : fU s2 s3) : fU s1 s3 := ⟨fun k i a c => (h2.1 k i a c).trans (h.1 k i a c), fun j a c d => (h2.2 j a c d).trans (h.2 j a c d)⟩
theorem fU.w {s1 s9 : MS} {k i : Nat} {x : Int32} (h : fU s1 s9) (hk : hlf k ≠ 0 ∧ hlf k ≤ i) : fU s1 (s2 s9 k i x) := by
  refine ⟨fun a j ha hj => ?_, fun j a c d => ?_⟩
  · have : ¬ (a = k ∧ j = i) := fun ⟨e1, e2⟩ => by subst e1 e2; rcases hj with q | q; exact hk.1 q; omega
    by_cases e : a = k
    · rw [e, s2_i (fun q => this ⟨e, q⟩), ← e]; exact h.1 a j ha hj
    · rw [s2_k e]; exact h.1 a j ha hj
  · rw [s2_k (fun e => hk.1 (by rw [← e]; rfl))]
    exact h.2 j a c d
theorem fB.U {s1 s2 : MS} (h : fB s1 s2) : fU s1 s2 := by
  refine ⟨fun k i hk hi => ?_, h.2.1⟩
  by_cases e4 : k = 4
  · subst e4
    rcases hi with q | q
    · cases q
    · exact h.2.2.1 i (by have : i < 7 := q; omega)
  · by_cases e12 : k = 12
    · subst e12
      rcases hi with q | q
      · cases q
      · exact h.2.2.2 i q
    · rw [h.1 k hk e4 e12]
theorem fL.U {s1 s2 : MS} (h : fL s1 s2) : fU s1 s2 := fB.U ⟨h.1, fun j a _ _ => h.2.1 j a, h.2.2.1, h.2.2.2⟩
theorem fS.U {s1 s2 : MS} (h : fS s1 s2) : fU s1 s2 := h.L.U
def ML (b : Nat → Nat) (n : Nat) (sg0 D : MS) (p : Nat) (sg : MS) : Prop := rdM b n sg p ∧ sg 0 21 = 0 ∧ mAg sg D ∧ fU sg0 sg
theorem mAg.s {sg s9 D : MS} (h : mAg sg D) (f : fS sg s9) : mAg s9 D := by
  obtain ⟨a1, a2, a3, a4, a5⟩ := h
  refine ⟨fun i hi => by rw [f.1 4 (by decide)]; exact a1 i hi, fun i hi => by rw [f.1 5 (by decide)]; exact a2 i hi, fun j hj => ?_, fun c t hc ht => by rw [f.1 11 (by decide)]; exact a4 c t hc ht, fun i hi => by rw [f.1 12 (by decide)]; exact a5 i hi⟩
  rw [f.1 6 (by decide), f.1 7 (by decide), f.1 8 (by decide), f.1 9 (by decide), f.1 10 (by decide)]
  exact a3 j hj
theorem ML.s {b : Nat → Nat} {n p p' : Nat} {sg0 D sg s9 : MS} (h : ML b n sg0 D p sg) (f : fS sg s9) (hM : rdM b n s9 p') : ML b n sg0 D p' s9 := ⟨hM, (f.2 21 rfl).trans h.2.1, h.2.2.1.s f, h.2.2.2.tr f.U⟩
/-- what is thrown out of reading a land -/
def xfL (B : bsE) (xp : w_Xp) (z : Nat) (k : Int32) (pl : Nat) : Prop := ∀ (q z' : Nat) (T' L' : Nat → Nat) (V' : w_V) (P' : w_P), frs z' T' → z ≤ z' → xt B.1 B.2.1 B.2.2.1 B.2.2.2 T' L' V' P' → T' q = 17 → V' q 0 0 = k → V' q 0 1 = nI pl → xp q "ApartBench$Fault" z' T' L' V' P'
section L
variable {ad b : Nat → Nat} {n : Nat} {B : bsE} {r tx ax kx l jl cl vw : Nat} {D : MS} {lw : (Nat → Int32) → Int32} {g w : Bool} {p z : Nat} {T L : Nat → Nat} {V : w_V} {P : w_P}
theorem xfL.m {xp : w_Xp} {k : Int32} {pl z' : Nat} (h : xfL B xp z k pl) (hz : z ≤ z') : xfL B xp z' k pl := fun q z2 T' L' V' P' h1 h2 h3 h4 h5 h6 => h q z2 T' L' V' P' h1 (Nat.le_trans hz h2) h3 h4 h5 h6
theorem xt.kf {X : Nat → Prop} {T' L' : Nat → Nat} {V' : w_V} {P' : w_P} (h : xt B.1 B.2.1 B.2.2.1 B.2.2.2 T L V P) (hx : kfr X T L V P T' L' V' P') (hX : ∀ a, X a → B.1 a = 0) : xt B.1 B.2.1 B.2.2.1 B.2.2.2 T' L' V' P' := fun a ha => by
  obtain ⟨a1, a2, a3, a4⟩ := h a ha
  obtain ⟨b1, b2', b3⟩ := hx a (by rw [a1]; exact ha)
  obtain ⟨b4, b5⟩ := b3 (fun q => ha (hX a q))
  exact ⟨b1.trans a1, b2'.trans a2, b4.trans a3, b5.trans a4⟩
theorem xfL.c {xp : w_Xp} {k : Int32} {pl : Nat} (h : xfL B xp z k pl) (hc : CL ad b n B r tx ax kx l jl cl vw D lw g w p z T L V P) : xfC xp r z T L V P k pl := fun q z' T' L' V' P' h1 h2 h3 h4 => h q z' T' L' V' P' h1.1 h1.2.1 (xt.kf hc.2.2.1 h1.k (fun a e => by rw [e]; exact hc.2.2.2.1.1)) h2 h3 h4
/-- the land stands while the reader goes on -/
theorem CL.x {p' z' : Nat} {T' L' : Nat → Nat} {V' : w_V} {P' : w_P} (h : CL ad b n B r tx ax kx l jl cl vw D lw g w p z T L V P) (hx : xr r z T L V P z' T' L' V' P') (hX : rdX ad b n T' L' V' P' r tx ax kx p') : CL ad b n B r tx ax kx l jl cl vw D lw g w p' z' T' L' V' P' := by
  obtain ⟨h1, h2, h3, h4, h5, h6, ⟨h7, h8⟩, h9, ⟨h10, h11⟩, h12, ja, ca, i1, i2, i3, i4, i5, i6, i7⟩ := h
  have hr : T r = 8 := h2.1.1
  have nk : ∀ a t, T a = t → t ≠ 8 → a ≠ r := fun a t e q q2 => q (by rw [← e, q2]; exact hr)
  obtain ⟨e1, e2, e3⟩ := hx.2.2.1 l (ne0 h7)
  obtain ⟨e4, e5⟩ := e3 (nk l 3 h7 (by decide))
  obtain ⟨g1, -⟩ := hx.2.2.1 vw (ne0 h11)
  have hk := hx.k
  refine ⟨hx.1, hX, xt.kf h3 hk (fun a e => by rw [e]; exact h4.1), h4, h5, by rw [hx.2.2.2]; exact h6, ⟨e1.trans h7, by rw [e4]; exact h8⟩, fun k hk => by rw [e4]; exact h9 k hk, ⟨by rw [e5]; exact h10, g1.trans h11⟩, ?_, ja, ca, i1, i2, i3, ?_, ?_, ?_, ?_⟩
  · rw [e5]
    exact h12.k hk (fun a ha e => eT_ne8 ha (by rw [e]; exact hr))
  · exact i4.k hk (by rw [e5]) (nk jl 16 i4.2.1.1 (by decide)) (nk ja 2004 i4.2.1.2.2.2.1 (by decide)) (fun a ha e => by rw [e, hr] at ha; rcases ha with q | q | q | q <;> cases q)
  · exact i5.k hk (by rw [e5]) (nk cl 16 i5.2.1.1 (by decide)) (nk ca 2004 i5.2.1.2.2.2.1 (by decide)) (fun a ha e => by rw [e, hr] at ha; cases ha)
  · rw [(hx.2.2.1 ja (ne0 i4.2.1.2.2.2.1)).2.1]; exact i6
  · rw [(hx.2.2.1 ca (ne0 i5.2.1.2.2.2.1)).2.1]; exact i7
/-- the land's own numbers change -/
theorem CL.lnd {V' : w_V} {D' : MS} (h : CL ad b n B r tx ax kx l jl cl vw D lw g w p z T L V P) (hV : ∀ a, a ≠ l → V' a = V a) (h1 : V' l 0 0 = D' 4 0 ∧ V' l 0 1 = D' 4 2 ∧ V' l 0 2 = D' 4 3 ∧ V' l 0 3 = D' 4 1) (h2 : ∀ k, k < 81 → V' l 5 k = D' 5 k) (e6 : ∀ k, 6 ≤ k → D' k = D k) (ej : D' 4 4 = D 4 4) (ec : D' 4 5 = D 4 5) (es : D' 4 6 = D 4 6) : CL ad b n B r tx ax kx l jl cl vw D' lw g w p z T L V' P := by
  obtain ⟨h1', h2', h3, h4, h5, h6, ⟨h7, h8⟩, h9, ⟨h10, h11⟩, h12, ja, ca, i1, i2, i3, i4, i5, i6, i7⟩ := h
  have nk : ∀ a t, T a = t → t ≠ 3 → a ≠ l := fun a t e q q2 => q (by rw [← e, q2]; exact h7)
  have hk : kfr (fun a => a = l) T L V P T L V' P := fun a ha => ⟨rfl, rfl, fun q => ⟨hV a q, rfl⟩⟩
  have nr : r ≠ l := nk r 8 h2'.1.1 (by decide)
  have eJ : nJ D' = nJ D := by show tn (D' 4 4) = tn (D 4 4); rw [ej]
  have eC : nC D' = nC D := by show tn (D' 4 5) = tn (D 4 5); rw [ec]
  have eS : nS D' = nS D := by show tn (D' 4 6) = tn (D 4 6); rw [es]
  refine ⟨h1', h2'.x (fun a ha => ⟨rfl, rfl, hV a (fun e => by rw [e, h7] at ha; rcases ha with q | q | q | q <;> cases q), rfl⟩), xt.kf h3 hk (fun a e => by rw [e]; exact h4.2.1), h4, h5, by rw [hV r nr]; exact h6, ⟨h7, h1⟩, h2, ⟨h10, h11⟩, ?_, ja, ca, i1, i2, i3, ?_, ?_, i6, i7⟩
  · exact (h12.k hk (fun a ha e => by rw [e] at ha; unfold eT at ha; rw [h7] at ha; rcases ha with q | q | q | q <;> cases q)).rows eS (fun i _ => by rw [e6 12 (by decide)])
  · exact (i4.k hk rfl (nk jl 16 i4.2.1.1 (by decide)) (nk ja 2004 i4.2.1.2.2.2.1 (by decide)) (fun a ha e => by rw [e, h7] at ha; rcases ha with q | q | q | q <;> cases q)).rows eJ (fun j _ => ⟨by rw [e6 6 (by decide)], by rw [e6 7 (by decide)], by rw [e6 8 (by decide)], by rw [e6 9 (by decide)], fun i _ => by rw [e6 10 (by decide)]⟩)
  · exact (i5.k hk rfl (nk cl 16 i5.2.1.1 (by decide)) (nk ca 2004 i5.2.1.2.2.2.1 (by decide)) (fun a ha e => by rw [e, h7] at ha; cases ha)).rows eC (fun c t _ _ => by rw [e6 11 (by decide)])
abbrev lpT : Type := Nat → Nat → (Nat → Nat) → (Nat → Nat) → w_V → w_P → Prop
/-- a statement's reading at both, ahead of its semicolon -/
def bRun (ad b : Nat → Nat) (n : Nat) (B : bsE) (r tx ax kx l jl cl vw : Nat) (D : MS) (lw : (Nat → Int32) → Int32) (g w g' w' : Bool) (p : Nat) (cW : lpT → lpT → w_Xp → lpT) (mW' : MS → (MS → Prop) → Prop) : Prop :=
  (∃ (D' : MS) (lw' : (Nat → Int32) → Int32) (p' : Nat), DOk D' ∧ (w' = false → nS D' = 0) ∧ p < p' ∧ p' ≤ n ∧ (∀ (post kb : lpT) (xp : w_Xp) (U z : Nat) (T L : Nat → Nat) (V : w_V) (P : w_P), 30 * (p' - p) ≤ U → CL ad b n B r tx ax kx l jl cl vw D lw g w p z T L V P → (∀ (U' z' : Nat) (T' L' : Nat → Nat) (V' : w_V) (P' : w_P), U ≤ U' + 30 * (p' - p) → z ≤ z' → CL ad b n B r tx ax kx l jl cl vw D' lw' g' w' p' z' T' L' V' P' → jFX9_land_283 ad U' z' T' L' V' P' r l post xp kb) → cW post kb xp U z T L V P) ∧ ∀ (sg0 sg : MS) (post : MS → Prop), ML b n sg0 D p sg → (∀ s9, ML b n sg0 D' p' s9 → post s9) → mW' sg post) ∨
  ∃ (k : Int32) (pl : Nat), k ≠ 0 ∧ p ≤ pl ∧ pl ≤ n ∧ (∀ (post kb : lpT) (xp : w_Xp) (U z : Nat) (T L : Nat → Nat) (V : w_V) (P : w_P), 30 * (pl - p) + 30 ≤ U → CL ad b n B r tx ax kx l jl cl vw D lw g w p z T L V P → xfL B xp z k pl → cW post kb xp U z T L V P) ∧ ∀ (sg0 sg : MS) (post : MS → Prop), ML b n sg0 D p sg → (∀ s9, fU sg0 s9 → s9 0 21 = k → s9 0 22 = nI pl → post s9) → mW' sg post
end L
