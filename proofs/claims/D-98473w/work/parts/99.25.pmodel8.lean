/-! PURE: the model is made (printed by gen/g9925.py) -/
set_option maxRecDepth 100000
/-- the object of the class c at t is being made: k cells after it are taken, the own arrays in the slots S are there -/
def mkh (C : Nat → Nat → Int32) (c t : Nat) (B : hpT) (k z : Nat) (T L : Nat → Nat) (V : w_V) (P : w_P) (S : List Nat) : Prop :=
  ext B.1 B.2.1 B.2.2.1 B.2.2.2.1 B.2.2.2.2 z T L V P ∧ z = t + 1 + k ∧ B.1 = t ∧ frs t B.2.1 ∧ T t = 50 + c + 1 ∧ ∀ j f, j ∈ S → (alay c)[j]? = some f → f.1 = 1 → f.2.1 ≠ 0 ∧ f.2.2.1 < 100 ∧ P t j = some (t + f.2.1) ∧ T (t + f.2.1) = 1000 + f.2.2.1 ∧ L (t + f.2.1) = f.2.2.2 ∧ V (t + f.2.1) 0 = C j
section MK2
variable {C : Nat → Nat → Int32} {c t : Nat} {B : hpT} {k z : Nat} {T L : Nat → Nat} {V : w_V} {P : w_P} {S : List Nat} {z1 : Nat} {T1 L1 : Nat → Nat} {V1 : w_V} {P1 : w_P}
/-- the object itself -/
theorem mkh.b (hf : frs z T) {o : Nat} (h : nwH o z T L V P (50 + c + 1) 0 z1 T1 L1 V1 P1) : mkh C c o (z, T, L, V, P) 0 z1 T1 L1 V1 P1 [] ∧ o = z ∧ (V1 o = fun _ _ => 0) ∧ (P1 o = fun _ => none) := by
  obtain ⟨h1, h2, h3, h4, h5, h6⟩ := ext.nw hf h
  have e := h.1
  have e1 : z1 = z + 1 := h.2.1
  subst e
  exact ⟨⟨h1, e1, rfl, hf, h3, fun j f hj => absurd hj List.not_mem_nil⟩, rfl, h5, h6⟩
theorem mkh.t0 (h : mkh C c t B k z T L V P S) : T t ≠ 0 := by rw [h.2.2.2.2.1]; omega
theorem mkh.bt (h : mkh C c t B k z T L V P S) {a : Nat} (ha : t ≤ a) : B.2.1 a = 0 := h.2.2.2.1.z0 ha
/-- other things are made -/
theorem mkh.grow (h : mkh C c t B k z T L V P S) (he : ext z T L V P z1 T1 L1 V1 P1) {k1 : Nat} (hz : z1 = t + 1 + k1) : mkh C c t B k1 z1 T1 L1 V1 P1 S ∧ V1 t = V t ∧ P1 t = P t := by
  obtain ⟨h1, h2, h3, h4, h5, h6⟩ := h
  obtain ⟨a1, a2, a3, a4⟩ := he.2.2 t (by rw [h5]; omega)
  refine ⟨⟨h1.tr he, hz, h3, h4, a1.trans h5, fun j f hj hf hk => ?_⟩, a3, a4⟩
  obtain ⟨b1, b2', b3, b4, b5, b6⟩ := h6 j f hj hf hk
  obtain ⟨c1, c2, c3, c4⟩ := he.2.2 (t + f.2.1) (by rw [b4]; omega)
  exact ⟨b1, b2', by rw [a4]; exact b3, c1.trans b4, c2.trans b5, by rw [c3]; exact b6⟩
/-- the object's fields are written -/
theorem mkh.put (h : mkh C c t B k z T L V P S) (hV : ∀ a, a ≠ t → V1 a = V a ∧ P1 a = P a) (hP : ∀ j, j ∈ S → P1 t j = P t j) : mkh C c t B k z T L V1 P1 S := by
  obtain ⟨h1, h2, h3, h4, h5, h6⟩ := h
  refine ⟨h1.put (h4.z0 (Nat.le_refl _)) hV, h2, h3, h4, h5, fun j f hj hf hk => ?_⟩
  obtain ⟨b1, b2', b3, b4, b5, b6⟩ := h6 j f hj hf hk
  exact ⟨b1, b2', by rw [hP j hj]; exact b3, b4, b5, by rw [(hV _ (by omega)).1]; exact b6⟩
/-- an own array is made, and its reference put -/
theorem mkh.arr (h : mkh C c t B k z T L V P S) {o ty l j : Nat} {V2 : w_V} (hn : nwH o z T L V P (1000 + ty) l z1 T1 L1 V1 P1) (hty : ty < 100) (hf : (alay c)[j]? = some (fA (1 + k) ty l)) (hj : ¬ j ∈ S) (hV2 : ∀ a, a ≠ o → V2 a = V1 a) (hC : V2 o 0 = C j) : mkh C c t B (k + 1) z1 T1 L1 V2 (up2 P1 t j (some o)) (j :: S) ∧ V2 t = V t ∧ (∀ i, i ≠ j → up2 P1 t j (some o) t i = P t i) := by
  obtain ⟨e0, n1, n2, n3, n4, n5⟩ := ext.nw h.1.1 hn
  have e1 : ext z T L V P z1 T1 L1 V2 P1 := e0.put n1 (fun a ha => ⟨hV2 a ha, rfl⟩)
  have eo : o = z := hn.1
  have ez : z1 = z + 1 := hn.2.1
  have hz := h.2.1
  obtain ⟨m1, m2, m3⟩ := h.grow e1 (k1 := k + 1) (by omega)
  have m4 := m1.put (V1 := V2) (P1 := up2 P1 t j (some o)) (fun a ha => ⟨rfl, up2_n ha⟩) (fun i hi => by
    rw [up2_a, if_neg (fun e => hj (by rw [← e]; exact hi))])
  refine ⟨⟨m4.1, m4.2.1, m4.2.2.1, m4.2.2.2.1, m4.2.2.2.2.1, fun i f hi hf' hk => ?_⟩, m2, fun i hi => by rw [up2_a, if_neg hi, m3]⟩
  rcases List.mem_cons.mp hi with e | hi
  · subst e
    rw [hf] at hf'
    have ef : fA (1 + k) ty l = f := by injection hf'
    subst ef
    have eo2 : o = t + (1 + k) := by omega
    refine ⟨by show 1 + k ≠ 0; omega, hty, ?_, ?_, ?_, ?_⟩
    · rw [up2_a, if_pos rfl]; show some o = some (t + (1 + k)); rw [eo2]
    · show T1 (t + (1 + k)) = 1000 + ty; rw [← eo2]; exact n2
    · show L1 (t + (1 + k)) = l; rw [← eo2]; exact n3
    · show V2 (t + (1 + k)) 0 = _; rw [← eo2]; exact hC
  · exact m4.2.2.2.2.2 i f hi hf' hk
theorem slH_1000 (h : mkh C c t B k z T L V P S) (hS : mkS c S = true) {b : Nat} (hb : (slJ c t b).isSome = true) : ∃ (j : Nat) (f : w_fk), (alay c)[j]? = some f ∧ f.1 = 1 ∧ b = t + f.2.1 ∧ T b = 1000 + f.2.2.1 ∧ f.2.2.1 < 100 ∧ f.2.1 ≠ 0 := by
  obtain ⟨j, f, h1, h2, h3⟩ := slJ_some hb
  have hj : j < (alay c).length := by
    obtain ⟨q, -⟩ := List.getElem?_eq_some_iff.mp h1
    exact q
  have q := List.all_eq_true.mp hS j (List.mem_range.mpr hj)
  rw [h1] at q
  have q2 : S.contains j = true := by
    dsimp only at q
    rw [h2] at q
    simpa using q
  obtain ⟨b1, b2', b3, b4, b5, b6⟩ := h.2.2.2.2.2 j f (List.contains_iff_mem.mp q2) h1 h2
  exact ⟨j, f, h1, h2, h3, by rw [h3]; exact b4, b2', b1⟩
/-- the object is made one with its arrays -/
theorem mkh.seal (h : mkh C c t B k z T L V P S) (hS : mkS c S = true) {Q : (Nat → Nat) → w_V → Prop}
    (kk : ∀ (T1 : Nat → Nat) (V1 : w_V), ext B.1 B.2.1 B.2.2.1 B.2.2.2.1 B.2.2.2.2 z T1 L V1 P → T1 t = c + 1 → (∀ i, V1 t 0 i = V t 0 i) → (∀ j f, (alay c)[j]? = some f → f.1 = 1 → ∀ i, V1 t (j + 1) i = C j i) → (∀ j, (∀ f, (alay c)[j]? = some f → f.1 ≠ 1) → ∀ i, V1 t (j + 1) i = V t (j + 1) i) → (∀ b, b ≠ t → T b ≠ 0 → ¬ (1000 ≤ T b ∧ T b < 1100) → T1 b = T b ∧ V1 b = V b) → Q T1 V1) : slQ T L V P t c Q := by
  obtain ⟨⟨h1, h1b, h1c⟩, h2, h3, h4, h5, h6⟩ := id h
  have all : ∀ j f, (alay c)[j]? = some f → f.1 = 1 → j ∈ S := fun j f q1 q2 => by
    have hj : j < (alay c).length := by
      obtain ⟨q, -⟩ := List.getElem?_eq_some_iff.mp q1
      exact q
    have q := List.all_eq_true.mp hS j (List.mem_range.mpr hj)
    rw [q1] at q
    have q2' : S.contains j = true := by
      dsimp only at q
      rw [q2] at q
      simpa using q
    exact List.contains_iff_mem.mp q2'
  refine ⟨⟨h5, fun j f q1 q2 => ?_⟩, fun T1 V1 e1 e2 => ?_⟩
  · obtain ⟨b1, b2', b3, b4, b5, -⟩ := h6 j f (all j f q1 q2) q1 q2
    exact ⟨b1, b2', b3, b4, b5⟩
  · subst e1 e2
    have keep : ∀ b, b ≠ t → ¬ (slJ c t b).isSome = true → slT T t c b = T b ∧ slV V t c b = V b := fun b hb hs => by
      refine ⟨?_, ?_⟩
      · unfold slT
        rw [if_neg hb, if_neg hs]
      · funext k i
        unfold slV
        rw [if_neg hb]
    refine kk _ _ ⟨fun a ha => ?_, h1b, fun a ha => ?_⟩ ?_ (fun i => ?_) (fun j f q1 q2 i => ?_) (fun j q2 i => ?_) (fun b hb h0 hn => ?_)
    · by_cases e : a = t
      · rw [e]; exact h1 t (by rw [h5]; omega)
      · by_cases hs : (slJ c t a).isSome = true
        · obtain ⟨j, f, -, -, -, q, -, -⟩ := slH_1000 h hS hs
          exact h1 a (by rw [q]; omega)
        · rw [(keep a e hs).1] at ha
          exact h1 a ha
    · have hat : a < t := h4 a ha
      have hs : ¬ (slJ c t a).isSome = true := fun hs => by
        obtain ⟨j, f, -, -, q, -, -, -⟩ := slH_1000 h hS hs
        omega
      obtain ⟨k1, k2⟩ := keep a (by omega) hs
      obtain ⟨a1, a2, a3, a4⟩ := h1c a ha
      exact ⟨k1.trans a1, a2, k2.trans a3, a4⟩
    · unfold slT; rw [if_pos rfl]
    · unfold slV; rw [if_pos rfl]
    · unfold slV
      rw [if_pos rfl]
      dsimp only
      rw [q1]
      dsimp only
      rw [if_pos q2]
      obtain ⟨-, -, -, -, -, q⟩ := h6 j f (all j f q1 q2) q1 q2
      rw [q]
    · unfold slV
      rw [if_pos rfl]
      dsimp only
      cases e : (alay c)[j]? with
      | none => rfl
      | some f => dsimp only; rw [if_neg (q2 f e)]
    · refine keep b hb (fun hs => ?_)
      obtain ⟨j, f, -, -, -, q, q2, -⟩ := slH_1000 h hS hs
      omega
end MK2
/-- the model's numbers at first -/
def cM0 : Nat → Nat → Int32 := fun j i => if j = 3 then (if i = 3 ∨ i = 10 then 10 else 0) else 0
def sgI : MS := fun k i => if k = 0 then (if i = 23 ∨ i = 40 ∨ i = 43 then -1 else 0) else cM0 (k - 1) i
/-- the model while it is being made: K the heap where its texts are -/
def m8 (t : Nat) (B K : hpT) (k z : Nat) (T L : Nat → Nat) (V : w_V) (P : w_P) (S : List Nat) (F : MS) (p0 p1 : Option Nat) : Prop := mkh cM0 0 t B k z T L V P S ∧ kfs t K.2.1 K.2.2.1 K.2.2.2.1 K.2.2.2.2 T L V P ∧ V t = F ∧ P t 0 = p0 ∧ P t 1 = p1
section M8
variable {t : Nat} {B K : hpT} {k z : Nat} {T L : Nat → Nat} {V : w_V} {P : w_P} {S : List Nat} {F : MS} {p0 p1 : Option Nat} {z1 : Nat} {T1 L1 : Nat → Nat} {V1 : w_V} {P1 : w_P}
theorem m8.ty (h : m8 t B K k z T L V P S F p0 p1) {o ty l : Nat} (hn : nwH o z T L V P ty l z1 T1 L1 V1 P1) : T1 t = 51 := ((ext.nw h.1.1.1 hn).1.2.2 t h.1.t0).1.trans h.1.2.2.2.2.1
theorem m8.arr (h : m8 t B K k z T L V P S F p0 p1) {o l j : Nat} {V2 : w_V} (hn : nwH o z T L V P (1000 + 0) l z1 T1 L1 V1 P1) (hf : (alay 0)[j]? = some (fA (1 + k) 0 l)) (hj : S.contains j = false) (h2 : 2 ≤ j) (hV2 : ∀ a, a ≠ o → V2 a = V1 a) (hC : V2 o 0 = cM0 j) : m8 t B K (k + 1) z1 T1 L1 V2 (up2 P1 t j (some o)) (j :: S) F p0 p1 := by
  obtain ⟨a1, a2, a3, a4, a5⟩ := h
  obtain ⟨b1, b2', b3⟩ := a1.arr hn (by decide) hf (fun q => by rw [List.contains_iff_mem.mpr q] at hj; cases hj) hV2 hC
  refine ⟨b1, a2.tr (fun a ha h0 _ => ?_), b2'.trans a3, by rw [b3 0 (by omega)]; exact a4, by rw [b3 1 (by omega)]; exact a5⟩
  obtain ⟨w1, w2, w3⟩ := mkg.arrk (t := t) (j := j) (x := some o) a1.1.1 hn a ha
  obtain ⟨-, n1, -⟩ := ext.nw a1.1.1 hn
  exact ⟨w1, w2, by rw [hV2 a (fun e => ha (by rw [e]; exact n1))]; exact (w3 h0).1, (w3 h0).2⟩
theorem m8.ar0 (h : m8 t B K k z T L V P S F p0 p1) {o l j : Nat} (hn : nwH o z T L V P (1000 + 0) l z1 T1 L1 V1 P1) (hf : (alay 0)[j]? = some (fA (1 + k) 0 l)) (hj : S.contains j = false) (h2 : 4 ≤ j) : m8 t B K (k + 1) z1 T1 L1 V1 (up2 P1 t j (some o)) (j :: S) F p0 p1 := by
  refine h.arr hn hf hj (by omega) (fun _ _ => rfl) ?_
  obtain ⟨-, -, -, -, n5, -⟩ := ext.nw h.1.1.1 hn
  rw [n5]
  funext i
  show 0 = cM0 j i
  unfold cM0
  rw [if_neg (by omega)]
theorem m8.fld (h : m8 t B K k z T L V P S F p0 p1) {i : Nat} {x : Int32} {V2 : w_V} (e : V2 = up3 V t 0 i x) : m8 t B K k z T L V2 P S (s2 F 0 i x) p0 p1 := by
  obtain ⟨a1, a2, a3, a4, a5⟩ := h
  refine ⟨a1.put (fun a ha => ⟨by rw [e, up3_n ha], rfl⟩) (fun _ _ => rfl), a2.tr (fun a _ h0 _ => ⟨rfl, rfl, by rw [e, up3_n h0], rfl⟩), by rw [e, up3_a, a3], a4, a5⟩
/-- a row of texts -/
theorem strs_p {E : w_E} {T L : Nat → Nat} {P P' : w_P} {a : Nat} {txs : List (List Nat)} (h1 : T a = 2005) (h2 : L a = txs.length) (h3 : txs.length < 1000) (h : ∀ i, i < txs.length → ∃ b, P' a i = some b ∧ isStr E b (txs.getD i [])) : strs E T L P' a txs := ⟨h1, h2, h3, h⟩
end M8
section I8
variable {E : w_E} {z : Nat} {T L : Nat → Nat} {V : w_V} {P : w_P} {z1 : Nat} {T1 L1 : Nat → Nat} {V1 : w_V} {P1 : w_P}
theorem new8 (hf : frs z T) {t U : Nat} (hn : nwH t z T L V P 51 0 z1 T1 L1 V1 P1) (hU : 500 ≤ U) {post : Nat → (Nat → Nat) → (Nat → Nat) → w_V → w_P → Prop}
    (kk : ∀ (z' : Nat) (T' L' : Nat → Nat) (V' : w_V) (P' : w_P), ext z T L V P z' T' L' V' P' → mOk E T' L' P' t → V' t = sgI → post z' T' L' V' P') : wFX8_init E U z1 T1 L1 V1 P1 t post := by
  obtain ⟨m0, eo, v0, p0⟩ := mkh.b (C := cM0) (c := 0) hf hn
  have ez : z1 = z + 1 := hn.2.1
  subst eo
  unfold wFX8_init
  refine ⟨U - 1, by omega, fun o1 y1 Sx1 Kx1 Wx1 Qx1 n1 => ?_⟩
  obtain ⟨x1, c1, d1, l1, -, -⟩ := ext.nw m0.1.1 n1
  obtain ⟨g1, gv1, gp1⟩ := m0.grow x1 (k1 := 1) (by have := n1.2.1; have := m0.2.1; omega)
  have ne1 : o1 ≠ t := fun e => by rw [e, m0.2.2.2.2.1] at c1; cases c1
  refine ⟨g1.2.2.2.2.1, ?_⟩
  intro s10 h10 _
  refine ⟨0, by rw [l1]; decide, by rw [l1]; decide, rfl, fun R10 r10 => ?_⟩
  intro s11 h11 _
  refine ⟨1, by rw [l1]; decide, by rw [l1]; decide, rfl, fun R11 r11 => ?_⟩
  intro s12 h12 _
  refine ⟨2, by rw [l1]; decide, by rw [l1]; decide, rfl, fun R12 r12 => ?_⟩
  intro R1 r1
  have st1 : R1 t 0 = some o1 ∧ (∀ b, b ≠ t → b ≠ o1 → R1 b = Qx1 b) ∧ (∀ j, j ≠ 0 → R1 t j = Qx1 t j) ∧ R1 o1 = R12 o1 := by
    refine ⟨by rw [r1, up2_a, if_pos rfl], fun b h1 h2 => ?_, fun j hj => ?_, by rw [r1, up2_n ne1]⟩
    · rw [r1, up2_n h1, r12, up2_n h2, r11, up2_n h2, r10, up2_n h2]
    · rw [r1, up2_a, if_neg hj, r12, up2_n ne1.symm, r11, up2_n ne1.symm, r10, up2_n ne1.symm]
  have el10 : R12 o1 0 = some s10 := by rw [r12, up2_a, if_neg (by decide), r11, up2_a, if_neg (by decide), r10, up2_a, if_pos rfl]
  have el11 : R12 o1 1 = some s11 := by rw [r12, up2_a, if_neg (by decide), r11, up2_a, if_pos rfl]
  have el12 : R12 o1 2 = some s12 := by rw [r12, up2_a, if_pos rfl]
  have G1 : mkh cM0 0 t (t, T, L, V, P) 1 y1 Sx1 Kx1 Wx1 R1 [] := by
    obtain ⟨q1, q2, q3, q4, q5, -⟩ := g1
    refine ⟨⟨q1.1, q1.2.1, fun b hb => ?_⟩, q2, q3, q4, q5, fun j f hj => absurd hj List.not_mem_nil⟩
    obtain ⟨w1, w2, w3, w4⟩ := q1.2.2 b hb
    exact ⟨w1, w2, w3, by rw [st1.2.1 b (fun e => hb (by rw [e]; exact hf.z0 (Nat.le_refl _))) (fun e => hb (by rw [e]; exact hf.z0 (by have := n1.1; have := m0.2.1; omega)))]; exact w4⟩
  refine ⟨U - 2, by omega, fun o2 y2 Sx2 Kx2 Wx2 Qx2 n2 => ?_⟩
  obtain ⟨x2, c2, d2, l2, -, -⟩ := ext.nw G1.1.1 n2
  obtain ⟨g2, gv2, gp2⟩ := G1.grow x2 (k1 := 2) (by have := n2.2.1; have := G1.2.1; omega)
  have ne2 : o2 ≠ t := fun e => by rw [e, G1.2.2.2.2.1] at c2; cases c2
  refine ⟨g2.2.2.2.2.1, ?_⟩
  intro s20 h20 _
  refine ⟨0, by rw [l2]; decide, by rw [l2]; decide, rfl, fun R20 r20 => ?_⟩
  intro s21 h21 _
  refine ⟨1, by rw [l2]; decide, by rw [l2]; decide, rfl, fun R21 r21 => ?_⟩
  intro s22 h22 _
  refine ⟨2, by rw [l2]; decide, by rw [l2]; decide, rfl, fun R22 r22 => ?_⟩
  intro s23 h23 _
  refine ⟨3, by rw [l2]; decide, by rw [l2]; decide, rfl, fun R23 r23 => ?_⟩
  intro s24 h24 _
  refine ⟨4, by rw [l2]; decide, by rw [l2]; decide, rfl, fun R24 r24 => ?_⟩
  intro R2 r2
  have st2 : R2 t 1 = some o2 ∧ (∀ b, b ≠ t → b ≠ o2 → R2 b = Qx2 b) ∧ (∀ j, j ≠ 1 → R2 t j = Qx2 t j) ∧ R2 o2 = R24 o2 := by
    refine ⟨by rw [r2, up2_a, if_pos rfl], fun b h1 h2 => ?_, fun j hj => ?_, by rw [r2, up2_n ne2]⟩
    · rw [r2, up2_n h1, r24, up2_n h2, r23, up2_n h2, r22, up2_n h2, r21, up2_n h2, r20, up2_n h2]
    · rw [r2, up2_a, if_neg hj, r24, up2_n ne2.symm, r23, up2_n ne2.symm, r22, up2_n ne2.symm, r21, up2_n ne2.symm, r20, up2_n ne2.symm]
  have el20 : R24 o2 0 = some s20 := by rw [r24, up2_a, if_neg (by decide), r23, up2_a, if_neg (by decide), r22, up2_a, if_neg (by decide), r21, up2_a, if_neg (by decide), r20, up2_a, if_pos rfl]
  have el21 : R24 o2 1 = some s21 := by rw [r24, up2_a, if_neg (by decide), r23, up2_a, if_neg (by decide), r22, up2_a, if_neg (by decide), r21, up2_a, if_pos rfl]
  have el22 : R24 o2 2 = some s22 := by rw [r24, up2_a, if_neg (by decide), r23, up2_a, if_neg (by decide), r22, up2_a, if_pos rfl]
  have el23 : R24 o2 3 = some s23 := by rw [r24, up2_a, if_neg (by decide), r23, up2_a, if_pos rfl]
  have el24 : R24 o2 4 = some s24 := by rw [r24, up2_a, if_pos rfl]
  have G2 : mkh cM0 0 t (t, T, L, V, P) 2 y2 Sx2 Kx2 Wx2 R2 [] := by
    obtain ⟨q1, q2, q3, q4, q5, -⟩ := g2
    refine ⟨⟨q1.1, q1.2.1, fun b hb => ?_⟩, q2, q3, q4, q5, fun j f hj => absurd hj List.not_mem_nil⟩
    obtain ⟨w1, w2, w3, w4⟩ := q1.2.2 b hb
    exact ⟨w1, w2, w3, by rw [st2.2.1 b (fun e => hb (by rw [e]; exact hf.z0 (Nat.le_refl _))) (fun e => hb (by rw [e]; exact hf.z0 (by have := n2.1; have := G1.2.1; omega)))]; exact w4⟩
  have k2 : Sx2 o1 = 2005 ∧ Kx2 o1 = 3 ∧ R2 o1 = R1 o1 := by
    obtain ⟨w1, w2, w3, w4⟩ := x2.2.2 o1 (ne0 d1)
    have h12 : o1 ≠ o2 := fun e => by rw [e] at d1; rw [c2] at d1; cases d1
    exact ⟨w1.trans d1, w2.trans l1, by rw [st2.2.1 o1 ne1 h12]; exact w4⟩
  have M0 : m8 t (t, T, L, V, P) (y2, Sx2, Kx2, Wx2, R2) 2 y2 Sx2 Kx2 Wx2 R2 [] (fun _ _ => 0) (some o1) (some o2) := by
    refine ⟨G2, kfs.of (xt.rf _ _ _ _), by rw [gv2, gv1, v0], ?_, st2.1⟩
    rw [st2.2.2.1 0 (by decide), gp2]; exact st1.1
  refine ⟨U - 3, by omega, fun a1 b1 C1 D1 E1 F1 j1 => ⟨M0.ty j1, ?_⟩⟩
  intro u0 w0 u1 w1 u2 w2 u3 w3 u4 w4 u5 w5 u6 w6 u7 w7 u8 w8 u9 w9 u10 w10 u11 w11 u12 w12 u13 w13
  have wk : ∀ b, b ≠ a1 → u13 b = E1 b := fun b hb => by rw [w13, up3_n hb, w12, up3_n hb, w11, up3_n hb, w10, up3_n hb, w9, up3_n hb, w8, up3_n hb, w7, up3_n hb, w6, up3_n hb, w5, up3_n hb, w4, up3_n hb, w3, up3_n hb, w2, up3_n hb, w1, up3_n hb, w0, up3_n hb]
  have wv : u13 a1 0 = cM0 3 := by
    obtain ⟨-, -, -, -, n5, -⟩ := ext.nw M0.1.1.1 j1
    rw [w13, up3_a, w12, up3_a, w11, up3_a, w10, up3_a, w9, up3_a, w8, up3_a, w7, up3_a, w6, up3_a, w5, up3_a, w4, up3_a, w3, up3_a, w2, up3_a, w1, up3_a, w0, up3_a, n5]
    funext i
    by_cases h3 : i = 3
    · subst h3; rfl
    · by_cases h10 : i = 10
      · subst h10; rfl
      · simp [s2, cM0, h3, h10]
  intro P10 e10
  subst e10
  have M1 := M0.arr (j := 3) j1 rfl rfl (by decide) wk wv
  refine ⟨U - 9, by omega, fun a2 b2 C2 D2 E2 F2 j2 => ⟨M1.ty j2, ?_⟩⟩
  intro P11 e11
  subst e11
  have M2 := M1.ar0 (j := 4) j2 rfl rfl (by decide)
  refine ⟨U - 10, by omega, fun a3 b3 C3 D3 E3 F3 j3 => ⟨M2.ty j3, ?_⟩⟩
  intro P12 e12
  subst e12
  have M3 := M2.ar0 (j := 5) j3 rfl rfl (by decide)
  refine ⟨U - 11, by omega, fun a4 b4 C4 D4 E4 F4 j4 => ⟨M3.ty j4, ?_⟩⟩
  intro P13 e13
  subst e13
  have M4 := M3.ar0 (j := 6) j4 rfl rfl (by decide)
  refine ⟨U - 12, by omega, fun a5 b5 C5 D5 E5 F5 j5 => ⟨M4.ty j5, ?_⟩⟩
  intro P14 e14
  subst e14
  have M5 := M4.ar0 (j := 7) j5 rfl rfl (by decide)
  refine ⟨U - 13, by omega, fun a6 b6 C6 D6 E6 F6 j6 => ⟨M5.ty j6, ?_⟩⟩
  intro P15 e15
  subst e15
  have M6 := M5.ar0 (j := 8) j6 rfl rfl (by decide)
  refine ⟨U - 16, by omega, fun a7 b7 C7 D7 E7 F7 j7 => ⟨M6.ty j7, ?_⟩⟩
  intro P16 e16
  subst e16
  have M7 := M6.ar0 (j := 9) j7 rfl rfl (by decide)
  refine ⟨U - 20, by omega, fun a8 b8 C8 D8 E8 F8 j8 => ⟨M7.ty j8, ?_⟩⟩
  intro P17 e17
  subst e17
  have M8 := M7.ar0 (j := 10) j8 rfl rfl (by decide)
  refine ⟨U - 58, by omega, fun a9 b9 C9 D9 E9 F9 j9 => ⟨M8.ty j9, ?_⟩⟩
  intro P18 e18
  subst e18
  have M9 := M8.ar0 (j := 11) j9 rfl rfl (by decide)
  refine ⟨U - 59, by omega, fun a10 b10 C10 D10 E10 F10 j10 => ⟨M9.ty j10, ?_⟩⟩
  intro P19 e19
  subst e19
  have M10 := M9.ar0 (j := 12) j10 rfl rfl (by decide)
  refine ⟨U - 78, by omega, fun a11 b11 C11 D11 E11 F11 j11 => ⟨M10.ty j11, ?_⟩⟩
  intro P20 e20
  subst e20
  have M11 := M10.ar0 (j := 13) j11 rfl rfl (by decide)
  intro f11 g11
  have M12 := M11.fld g11
  refine ⟨U - 81, by omega, fun a12 b12 C12 D12 E12 F12 j12 => ⟨M12.ty j12, ?_⟩⟩
  intro P21 e21
  subst e21
  have M13 := M12.ar0 (j := 24) j12 rfl rfl (by decide)
  refine ⟨U - 82, by omega, fun a13 b13 C13 D13 E13 F13 j13 => ⟨M13.ty j13, ?_⟩⟩
  intro P22 e22
  subst e22
  have M14 := M13.ar0 (j := 25) j13 rfl rfl (by decide)
  refine ⟨U - 83, by omega, fun a14 b14 C14 D14 E14 F14 j14 => ⟨M14.ty j14, ?_⟩⟩
  intro P23 e23
  subst e23
  have M15 := M14.ar0 (j := 26) j14 rfl rfl (by decide)
  refine ⟨U - 84, by omega, fun a15 b15 C15 D15 E15 F15 j15 => ⟨M15.ty j15, ?_⟩⟩
  intro P24 e24
  subst e24
  have M16 := M15.ar0 (j := 27) j15 rfl rfl (by decide)
  refine ⟨U - 141, by omega, fun a16 b16 C16 D16 E16 F16 j16 => ⟨M16.ty j16, ?_⟩⟩
  intro P25 e25
  subst e25
  have M17 := M16.ar0 (j := 28) j16 rfl rfl (by decide)
  refine ⟨U - 142, by omega, fun a17 b17 C17 D17 E17 F17 j17 => ⟨M17.ty j17, ?_⟩⟩
  intro P26 e26
  subst e26
  have M18 := M17.ar0 (j := 35) j17 rfl rfl (by decide)
  refine ⟨U - 144, by omega, fun a18 b18 C18 D18 E18 F18 j18 => ⟨M18.ty j18, ?_⟩⟩
  intro P27 e27
  subst e27
  have M19 := M18.ar0 (j := 36) j18 rfl rfl (by decide)
  refine ⟨U - 146, by omega, fun a19 b19 C19 D19 E19 F19 j19 => ⟨M19.ty j19, ?_⟩⟩
  intro P28 e28
  subst e28
  have M20 := M19.ar0 (j := 37) j19 rfl rfl (by decide)
  refine ⟨U - 148, by omega, fun a20 b20 C20 D20 E20 F20 j20 => ⟨M20.ty j20, ?_⟩⟩
  intro P29 e29
  subst e29
  have M21 := M20.ar0 (j := 38) j20 rfl rfl (by decide)
  refine ⟨U - 149, by omega, fun a21 b21 C21 D21 E21 F21 j21 => ⟨M21.ty j21, ?_⟩⟩
  intro P30 e30
  subst e30
  have M22 := M21.ar0 (j := 39) j21 rfl rfl (by decide)
  intro f22 g22
  have M23 := M22.fld g22
  intro f23 g23
  have M24 := M23.fld g23
  refine ⟨U - 150, by omega, fun a22 b22 C22 D22 E22 F22 j22 => ⟨M24.ty j22, ?_⟩⟩
  intro P31 e31
  subst e31
  have M25 := M24.ar0 (j := 44) j22 rfl rfl (by decide)
  refine ⟨U - 151, by omega, fun a23 b23 C23 D23 E23 F23 j23 => ⟨M25.ty j23, ?_⟩⟩
  intro P32 e32
  subst e32
  have M26 := M25.ar0 (j := 45) j23 rfl rfl (by decide)
  refine ⟨U - 152, by omega, fun a24 b24 C24 D24 E24 F24 j24 => ⟨M26.ty j24, ?_⟩⟩
  intro P33 e33
  subst e33
  have M27 := M26.ar0 (j := 46) j24 rfl rfl (by decide)
  refine ⟨U - 153, by omega, fun a25 b25 C25 D25 E25 F25 j25 => ⟨M27.ty j25, ?_⟩⟩
  intro P34 e34
  subst e34
  have M28 := M27.ar0 (j := 47) j25 rfl rfl (by decide)
  refine ⟨U - 154, by omega, fun a26 b26 C26 D26 E26 F26 j26 => ⟨M28.ty j26, ?_⟩⟩
  intro P35 e35
  subst e35
  have M29 := M28.ar0 (j := 48) j26 rfl rfl (by decide)
  refine ⟨U - 155, by omega, fun a27 b27 C27 D27 E27 F27 j27 => ⟨M29.ty j27, ?_⟩⟩
  intro P36 e36
  subst e36
  have M30 := M29.ar0 (j := 49) j27 rfl rfl (by decide)
  refine ⟨U - 156, by omega, fun a28 b28 C28 D28 E28 F28 j28 => ⟨M30.ty j28, ?_⟩⟩
  intro P37 e37
  subst e37
  have M31 := M30.ar0 (j := 50) j28 rfl rfl (by decide)
  refine ⟨U - 157, by omega, fun a29 b29 C29 D29 E29 F29 j29 => ⟨M31.ty j29, ?_⟩⟩
  intro P38 e38
  subst e38
  have M32 := M31.ar0 (j := 51) j29 rfl rfl (by decide)
  refine ⟨U - 158, by omega, fun a30 b30 C30 D30 E30 F30 j30 => ⟨M32.ty j30, ?_⟩⟩
  intro P39 e39
  subst e39
  have M33 := M32.ar0 (j := 52) j30 rfl rfl (by decide)
  refine ⟨U - 160, by omega, fun a31 b31 C31 D31 E31 F31 j31 => ⟨M33.ty j31, ?_⟩⟩
  intro P40 e40
  subst e40
  have M34 := M33.ar0 (j := 57) j31 rfl rfl (by decide)
  refine ⟨U - 217, by omega, fun a32 b32 C32 D32 E32 F32 j32 => ⟨M34.ty j32, ?_⟩⟩
  intro P41 e41
  subst e41
  have M35 := M34.ar0 (j := 58) j32 rfl rfl (by decide)
  refine ⟨U - 218, by omega, fun a33 b33 C33 D33 E33 F33 j33 => ⟨M35.ty j33, ?_⟩⟩
  intro P42 e42
  subst e42
  have M36 := M35.ar0 (j := 59) j33 rfl rfl (by decide)
  refine ⟨U - 219, by omega, fun a34 b34 C34 D34 E34 F34 j34 => ⟨M36.ty j34, ?_⟩⟩
  intro P43 e43
  subst e43
  have M37 := M36.ar0 (j := 60) j34 rfl rfl (by decide)
  refine ⟨U - 220, by omega, fun a35 b35 C35 D35 E35 F35 j35 => ⟨M37.ty j35, ?_⟩⟩
  intro P44 e44
  subst e44
  have M38 := M37.ar0 (j := 61) j35 rfl rfl (by decide)
  refine ⟨U - 221, by omega, fun a36 b36 C36 D36 E36 F36 j36 => ⟨M38.ty j36, ?_⟩⟩
  intro P45 e45
  subst e45
  have M39 := M38.ar0 (j := 62) j36 rfl rfl (by decide)
  obtain ⟨H1, H2, H3, H4, H5⟩ := M39
  refine H1.seal (by decide) (fun T9 V9 s1 s2 s3 s4 s5 s6 => ?_)
  obtain ⟨k21, k22, k23⟩ := k2
  obtain ⟨a1, a2, -, a4⟩ := H2.at k21 (by decide) ne1
  obtain ⟨b1, b2', -, b4⟩ := H2.at d2 (by decide) ne2
  obtain ⟨z1', -⟩ := s6 o1 ne1 (by rw [a1]; exact ne0 k21) (by rw [a1]; show ¬ (1000 ≤ Sx2 o1 ∧ Sx2 o1 < 1100); rw [k21]; decide)
  obtain ⟨z2', -⟩ := s6 o2 ne2 (by rw [b1]; exact ne0 d2) (by rw [b1]; show ¬ (1000 ≤ Sx2 o2 ∧ Sx2 o2 < 1100); rw [d2]; decide)
  refine kk _ _ _ _ _ s1 ⟨s2, ⟨o1, H4, ⟨(z1'.trans a1).trans k21, a2.trans k22, by decide, fun i hi => ?_⟩⟩, o2, H5, ⟨(z2'.trans b1).trans d2, b2'.trans l2, by decide, fun i hi => ?_⟩⟩ ?_
  · rw [a4]
    show ∃ b, R2 o1 i = some b ∧ _
    rw [k23, st1.2.2.2]
    have hi' : i < 3 := hi
    have : i = 0 ∨ i = 1 ∨ i = 2 := by omega
    rcases this with e | e | e <;> subst e
    · exact ⟨_, el10, h10⟩
    · exact ⟨_, el11, h11⟩
    · exact ⟨_, el12, h12⟩
  · rw [b4]
    show ∃ b, R2 o2 i = some b ∧ _
    rw [st2.2.2.2]
    have hi' : i < 5 := hi
    have : i = 0 ∨ i = 1 ∨ i = 2 ∨ i = 3 ∨ i = 4 := by omega
    rcases this with e | e | e | e | e <;> subst e
    · exact ⟨_, el20, h20⟩
    · exact ⟨_, el21, h21⟩
    · exact ⟨_, el22, h22⟩
    · exact ⟨_, el23, h23⟩
    · exact ⟨_, el24, h24⟩
  · funext k i
    cases k with
    | zero =>
      rw [s3, H3]
      by_cases h23' : i = 23
      · subst h23'; rfl
      · by_cases h40 : i = 40
        · subst h40; rfl
        · by_cases h43 : i = 43
          · subst h43; rfl
          · rw [s2_i h43, s2_i h40, s2_i h23']
            show 0 = if i = 23 ∨ i = 40 ∨ i = 43 then _ else _
            rw [if_neg (by omega)]
    | succ j =>
      show _ = cM0 j i
      by_cases q : ∃ f, (alay 0)[j]? = some f ∧ f.1 = 1
      · obtain ⟨f, q1, q2⟩ := q
        exact s4 j f q1 q2 i
      · rw [s5 j (fun f q1 q2 => q ⟨f, q1, q2⟩), H3, s2_k (by omega), s2_k (by omega), s2_k (by omega)]
        unfold cM0
        by_cases h3 : j = 3
        · subst h3
          exact absurd ⟨_, rfl, rfl⟩ q
        · rw [if_neg h3]
end I8
