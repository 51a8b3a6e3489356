/-! PURE: a new object with its own arrays -/
set_option maxRecDepth 100000
abbrev hpT : Type := Nat × (Nat → Nat) × (Nat → Nat) × w_V × w_P
/-- the object of the class c at t is being made: k cells after it are taken, the own arrays in the slots S are there -/
def mkg (c t : Nat) (B : hpT) (k z : Nat) (T L : Nat → Nat) (V : w_V) (P : w_P) (S : List Nat) : Prop :=
  ext B.1 B.2.1 B.2.2.1 B.2.2.2.1 B.2.2.2.2 z T L V P ∧ z = t + 1 + k ∧ B.1 = t ∧ frs t B.2.1 ∧ T t = 50 + c + 1 ∧ ∀ j f, j ∈ S → (alay c)[j]? = some f → f.1 = 1 → f.2.1 ≠ 0 ∧ f.2.2.1 < 100 ∧ P t j = some (t + f.2.1) ∧ T (t + f.2.1) = 1000 + f.2.2.1 ∧ L (t + f.2.1) = f.2.2.2 ∧ V (t + f.2.1) 0 = fun _ => 0
def mkS (c : Nat) (S : List Nat) : Bool := (List.range (alay c).length).all fun j => match (alay c)[j]? with
  | some f => f.1 != 1 || S.contains j
  | none => true
section MK
variable {c t : Nat} {B : hpT} {k z : Nat} {T L : Nat → Nat} {V : w_V} {P : w_P} {S : List Nat} {z1 : Nat} {T1 L1 : Nat → Nat} {V1 : w_V} {P1 : w_P}
theorem frs.z0 (h : frs z T) {a : Nat} (ha : z ≤ a) : T a = 0 := by
  cases e : T a with
  | zero => rfl
  | succ m => have := h a (by rw [e]; omega); omega
/-- the object itself -/
theorem mkg.b (hf : frs z T) {o : Nat} (h : nwH o z T L V P (50 + c + 1) 0 z1 T1 L1 V1 P1) : mkg c o (z, T, L, V, P) 0 z1 T1 L1 V1 P1 [] ∧ o = z ∧ (V1 o = fun _ _ => 0) ∧ (P1 o = fun _ => none) := by
  obtain ⟨h1, h2, h3, h4, h5, h6⟩ := ext.nw hf h
  have e := h.1
  have e1 : z1 = z + 1 := h.2.1
  subst e
  exact ⟨⟨h1, e1, rfl, hf, h3, fun j f hj => absurd hj List.not_mem_nil⟩, rfl, h5, h6⟩
theorem mkg.t0 (h : mkg c t B k z T L V P S) : T t ≠ 0 := by rw [h.2.2.2.2.1]; omega
theorem mkg.bt (h : mkg c t B k z T L V P S) {a : Nat} (ha : t ≤ a) : B.2.1 a = 0 := h.2.2.2.1.z0 ha
/-- other things are made -/
theorem mkg.grow (h : mkg c t B k z T L V P S) (he : ext z T L V P z1 T1 L1 V1 P1) {k1 : Nat} (hz : z1 = t + 1 + k1) : mkg c t B k1 z1 T1 L1 V1 P1 S ∧ V1 t = V t ∧ P1 t = P t := by
  obtain ⟨h1, h2, h3, h4, h5, h6⟩ := h
  obtain ⟨a1, a2, a3, a4⟩ := he.2.2 t (by rw [h5]; omega)
  refine ⟨⟨h1.tr he, hz, h3, h4, a1.trans h5, fun j f hj hf hk => ?_⟩, a3, a4⟩
  obtain ⟨b1, b2', b3, b4, b5, b6⟩ := h6 j f hj hf hk
  obtain ⟨c1, c2, c3, c4⟩ := he.2.2 (t + f.2.1) (by rw [b4]; omega)
  exact ⟨b1, b2', by rw [a4]; exact b3, c1.trans b4, c2.trans b5, by rw [c3]; exact b6⟩
/-- the object's fields are written -/
theorem mkg.put (h : mkg c t B k z T L V P S) (hV : ∀ a, a ≠ t → V1 a = V a ∧ P1 a = P a) (hP : ∀ j, j ∈ S → P1 t j = P t j) : mkg c t B k z T L V1 P1 S := by
  obtain ⟨h1, h2, h3, h4, h5, h6⟩ := h
  refine ⟨h1.put (h4.z0 (Nat.le_refl _)) hV, h2, h3, h4, h5, fun j f hj hf hk => ?_⟩
  obtain ⟨b1, b2', b3, b4, b5, b6⟩ := h6 j f hj hf hk
  exact ⟨b1, b2', by rw [hP j hj]; exact b3, b4, b5, by rw [(hV _ (by omega)).1]; exact b6⟩
/-- an own array is made, and its reference put -/
theorem mkg.arr (h : mkg c t B k z T L V P S) {o ty l j : Nat} (hn : nwH o z T L V P (1000 + ty) l z1 T1 L1 V1 P1) (hty : ty < 100) (hf : (alay c)[j]? = some (fA (1 + k) ty l)) (hj : ¬ j ∈ S) : mkg c t B (k + 1) z1 T1 L1 V1 (up2 P1 t j (some o)) (j :: S) ∧ V1 t = V t ∧ (∀ i, i ≠ j → up2 P1 t j (some o) t i = P t i) := by
  obtain ⟨e1, n1, n2, n3, n4, n5⟩ := ext.nw h.1.1 hn
  have eo : o = z := hn.1
  have ez : z1 = z + 1 := hn.2.1
  have hz := h.2.1
  obtain ⟨m1, m2, m3⟩ := h.grow e1 (k1 := k + 1) (by omega)
  have m4 := m1.put (V1 := V1) (P1 := up2 P1 t j (some o)) (fun a ha => ⟨rfl, up2_n ha⟩) (fun i hi => by
    rw [up2_a, if_neg (fun e => hj (by rw [← e]; exact hi))])
  refine ⟨⟨m4.1, m4.2.1, m4.2.2.1, m4.2.2.2.1, m4.2.2.2.2.1, fun i f hi hf' hk => ?_⟩, m2, fun i hi => by rw [up2_a, if_neg hi, m3]⟩
  rcases List.mem_cons.mp hi with e | hi
  · subst e
    rw [hf] at hf'
    have ef : fA (1 + k) ty l = f := by injection hf'
    subst ef
    have eo2 : o = t + (1 + k) := by omega
    refine ⟨by show 1 + k ≠ 0; omega, hty, ?_, ?_, ?_, ?_⟩
    · rw [up2_a, if_pos rfl]; show some o = some (t + (1 + k)); rw [eo2]
    · show T1 (t + (1 + k)) = 1000 + ty; rw [← eo2]; exact n2
    · show L1 (t + (1 + k)) = l; rw [← eo2]; exact n3
    · show V1 (t + (1 + k)) 0 = _; rw [← eo2, n4]
  · exact m4.2.2.2.2.2 i f hi hf' hk
theorem slJ_1000 (h : mkg c t B k z T L V P S) (hS : mkS c S = true) {b : Nat} (hb : (slJ c t b).isSome = true) : ∃ (j : Nat) (f : w_fk), (alay c)[j]? = some f ∧ f.1 = 1 ∧ b = t + f.2.1 ∧ T b = 1000 + f.2.2.1 ∧ f.2.2.1 < 100 ∧ f.2.1 ≠ 0 := by
  obtain ⟨j, f, h1, h2, h3⟩ := slJ_some hb
  have hj : j < (alay c).length := by
    obtain ⟨q, -⟩ := List.getElem?_eq_some_iff.mp h1
    exact q
  have q := List.all_eq_true.mp hS j (List.mem_range.mpr hj)
  rw [h1] at q
  have q2 : S.contains j = true := by
    dsimp only at q
    rw [h2] at q
    simpa using q
  obtain ⟨b1, b2', b3, b4, b5, b6⟩ := h.2.2.2.2.2 j f (List.contains_iff_mem.mp q2) h1 h2
  exact ⟨j, f, h1, h2, h3, by rw [h3]; exact b4, b2', b1⟩
/-- the object is made one with its arrays -/
theorem mkg.seal (h : mkg c t B k z T L V P S) (hS : mkS c S = true) {Q : (Nat → Nat) → w_V → Prop}
    (kk : ∀ (T1 : Nat → Nat) (V1 : w_V), ext B.1 B.2.1 B.2.2.1 B.2.2.2.1 B.2.2.2.2 z T1 L V1 P → T1 t = c + 1 → (∀ i, V1 t 0 i = V t 0 i) → (∀ j f, (alay c)[j]? = some f → f.1 = 1 → ∀ i, V1 t (j + 1) i = 0) → (∀ j f, (alay c)[j]? = some f → f.1 ≠ 1 → ∀ i, V1 t (j + 1) i = V t (j + 1) i) → (∀ b, b ≠ t → T b ≠ 0 → ¬ (1000 ≤ T b ∧ T b < 1100) → T1 b = T b ∧ V1 b = V b) → Q T1 V1) : slQ T L V P t c Q := by
  obtain ⟨⟨h1, h1b, h1c⟩, h2, h3, h4, h5, h6⟩ := id h
  have all : ∀ j f, (alay c)[j]? = some f → f.1 = 1 → j ∈ S := fun j f q1 q2 => by
    have hj : j < (alay c).length := by
      obtain ⟨q, -⟩ := List.getElem?_eq_some_iff.mp q1
      exact q
    have q := List.all_eq_true.mp hS j (List.mem_range.mpr hj)
    rw [q1] at q
    have q2' : S.contains j = true := by
      dsimp only at q
      rw [q2] at q
      simpa using q
    exact List.contains_iff_mem.mp q2'
  refine ⟨⟨h5, fun j f q1 q2 => ?_⟩, fun T1 V1 e1 e2 => ?_⟩
  · obtain ⟨b1, b2', b3, b4, b5, -⟩ := h6 j f (all j f q1 q2) q1 q2
    exact ⟨b1, b2', b3, b4, b5⟩
  · subst e1 e2
    have keep : ∀ b, b ≠ t → ¬ (slJ c t b).isSome = true → slT T t c b = T b ∧ slV V t c b = V b := fun b hb hs => by
      refine ⟨?_, ?_⟩
      · unfold slT
        rw [if_neg hb, if_neg hs]
      · funext k i
        unfold slV
        rw [if_neg hb]
    refine kk _ _ ⟨fun a ha => ?_, h1b, fun a ha => ?_⟩ ?_ (fun i => ?_) (fun j f q1 q2 i => ?_) (fun j f q1 q2 i => ?_) (fun b hb h0 hn => ?_)
    · by_cases e : a = t
      · rw [e]; exact h1 t (by rw [h5]; omega)
      · by_cases hs : (slJ c t a).isSome = true
        · obtain ⟨j, f, -, -, -, q, -, -⟩ := slJ_1000 h hS hs
          exact h1 a (by rw [q]; omega)
        · rw [(keep a e hs).1] at ha
          exact h1 a ha
    · have hat : a < t := h4 a ha
      have hs : ¬ (slJ c t a).isSome = true := fun hs => by
        obtain ⟨j, f, -, -, q, -, -, -⟩ := slJ_1000 h hS hs
        omega
      obtain ⟨k1, k2⟩ := keep a (by omega) hs
      obtain ⟨a1, a2, a3, a4⟩ := h1c a ha
      exact ⟨k1.trans a1, a2, k2.trans a3, a4⟩
    · unfold slT; rw [if_pos rfl]
    · unfold slV; rw [if_pos rfl]
    · unfold slV
      rw [if_pos rfl]
      dsimp only
      rw [q1]
      dsimp only
      rw [if_pos q2]
      obtain ⟨-, -, -, -, -, q⟩ := h6 j f (all j f q1 q2) q1 q2
      rw [q]
    · unfold slV
      rw [if_pos rfl]
      dsimp only
      rw [q1]
      dsimp only
      rw [if_neg q2]
    · refine keep b hb (fun hs => ?_)
      obtain ⟨j, f, -, -, -, q, q2, -⟩ := slJ_1000 h hS hs
      omega
/-- a State -/
theorem new6 {ad : Nat → Nat} (hf : frs z T) {o U : Nat} (hn : nwH o z T L V P 56 0 z1 T1 L1 V1 P1) (hU : 4 ≤ U) {post : Nat → (Nat → Nat) → (Nat → Nat) → w_V → w_P → Prop}
    (kk : ∀ (T' L' : Nat → Nat) (V' : w_V) (P' : w_P), ext z T L V P (z + 5) T' L' V' P' → T' o = 6 → (∀ k i, k < 5 → V' o k i = 0) → post (z + 5) T' L' V' P') : wFX6_init ad U z1 T1 L1 V1 P1 o post := by
  obtain ⟨m0, eo, v0, p0⟩ := mkg.b (c := 5) hf hn
  have ez : z1 = z + 1 := hn.2.1
  unfold wFX6_init
  refine ⟨U - 1, by omega, fun o1 y1 T2 L2 V2 P2 n1 => ?_⟩
  obtain ⟨m1, v1, -⟩ := m0.arr (j := 0) n1 (by decide) rfl (by decide)
  refine ⟨m1.2.2.2.2.1, fun P3 e3 => ?_⟩
  subst e3
  refine ⟨U - 2, by omega, fun o2 y2 T3 L3 V3 P3 n2 => ?_⟩
  obtain ⟨m2, v2, -⟩ := m1.arr (j := 1) n2 (by decide) rfl (by decide)
  refine ⟨m2.2.2.2.2.1, fun P4 e4 => ?_⟩
  subst e4
  refine ⟨U - 3, by omega, fun o3 y3 T4 L4 V4 P4 n3 => ?_⟩
  obtain ⟨m3, v3, -⟩ := m2.arr (j := 2) n3 (by decide) rfl (by decide)
  refine ⟨m3.2.2.2.2.1, fun P5 e5 => ?_⟩
  subst e5
  refine ⟨U - 4, by omega, fun o4 y4 T5 L5 V5 P5 n4 => ?_⟩
  obtain ⟨m4, v4, -⟩ := m3.arr (j := 3) n4 (by decide) rfl (by decide)
  refine ⟨m4.2.2.2.2.1, fun P6 e6 => ?_⟩
  subst e6
  refine m4.seal (by decide) (fun T9 V9 x1 x2 x3 x4 x5 x6 => ?_)
  have ey : y4 = z + 5 := by have := m4.2.1; omega
  rw [ey] at x1 ⊢
  refine kk _ _ _ _ x1 x2 (fun k i hk => ?_)
  have hk' : k = 0 ∨ k = 1 ∨ k = 2 ∨ k = 3 ∨ k = 4 := by omega
  rcases hk' with e | e | e | e | e <;> subst e
  · rw [x3, v4, v3, v2, v1, v0]
  · exact x4 0 _ rfl rfl i
  · exact x4 1 _ rfl rfl i
  · exact x4 2 _ rfl rfl i
  · exact x4 3 _ rfl rfl i
end MK
