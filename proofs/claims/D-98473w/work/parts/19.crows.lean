/-! ROWS of what makes: a new cell at z; seal, an object and its own arrays made one -/
set_option maxRecDepth 100000
/-- the world with one cell more, of the kind t, l places -/
def nwW (z : Nat) (T L : Nat → Nat) (V : w_V) (P : w_P) (t l : Nat) (z1 : Nat) (T1 L1 : Nat → Nat) (V1 : w_V) (P1 : w_P) : Prop := z1 = z + 1 ∧ T1 = up1 T z t ∧ L1 = up1 L z l ∧ V1 = up1 V z (fun _ _ => 0) ∧ P1 = up1 P z (fun _ => none)
theorem wd.ext {E : w_E} {z : Nat} {T L : Nat → Nat} {V : w_V} {P : w_P} {H H1 : Heap} (h : wd E z T L V P H) {t l : Nat} {σ : Nat → Nat → Int32} {ρ : Nat → Option Nat} (hz : H1.size = z + 1) (ho : ∀ q : Nat, q < z → H1[q]? = H[q]?)
    (hO : ∀ c, t = c + 1 → c < 100 → va_at E.2.2.1 acl (z, .inr (acn c, o_fl (σ 0) ρ z 0 (alay c))) H1 ∧ ∀ (j : Nat) (f : w_fk), (alay c)[j]? = some f → f.1 ≠ 1)
    (hA : ∀ ty, t = 1000 + ty → ty < 100 → va_at E.2.2.1 acl (z, .inl (E.2.2.2.1 ty, l, .inl (σ 0))) H1)
    (hR : ∀ ty, t = 2000 + ty → ty < 100 → va_at E.2.2.1 acl (z, .inl (E.2.2.2.1 ty, l, .inr (.inr (.inr (.inr ρ))))) H1)
    (hL : t = 3003 → va_at E.2.2.1 acl (z, .inl (E.2.2.2.1 3, l, .inr (.inl (fun j => (σ 0 j).toInt64)))) H1) (ht : t < 10000) (hF : t = 4016 → fcell E z H1 := by intro ht; omega) : wd E (z + 1) (up1 T z t) (up1 L z l) (up1 V z σ) (up1 P z ρ) H1 := by
  obtain ⟨w1, w2, w3, w4, w5, w6, w7, w8, w9⟩ := h
  subst w1
  have hk : ∀ (q : Nat × va_E), va_at E.2.2.1 acl q H → va_at E.2.2.1 acl q H1 := fun q hq => va_at.kept hq (ho _ hq.lt)
  have hlt : ∀ (q : Nat × va_E), va_at E.2.2.1 acl q H → q.1 ≠ H.size := fun q hq e => Nat.lt_irrefl _ (by have := hq.lt; rw [e] at this; exact this)
  have hn : ∀ b, T b ≠ 0 → b ≠ H.size := fun b hb e => hb (w2 b (by omega))
  refine ⟨hz, fun a ha => ?_, by omega, fun a ha => ?_, fun a c ha hc => ?_, fun a ty ha hy => ?_, fun a ty ha hy => ?_, fun a ha => ?_, fun a ha => ?_⟩
  · rw [up1_n (by omega)]
    exact w2 a (by omega)
  · rw [up1_n (by omega)]
    exact w4 a ha
  · by_cases e : a = H.size
    · subst e
      rw [up1_s] at ha
      obtain ⟨g1, g2⟩ := hO c ha hc
      refine ⟨by rw [up1_s, up1_s]; exact g1, fun j f hj hf => absurd hf (g2 j f hj)⟩
    · rw [up1_n e] at ha
      obtain ⟨g1, g2⟩ := w5 a c ha hc
      rw [up1_n e, up1_n e]
      refine ⟨hk _ g1, fun j f hj hf => ?_⟩
      obtain ⟨r1, r2⟩ := g2 j f hj hf
      exact ⟨by rw [up1_n (hlt _ r2)]; exact r1, hk _ r2⟩
  · by_cases e : a = H.size
    · subst e
      rw [up1_s] at ha
      rw [up1_s, up1_s]
      exact hA ty ha hy
    · rw [up1_n e] at ha
      rw [up1_n e, up1_n e]
      exact hk _ (w6 a ty ha hy)
  · by_cases e : a = H.size
    · subst e
      rw [up1_s] at ha
      rw [up1_s, up1_s]
      exact hR ty ha hy
    · rw [up1_n e] at ha
      rw [up1_n e, up1_n e]
      exact hk _ (w7 a ty ha hy)
  · by_cases e : a = H.size
    · subst e
      rw [up1_s] at ha
      rw [up1_s, up1_s]
      exact hL ha
    · rw [up1_n e] at ha
      rw [up1_n e, up1_n e]
      exact hk _ (w8 a ha)
  · by_cases e : a = H.size
    · subst e
      rw [up1_s] at ha
      exact hF ha
    · rw [up1_n e] at ha
      exact (w9 a ha).kept (ho _ (w9 a ha).lt)
/-- the own array that lies at b, of the object at a with the layout c: its place -/
def slJ (c a b : Nat) : Option Nat := (alay c).findIdx? fun f => f.1 == 1 && a + f.2.1 == b
def slT (T : Nat → Nat) (a c : Nat) : Nat → Nat := fun b => if b = a then c + 1 else if (slJ c a b).isSome then 10000 + a else T b
def slV (V : w_V) (a c : Nat) : w_V := fun b k i => if b = a then (match k with
  | 0 => V a 0 i
  | j + 1 => (match (alay c)[j]? with
    | some f => if f.1 = 1 then V (a + f.2.1) 0 i else V a (j + 1) i
    | none => V a (j + 1) i)) else V b k i
/-- it may be sealed -/
def slOk (T L : Nat → Nat) (P : w_P) (a c : Nat) : Prop := T a = 50 + c + 1 ∧ ∀ (j : Nat) (f : w_fk), (alay c)[j]? = some f → f.1 = 1 → f.2.1 ≠ 0 ∧ f.2.2.1 < 100 ∧ P a j = some (a + f.2.1) ∧ T (a + f.2.1) = 1000 + f.2.2.1 ∧ L (a + f.2.1) = f.2.2.2
theorem slJ_some {c a b : Nat} (h : (slJ c a b).isSome = true) : ∃ (j : Nat) (f : w_fk), (alay c)[j]? = some f ∧ f.1 = 1 ∧ b = a + f.2.1 := by
  unfold slJ at h
  obtain ⟨x, hx, hp⟩ := List.any_eq_true.mp (by rw [List.findIdx?_isSome] at h; exact h)
  obtain ⟨j, hj⟩ := List.getElem?_of_mem hx
  simp only [Bool.and_eq_true, beq_iff_eq] at hp
  exact ⟨j, x, hj, hp.1, hp.2.symm⟩
theorem slJ_of {c a j : Nat} {f : w_fk} (hj : (alay c)[j]? = some f) (hf : f.1 = 1) : (slJ c a (a + f.2.1)).isSome = true := by
  unfold slJ
  rw [List.findIdx?_isSome]
  exact List.any_eq_true.mpr ⟨f, List.mem_of_getElem? hj, by simp [hf]⟩
theorem wd.seal {E : w_E} {z : Nat} {T L : Nat → Nat} {V : w_V} {P : w_P} {H : Heap} (h : wd E z T L V P H) {a c : Nat} (hs : slOk T L P a c) (hc : c < 50) (ho : alay (50 + c) = opn (alay c)) : wd E z (slT T a c) L (slV V a c) P H := by
  obtain ⟨w1, w2, w3, w4, w5, w6, w7, w8, w9⟩ := h
  obtain ⟨ht, hs⟩ := hs
  have ha0 : a < z := Nat.not_le.mp fun q => by have := w2 a q; omega
  have hoff : ∀ (j : Nat) (f : w_fk), (alay c)[j]? = some f → f.1 = 1 → a + f.2.1 < z := fun j f hj hf => Nat.not_le.mp fun q => by have := w2 _ q; have := (hs j f hj hf).2.2.2.1; omega
  have hcase : ∀ b, (b = a ∧ slT T a c b = c + 1) ∨ (b ≠ a ∧ (∃ (j : Nat) (f : w_fk), (alay c)[j]? = some f ∧ f.1 = 1 ∧ b = a + f.2.1) ∧ slT T a c b = 10000 + a) ∨ (b ≠ a ∧ (slJ c a b).isSome = false ∧ slT T a c b = T b) := by
    intro b
    by_cases e : b = a
    · exact Or.inl ⟨e, by unfold slT; rw [if_pos e]⟩
    · cases hj : (slJ c a b).isSome
      · exact Or.inr (Or.inr ⟨e, rfl, by unfold slT; rw [if_neg e, hj]; rfl⟩)
      · exact Or.inr (Or.inl ⟨e, slJ_some hj, by unfold slT; rw [if_neg e, hj]; rfl⟩)
  have hV : ∀ b, b ≠ a → slV V a c b = V b := fun b hb => by
    funext k i
    unfold slV
    rw [if_neg hb]
  have hac : acn (50 + c) = acn c := by
    unfold acn
    rw [if_neg (by omega), if_pos hc]
    omega
  refine ⟨w1, fun b hb => ?_, w3, fun b hb => ?_, fun b d hb hd => ?_, fun b ty hb hy => ?_, fun b ty hb hy => ?_, fun b hb => ?_, fun b hb => ?_⟩
  · rcases hcase b with ⟨e, -⟩ | ⟨-, ⟨j, f, hj, hf, e⟩, -⟩ | ⟨-, -, q⟩
    · omega
    · have := hoff j f hj hf
      omega
    · rw [q]
      exact w2 b hb
  · have hb2 : ∀ x, T x ≠ 0 → b ≠ x := fun x hx e => hx (by rw [← e]; exact w4 b hb)
    rcases hcase b with ⟨e, -⟩ | ⟨-, ⟨j, f, hj, hf, e⟩, -⟩ | ⟨-, -, q⟩
    · exact absurd e (hb2 a (by rw [ht]; omega))
    · exact absurd e (hb2 _ (by rw [(hs j f hj hf).2.2.2.1]; omega))
    · rw [q]
      exact w4 b hb
  · rcases hcase b with ⟨e, q⟩ | ⟨-, -, q⟩ | ⟨e, he, q⟩
    · subst e
      have ed : d = c := by omega
      subst ed
      obtain ⟨g1, -⟩ := w5 b (50 + d) ht (by omega)
      rw [hac, ho] at g1
      refine ⟨?_, fun j f hj hf => ?_⟩
      · have e2 : o_fl (V b 0) (P b) b 0 (opn (alay d)) = o_fl (slV V b d b 0) (P b) b 0 (alay d) := by
          apply List.ext_getElem?
          intro k
          cases hk : (alay d)[k]? with
          | none =>
            have hl : (alay d).length ≤ k := List.getElem?_eq_none_iff.mp hk
            rw [List.getElem?_eq_none (by rw [o_fl_len]; unfold opn; rw [List.length_map]; exact hl), List.getElem?_eq_none (by rw [o_fl_len]; exact hl)]
          | some f =>
            have hk2 : (opn (alay d))[k]? = some (if f.1 = 1 then fR else f) := by
              unfold opn
              rw [List.getElem?_map, hk]
              rfl
            rw [o_fl_get _ _ _ _ hk, o_fl_get _ _ _ _ hk2]
            have hv0 : slV V b d b 0 (0 + k) = V b 0 (0 + k) := by
              unfold slV
              rw [if_pos rfl]
            by_cases hf : f.1 = 1
            · rw [if_pos hf]
              have h3 := (hs k f hk hf).2.2.1
              unfold fl_val
              rw [hf]
              show some (va_rf (P b (0 + k))) = some (Value.ref (b + f.2.1))
              rw [Nat.zero_add, h3]
              rfl
            · rw [if_neg hf]
              unfold fl_val
              rw [hv0]
        rw [← e2]
        exact g1
      · obtain ⟨h0, h1, h3, h4, h5⟩ := hs j f hj hf
        have e1 : b + f.2.1 ≠ b := by omega
        refine ⟨?_, ?_⟩
        · rcases hcase (b + f.2.1) with ⟨e, -⟩ | ⟨-, -, q2⟩ | ⟨-, q2, -⟩
          · omega
          · exact q2
          · rw [slJ_of hj hf] at q2
            cases q2
        · have g2 := w6 (b + f.2.1) f.2.2.1 h4 h1
          rw [h5] at g2
          have e3 : slV V b d b (j + 1) = V (b + f.2.1) 0 := by
            funext i
            unfold slV
            rw [if_pos rfl]
            show (match (alay d)[j]? with
              | some f => if f.1 = 1 then V (b + f.2.1) 0 i else V b (j + 1) i
              | none => V b (j + 1) i) = _
            rw [hj]
            exact if_pos hf
          rw [e3]
          exact g2
    · omega
    · rw [q] at hb
      obtain ⟨g1, g2⟩ := w5 b d hb hd
      rw [hV b e]
      refine ⟨g1, fun j f hj hf => ?_⟩
      obtain ⟨r1, r2⟩ := g2 j f hj hf
      refine ⟨?_, r2⟩
      rcases hcase (b + f.2.1) with ⟨e1, -⟩ | ⟨-, ⟨j2, f2, hj2, hf2, e1⟩, -⟩ | ⟨-, -, q1⟩
      · rw [e1, ht] at r1
        omega
      · rw [e1, (hs j2 f2 hj2 hf2).2.2.2.1] at r1
        have := (hs j2 f2 hj2 hf2).2.1
        omega
      · rw [q1]
        exact r1
  · rcases hcase b with ⟨e, q⟩ | ⟨-, -, q⟩ | ⟨e, he, q⟩
    · omega
    · omega
    · rw [q] at hb
      rw [hV b e]
      exact w6 b ty hb hy
  · rcases hcase b with ⟨e, q⟩ | ⟨-, -, q⟩ | ⟨e, he, q⟩
    · omega
    · omega
    · rw [q] at hb
      exact w7 b ty hb hy
  · rcases hcase b with ⟨e, q⟩ | ⟨-, -, q⟩ | ⟨e, he, q⟩
    · omega
    · omega
    · rw [q] at hb
      rw [hV b e]
      exact w8 b hb
  · rcases hcase b with ⟨e, q⟩ | ⟨-, -, q⟩ | ⟨e, he, q⟩
    · omega
    · omega
    · rw [q] at hb
      exact w9 b hb
section GC
variable {X : Cx} {cc : ByteArray} {own : String} {nL : Nat} {ret : Option FieldType} {k n z : Nat} {T L : Nat → Nat} {V : w_V} {P : w_P} {pc : Nat} {lv : List (Option Value)} {st rest : List Value} {R0 : Room}
theorem gc_seal {a c : Nat} (hs : slOk T L P a c) (hc : c < 50) (ho : alay (50 + c) = opn (alay c)) (kk : ∀ T1 V1, T1 = slT T a c → V1 = slV V a c → gW X k n z T1 L V1 P pc lv st) : gW X k n z T L V P pc lv st :=
  fun H locs ls hw hS h => kk _ _ rfl rfl H locs ls (hw.seal hs hc ho) hS h
/-- a class's fields begin as its layout says -/
def dfOk (TT : u_T) (N lay : Nat) : Bool := decide ((alay lay).length = N) && (alay lay).all (fun f => f.1 != 1) && (List.range N).all fun j => match parseFieldDescriptor (TT j).2.2.1 with
  | some t => decide (defaultValue t = vp_V (o_fl (fun _ => 0) (fun _ => none) 0 0 (alay lay)) j)
  | none => false
theorem o_fl_na {V1 : Nat → Int32} {P1 : Nat → Option Nat} {a b : Nat} : ∀ (ly : List w_fk) (j : Nat), (∀ f ∈ ly, f.1 ≠ 1) → o_fl V1 P1 a j ly = o_fl V1 P1 b j ly
  | [], _, _ => rfl
  | g :: r, j, h => by
    have h1 : fl_val V1 P1 a j g = fl_val V1 P1 b j g := by
      unfold fl_val
      split
      · rfl
      · next e => exact absurd e (h g (List.mem_cons_self ..))
      · rfl
    show fl_val V1 P1 a j g :: o_fl V1 P1 a (j + 1) r = fl_val V1 P1 b j g :: o_fl V1 P1 b (j + 1) r
    rw [h1, o_fl_na r (j + 1) (fun f hf => h f (List.mem_cons_of_mem _ hf))]
theorem gc_new (O : Okc X cc own nL ret) (hRm : cxR X = R0) {ci lay idx N u U : Nat} {C : String} {TT : u_T} (hck : ckOk ci C TT N) (hl : lay < 100) (hci : acn lay = ci) (hdf : dfOk TT N lay = true) (qc : Cond.classLink own idx C ∈ lw_all) (qi : Cond.instantiable C N ∈ lw_all) (qn : Cond.initialized C ∈ lw_all) (hk : kOk R0 k n (u + U)) (hu : 1 ≤ u) (hN : N ≤ 32 * u) (d : decode cc pc = .ok (.new idx, 3))
    (kk : ∀ (z1 : Nat) (T1 L1 : Nat → Nat) (V1 : w_V) (P1 : w_P), kOk R0 (k + 1) (n + N) U → nwW z T L V P (lay + 1) 0 z1 T1 L1 V1 P1 → gW X (k + 1) (n + N) z1 T1 L1 V1 P1 (pc + 3) lv (.ref z :: st)) : gW X k n z T L V P pc lv st := by
  intro H locs ls hw hS h
  have hz := hw.1
  subst hz
  unfold dfOk at hdf
  simp only [Bool.and_eq_true, decide_eq_true_eq, List.all_eq_true, List.mem_range] at hdf
  obtain ⟨⟨d1, d2⟩, d3⟩ := hdf
  obtain ⟨ty0, hty⟩ := hck.2.2.1
  have hKn := O.2.2.2.2.2.1.K.1 ci _ hck.1
  have hna : ∀ f ∈ alay lay, f.1 ≠ 1 := fun f hf e => by
    have := d2 f hf
    rw [e] at this
    exact absurd this (by decide)
  refine W.newcK O.1 O.2.1 O.2.2.2.1 (O.2.2.2.2.1 _ qc) (O.2.2.2.2.1 _ qi) (O.2.2.2.2.1 _ qn) rfl d (by rw [hRm]; have := hk.1; omega) (by rw [hRm]; have := hk.2; omega) hKn.2.1 rfl fun H1 kC hkC e1 z1 o1 => ?_
  refine kk _ _ _ _ _ ⟨by have := hk.1; omega, by have := hk.2; omega⟩ ⟨rfl, rfl, rfl, rfl, rfl⟩ H1 locs ls (hw.ext z1 o1 (fun c hc _ => ?_) (fun ty ht _ => by omega) (fun ty ht _ => by omega) (fun ht => by omega) (by omega)) ⟨Nat.le_trans hS.1 (by omega), fun x h1 h2 => (o1 x (Nat.lt_of_lt_of_le h1 hS.1)).trans (hS.2.1 x h1 h2), hS.2.2⟩ h
  have ec : c = lay := by omega
  subst ec
  refine ⟨⟨_, by rw [hci]; exact hck.1, ?_⟩, fun j f hj => hna f (List.mem_of_getElem? hj)⟩
  rw [hci]
  refine (u_born ty0 O.2.2.2.2.1 hck.2.1 hKn hkC e1 hty).to (fun j hj => ?_)
  have h3 := d3 j hj
  rw [hty j hj] at h3
  simp only [decide_eq_true_eq] at h3
  rw [h3]
  show vp_V _ j = vp_V _ j
  rw [o_fl_na (b := 0) (alay c) 0 hna, o_fl_na (a := H.size) (b := 0) (alay c) 0 hna]
theorem gc_newa (O : Okc X cc own nL ret) (hRm : cxR X = R0) {atype : ArrayType} {ty N u U : Nat} {fty : FieldType} {x : Int32} (hty : atyL[ty]? = some fty) (hat : newarray.typeOf atype = fty) (hy : ty < 100) (hdv : ∀ (cA : ClassId) (N : Nat), arrV cA N (fun _ => defaultValue fty) = vp_cell cA (N, .inl (fun _ => 0))) (hcb : componentBytes fty ≤ 8) (hRA : ∀ (U : State) (cA : ClassId), va_RA U cA fty → U.vm.findClass ("[" ++ fty.toString) = some cA) (q : Cond.arrayClass fty ∈ lw_all) (e : x = nI N) (hb : N ≤ 100000) (hk : kOk R0 k n (u + U)) (hu : 1 ≤ u) (hN : N ≤ 32 * u) (d : decode cc pc = .ok (.newarray atype, 2))
    (kk : ∀ (z1 : Nat) (T1 L1 : Nat → Nat) (V1 : w_V) (P1 : w_P), kOk R0 (k + 1) (n + N) U → nwW z T L V P (1000 + ty) N z1 T1 L1 V1 P1 → gW X (k + 1) (n + N) z1 T1 L1 V1 P1 (pc + 2) lv (.ref z :: st)) : gW X k n z T L V P pc lv (.int x :: st) := by
  intro H locs ls hw hS h
  have hz := hw.1
  subst hz
  subst e
  refine va_newaK O.1 O.2.1 (by rw [hat]; exact O.2.2.2.2.1 _ q) rfl d rfl (nI_pos (by omega)) (nI_clamp (by omega)) (by rw [hat]; exact Nat.le_trans (Nat.mul_le_mul hb hcb) (by decide)) (by rw [hRm]; have := hk.1; omega) (by rw [hRm]; have := hk.2; omega) rfl fun H1 cA e1 z1 o1 hAr hNm => ?_
  rw [hat] at e1 hAr hNm
  refine kk _ _ _ _ _ ⟨by have := hk.1; omega, by have := hk.2; omega⟩ ⟨rfl, rfl, rfl, rfl, rfl⟩ H1 locs ls (hw.ext z1 o1 (fun c hc _ => by omega) (fun ty2 ht _ => ?_) (fun ty ht _ => by omega) (fun ht => by omega) (by omega)) ⟨Nat.le_trans hS.1 (by omega), fun x h1 h2 => (o1 x (Nat.lt_of_lt_of_le h1 hS.1)).trans (hS.2.1 x h1 h2), hS.2.2⟩ h
  have et : ty2 = ty := by omega
  subst et
  have hc : cA = (cxE X).2.2.2.1 ty2 := Option.some.inj (hNm.symm.trans (hRA _ _ (O.2.2.2.2.2.1.K.2 ty2 _ (atyK_at hty)).2))
  subst hc
  show H1[H.size]? = some (vp_cell _ _)
  rw [e1, hdv]
theorem gc_newI (O : Okc X cc own nL ret) (hRm : cxR X = R0) {N u U : Nat} {x : Int32} (q : Cond.arrayClass .int ∈ lw_all) (e : x = nI N) (hb : N ≤ 100000) (hk : kOk R0 k n (u + U)) (hu : 1 ≤ u) (hN : N ≤ 32 * u) (d : decode cc pc = .ok (.newarray .int, 2))
    (kk : ∀ (z1 : Nat) (T1 L1 : Nat → Nat) (V1 : w_V) (P1 : w_P), kOk R0 (k + 1) (n + N) U → nwW z T L V P 1000 N z1 T1 L1 V1 P1 → gW X (k + 1) (n + N) z1 T1 L1 V1 P1 (pc + 2) lv (.ref z :: st)) : gW X k n z T L V P pc lv (.int x :: st) := gc_newa (ty := 0) (fty := .int) O hRm rfl rfl (by decide) (fun _ _ => rfl) (by decide) (fun _ _ h => h) q e hb hk hu hN d kk
theorem gc_newB (O : Okc X cc own nL ret) (hRm : cxR X = R0) {N u U : Nat} {x : Int32} (q : Cond.arrayClass .byte ∈ lw_all) (e : x = nI N) (hb : N ≤ 100000) (hk : kOk R0 k n (u + U)) (hu : 1 ≤ u) (hN : N ≤ 32 * u) (d : decode cc pc = .ok (.newarray .byte, 2))
    (kk : ∀ (z1 : Nat) (T1 L1 : Nat → Nat) (V1 : w_V) (P1 : w_P), kOk R0 (k + 1) (n + N) U → nwW z T L V P 1001 N z1 T1 L1 V1 P1 → gW X (k + 1) (n + N) z1 T1 L1 V1 P1 (pc + 2) lv (.ref z :: st)) : gW X k n z T L V P pc lv (.int x :: st) := gc_newa (ty := 1) (fty := .byte) O hRm rfl rfl (by decide) (fun _ _ => rfl) (by decide) (fun _ _ h => h) q e hb hk hu hN d kk
theorem gc_newZ (O : Okc X cc own nL ret) (hRm : cxR X = R0) {N u U : Nat} {x : Int32} (q : Cond.arrayClass .boolean ∈ lw_all) (e : x = nI N) (hb : N ≤ 100000) (hk : kOk R0 k n (u + U)) (hu : 1 ≤ u) (hN : N ≤ 32 * u) (d : decode cc pc = .ok (.newarray .boolean, 2))
    (kk : ∀ (z1 : Nat) (T1 L1 : Nat → Nat) (V1 : w_V) (P1 : w_P), kOk R0 (k + 1) (n + N) U → nwW z T L V P 1002 N z1 T1 L1 V1 P1 → gW X (k + 1) (n + N) z1 T1 L1 V1 P1 (pc + 2) lv (.ref z :: st)) : gW X k n z T L V P pc lv (.int x :: st) := gc_newa (ty := 2) (fty := .boolean) O hRm rfl rfl (by decide) (fun _ _ => rfl) (by decide) (fun _ _ h => h) q e hb hk hu hN d kk
/-- the law's long[] -/
theorem gc_newJ (O : Okc X cc own nL ret) (hRm : cxR X = R0) {N u U : Nat} {x : Int32} (q : Cond.arrayClass .long ∈ lw_all) (e : x = nI N) (hb : N ≤ 100000) (hk : kOk R0 k n (u + U)) (hu : 1 ≤ u) (hN : N ≤ 32 * u) (d : decode cc pc = .ok (.newarray .long, 2))
    (kk : ∀ (z1 : Nat) (T1 L1 : Nat → Nat) (V1 : w_V) (P1 : w_P), kOk R0 (k + 1) (n + N) U → nwW z T L V P 3003 N z1 T1 L1 V1 P1 → gW X (k + 1) (n + N) z1 T1 L1 V1 P1 (pc + 2) lv (.ref z :: st)) : gW X k n z T L V P pc lv (.int x :: st) := by
  intro H locs ls hw hS h
  have hz := hw.1
  subst hz
  subst e
  refine va_newaK (atype := .long) O.1 O.2.1 (O.2.2.2.2.1 _ q) rfl d rfl (nI_pos (by omega)) (nI_clamp (by omega)) (Nat.le_trans (Nat.mul_le_mul hb (show componentBytes .long ≤ 8 by decide)) (by decide)) (by rw [hRm]; have := hk.1; omega) (by rw [hRm]; have := hk.2; omega) rfl fun H1 cA e1 z1 o1 hAr hNm => ?_
  refine kk _ _ _ _ _ ⟨by have := hk.1; omega, by have := hk.2; omega⟩ ⟨rfl, rfl, rfl, rfl, rfl⟩ H1 locs ls (hw.ext z1 o1 (fun c hc _ => by omega) (fun ty2 ht _ => by omega) (fun ty ht _ => by omega) (fun ht => ?_) (by omega)) ⟨Nat.le_trans hS.1 (by omega), fun x h1 h2 => (o1 x (Nat.lt_of_lt_of_le h1 hS.1)).trans (hS.2.1 x h1 h2), hS.2.2⟩ h
  have hc : cA = (cxE X).2.2.2.1 3 := Option.some.inj (hNm.symm.trans (O.2.2.2.2.2.1.K.2 3 _ (atyK_at (show atyL[3]? = some .long from rfl))).2)
  subst hc
  show H1[H.size]? = some (vp_cell _ _)
  rw [e1]
  rfl
theorem gc_anew (O : Okc X cc own nL ret) (hRm : cxR X = R0) {idx ty N u U : Nat} {C : String} {x : Int32} (hty : atyL[ty]? = some (.object C)) (hy : ty < 100) (qc : Cond.classLink own idx C ∈ lw_all) (qo : Cond.arrayOver (.object C) ∈ lw_tbl) (e : x = nI N) (hb : N ≤ 100000) (hk : kOk R0 k n (u + U)) (hu : 1 ≤ u) (hN : N ≤ 32 * u) (d : decode cc pc = .ok (.anewarray idx, 3))
    (kk : ∀ (z1 : Nat) (T1 L1 : Nat → Nat) (V1 : w_V) (P1 : w_P), kOk R0 (k + 1) (n + N) U → nwW z T L V P (2000 + ty) N z1 T1 L1 V1 P1 → gW X (k + 1) (n + N) z1 T1 L1 V1 P1 (pc + 3) lv (.ref z :: st)) : gW X k n z T L V P pc lv (.int x :: st) := by
  intro H locs ls hw hS h
  have hz := hw.1
  subst hz
  subst e
  have hover : va_AO C (cxs X) := va_AO.moved O.2.2.2.2.2.1.2.1.alike (va_AO.of (O.2.2.2.2.2.1.1.2.1 _ qo))
  have hcl : (nI N).toNatClampNeg = N := nI_clamp (by omega)
  refine W.anew O.1 O.2.1 O.2.2.2.1 (O.2.2.2.2.1 _ qc) (va_AO.use hover) rfl d rfl (nI_pos (by omega)) (by rw [hcl]; omega) (by rw [hRm]; have := hk.1; omega) (by rw [hRm, hcl]; have := hk.2; omega) fun cA kA comp f1 f2 f3 f4 => ?_
  rw [hcl]
  generalize hH1 : H.push ({ cls := cA, slots := Array.replicate N .null, vm := .none } : Cell) = H1
  have z1 : H1.size = H.size + 1 := by rw [← hH1, Array.size_push]
  have e1 : H1[H.size]? = some (arrV cA N (fun _ => .null)) := by rw [← hH1, Array.getElem?_push_size, ← arrV_new]
  have o1 : ∀ q : Nat, q < H.size → H1[q]? = H[q]? := fun q hq => by rw [← hH1, Array.getElem?_push, if_neg (Nat.ne_of_lt hq)]
  refine kk _ _ _ _ _ ⟨by have := hk.1; omega, by have := hk.2; omega⟩ ⟨rfl, rfl, rfl, rfl, rfl⟩ H1 locs ls (hw.ext z1 o1 (fun c hc _ => by omega) (fun ty2 ht _ => by omega) (fun ty2 ht _ => ?_) (fun ht => by omega) (by omega)) ⟨Nat.le_trans hS.1 (by omega), fun x h1 h2 => (o1 x (Nat.lt_of_lt_of_le h1 hS.1)).trans (hS.2.1 x h1 h2), hS.2.2⟩ h
  have et : ty2 = ty := by omega
  subst et
  obtain ⟨kA2, comp2, g1, g2, g3, g4⟩ := (O.2.2.2.2.2.1.K.2 ty2 _ (atyK_at hty)).2
  have hc : cA = (cxE X).2.2.2.1 ty2 := Option.some.inj (f1.symm.trans g4)
  subst hc
  show H1[H.size]? = some (vp_cell _ _)
  rw [e1]
  rfl
end GC
