/-! FRAME. A typed heap (z: how many cells, T kinds, L lengths, V ints, P references) over the machine's; gW: a walk's goal over it; one row an instruction. -/
set_option maxRecDepth 100000
abbrev w_fk : Type := Nat × Nat × Nat × Nat
abbrev w_V : Type := Nat → Nat → Nat → Int32
abbrev w_P : Type := Nat → Nat → Option Nat
/-- z, T, L, V, P -/
abbrev w_W : Type := Nat × (Nat → Nat) × (Nat → Nat) × w_V × w_P
/-- of a Fault its own two fields alone -/
def TF10 : u_T := fun k => match k with
  | 0 => ("ApartBench$Fault", "kind", "I", true)
  | _ => ("ApartBench$Fault", "place", "I", true)
/-- the classes by number -/
abbrev acl : List vw_C := [(RX8, TX8, 63), (RX1, TX1, 11), (RX2, TX2, 10), (RX3, TX3, 1), (RX5, TX5, 8), (RX6, TX6, 12), (RX7, TX7, 11), (RX9, TX9, 9), (RX12, TX12, 1), (RX13, TX13, 1), (RX14, TX14, 3), (RX15, TX15, 1), (RX16, TX16, 3), (RX17, TX17, 3), (RX18, TX18, 3), (RJ2, TJ2, 3), (RX10, TF10, 2), (RJ9, TJ9, 4), (RJ8, TJ8, 4), (RJ6, TJ6, 6), (RJ19, TJ19, 6)]
def atyL : List FieldType := [.int, .byte, .boolean, .long, .object "java/lang/Object", .object "java/lang/String", .object "ApartBench$Value"]
/-- the claim's start, its arguments, the classes' numbers and slots, the array classes, constant objects' addresses -/
abbrev w_E : Type := State × Array Value × va_G × (Nat → ClassId) × (Nat → Nat)
def atyK (cA : Nat → ClassId) : List (ClassId × FieldType) := [(cA 0, .int), (cA 1, .byte), (cA 2, .boolean), (cA 3, .long), (cA 4, .object "java/lang/Object"), (cA 5, .object "java/lang/String"), (cA 6, .object "ApartBench$Value")]
abbrev fI : w_fk := (0, 0, 0, 0)
abbrev fR : w_fk := (2, 0, 0, 0)
abbrev fA (off ty len : Nat) : w_fk := (1, off, ty, len)
def ly0 : List w_fk := [fR, fR, fI, fA 3 0 14, fA 4 0 162, fA 5 0 10, fA 6 0 10, fA 7 0 10, fA 8 0 10, fA 9 0 70, fA 10 0 108, fA 11 0 1200, fA 12 0 3, fA 13 0 600, fI, fI, fI, fI, fI, fI, fI, fI, fI, fI, fA 14 0 81, fA 15 0 15, fA 16 0 12, fA 17 0 18, fA 18 0 1800, fI, fI, fI, fI, fI, fI, fA 19 0 5, fA 20 0 64, fA 21 0 35, fA 22 0 35, fA 23 0 25, fI, fI, fI, fI, fA 24 0 30, fA 25 0 30, fA 26 0 30, fA 27 0 30, fA 28 0 6, fA 29 0 6, fA 30 0 8, fA 31 0 8, fA 32 0 8, fI, fI, fI, fI, fA 33 0 45, fA 34 0 1800, fA 35 0 8, fA 36 0 8, fA 37 0 8, fA 38 0 3]
def ly1 : List w_fk := [fR, fR, fR, fR, fR, fR, fI, fA 450 1 600, fI, fI, fI]
def ly2 : List w_fk := [fI, fI, fI, fI, fA 1 0 81, fA 2 0 81, fR, fR, fR, fR]
def ly3 : List w_fk := [fA 2 0 5]
def ly4 : List w_fk := [fR, fR, fA 8 0 8, fA 9 0 8, fA 10 0 3, fA 11 2 8, fI, fI]
def ly5 : List w_fk := [fA 1 0 5, fA 2 0 15, fA 3 0 12, fA 4 0 18, fI, fI, fI, fI, fI, fI, fI, fI]
def ly6 : List w_fk := [fR, fR, fA 1 0 35, fA 2 0 35, fA 3 0 30, fA 4 0 30, fA 5 0 30, fA 6 0 25, fA 7 0 6, fA 8 0 6, fA 9 2 30]
def ly7 : List w_fk := [fR, fI, fI, fI, fI, fI, fR, fR, fA 1 2 2]
def lyO (n : Nat) : List w_fk := List.replicate n fR
/-- a class's layout while it is being made: no array is its own yet -/
def opn (l : List w_fk) : List w_fk := l.map fun f => if f.1 = 1 then fR else f
/-- a kind's layout: 0..20 the classes as they are when made; 50.. a class's while it is being made -/
def alay (c : Nat) : List w_fk := match c with
  | 0 => ly0
  | 1 => ly1
  | 2 => ly2
  | 3 => ly3
  | 4 => ly4
  | 5 => ly5
  | 6 => ly6
  | 7 => ly7
  | 8 => [fI]
  | 9 => [fR]
  | 10 => [fI, fR, fR]
  | 11 => [fR]
  | 12 => [fI, fI, fR]
  | 13 => [fI, fI, fR]
  | 14 => [fI, fI, fR]
  | 15 => [fI, fR, fI]
  | 16 => [fI, fI]
  | 17 => [fR, fI, fI, fI]
  | 18 => [fR, fI, fI, fI]
  | 50 => opn ly0
  | 51 => opn ly1
  | 52 => opn ly2
  | 53 => opn ly3
  | 54 => opn ly4
  | 55 => opn ly5
  | 56 => opn ly6
  | 57 => opn ly7
  | _ => []
/-- the class's number -/
def acn (c : Nat) : Nat := if c < 50 then c else c - 50
def fl_val (V1 : Nat → Int32) (P1 : Nat → Option Nat) (a j : Nat) (f : w_fk) : Value := match f.1 with
  | 0 => .int (V1 j)
  | 1 => .ref (a + f.2.1)
  | _ => va_rf (P1 j)
def o_fl (V1 : Nat → Int32) (P1 : Nat → Option Nat) (a : Nat) : Nat → List w_fk → List Value
  | _, [] => []
  | j, f :: r => fl_val V1 P1 a j f :: o_fl V1 P1 a (j + 1) r
theorem o_fl_get {V1 : Nat → Int32} {P1 : Nat → Option Nat} {a : Nat} : ∀ (ly : List w_fk) (j k : Nat) (f : w_fk), ly[k]? = some f → (o_fl V1 P1 a j ly)[k]? = some (fl_val V1 P1 a (j + k) f)
  | [], j, k, f, h => by simp at h
  | g :: r, j, 0, f, h => by
    simp at h
    subst h
    rfl
  | g :: r, j, k + 1, f, h => by
    have := o_fl_get (V1 := V1) (P1 := P1) (a := a) r (j + 1) k f (by simpa using h)
    show (o_fl V1 P1 a (j + 1) r)[k]? = _
    rw [this, show j + 1 + k = j + (k + 1) by omega]
theorem o_fl_len {V1 : Nat → Int32} {P1 : Nat → Option Nat} {a : Nat} : ∀ (ly : List w_fk) (j : Nat), (o_fl V1 P1 a j ly).length = ly.length
  | [], j => rfl
  | g :: r, j => by
    show (o_fl V1 P1 a (j + 1) r).length + 1 = r.length + 1
    rw [o_fl_len r (j + 1)]
theorem o_fl_ext {V1 V2 : Nat → Int32} {P1 P2 : Nat → Option Nat} {a b : Nat} : ∀ (ly : List w_fk) (j : Nat), (∀ k f, ly[k]? = some f → fl_val V1 P1 a (j + k) f = fl_val V2 P2 b (j + k) f) → o_fl V1 P1 a j ly = o_fl V2 P2 b j ly
  | [], j, h => rfl
  | g :: r, j, h => by
    have e1 : fl_val V1 P1 a j g = fl_val V2 P2 b j g := h 0 g rfl
    have e2 : o_fl V1 P1 a (j + 1) r = o_fl V2 P2 b (j + 1) r := o_fl_ext r (j + 1) (fun k f hk => by
      have h3 := h (k + 1) f (by simpa using hk)
      rw [show j + 1 + k = j + (k + 1) by omega]
      exact h3)
    show fl_val V1 P1 a j g :: o_fl V1 P1 a (j + 1) r = fl_val V2 P2 b j g :: o_fl V2 P2 b (j + 1) r
    rw [e1, e2]
theorem list_set_ext {l l2 : List Value} {j : Nat} {v : Value} (hl : l.length = l2.length) (hj : j < l.length) (h1 : l2[j]? = some v) (h2 : ∀ k, k ≠ j → l2[k]? = l[k]?) : l.set j v = l2 := by
  apply List.ext_getElem?
  intro k
  by_cases hk : k = j
  · subst hk
    rw [List.getElem?_set_self hj, h1]
  · rw [List.getElem?_set_ne (fun e => hk e.symm), h2 k hk]
def up1 {α : Type} (V : Nat → α) (a : Nat) (σ : α) : Nat → α := fun b => if b = a then σ else V b
/-- an array's place k i written -/
def s2 (σ : Nat → Nat → Int32) (k i : Nat) (x : Int32) : Nat → Nat → Int32 := fun a b => if a = k ∧ b = i then x else σ a b
def up3 (V : w_V) (a k i : Nat) (x : Int32) : w_V := up1 V a (s2 (V a) k i x)
def up2 (P : w_P) (a j : Nat) (x : Option Nat) : w_P := up1 P a (up1 (P a) j x)
theorem up1_s {α : Type} {V : Nat → α} {a : Nat} {σ : α} : up1 V a σ a = σ := if_pos rfl
theorem up1_n {α : Type} {V : Nat → α} {a b : Nat} {σ : α} (h : b ≠ a) : up1 V a σ b = V b := if_neg h
theorem up1_id {α : Type} {V : Nat → α} {a : Nat} : up1 V a (V a) = V := by
  funext b
  unfold up1
  split
  · next h => rw [h]
  · rfl
theorem up1_up1 {α : Type} {V : Nat → α} {a : Nat} {σ τ : α} : up1 (up1 V a σ) a τ = up1 V a τ := by
  funext b
  unfold up1
  split <;> rfl
theorem s2_s {σ : Nat → Nat → Int32} {k i : Nat} {x : Int32} : s2 σ k i x k i = x := if_pos ⟨rfl, rfl⟩
theorem s2_k {σ : Nat → Nat → Int32} {k i a b : Nat} {x : Int32} (h : a ≠ k) : s2 σ k i x a b = σ a b := if_neg (fun q => h q.1)
theorem s2_i {σ : Nat → Nat → Int32} {k i a b : Nat} {x : Int32} (h : b ≠ i) : s2 σ k i x a b = σ a b := if_neg (fun q => h q.2)
theorem s2_row {σ : Nat → Nat → Int32} {k i : Nat} {x : Int32} : s2 σ k i x k = upd (σ k) i x := by
  funext b
  unfold s2 upd
  by_cases h : b = i
  · rw [if_pos ⟨rfl, h⟩, if_pos h]
  · rw [if_neg (fun q => h q.2), if_neg h]
theorem s2_rowN {σ : Nat → Nat → Int32} {k i a : Nat} {x : Int32} (h : a ≠ k) : s2 σ k i x a = σ a := by
  funext b
  exact s2_k h
theorem up3_up1 {V : w_V} {a k i : Nat} {σ : Nat → Nat → Int32} {x : Int32} : up3 (up1 V a σ) a k i x = up1 V a (s2 σ k i x) := by
  unfold up3
  rw [up1_s, up1_up1]
def w_A (E : w_E) : Nat → Prop := fun q => E.1.heap.size ≤ q
/-- constant objects: enum constants, the empty array of ArrayList -/
def cstL : List (String × String × String) := [("ApartBench$Value", "PROOF", "LApartBench$Value;"), ("ApartBench$Value", "HARSH", "LApartBench$Value;"), ("ApartBench$Value", "DAY", "LApartBench$Value;"), ("ApartBench$Value", "TOWN", "LApartBench$Value;"), ("ApartBench$Value", "SAID", "LApartBench$Value;"), ("ApartBench$Sort", "WORD", "LApartBench$Sort;"), ("ApartBench$Sort", "NUMBER", "LApartBench$Sort;"), ("ApartBench$Sort", "SIGN", "LApartBench$Sort;"), ("ApartBench$Sort", "BAD", "LApartBench$Sort;"), ("ApartBench$Sort", "END", "LApartBench$Sort;"), ("ApartBench$Value", "$VALUES", "[LApartBench$Value;"), ("java/util/ArrayList", "EMPTY_ELEMENTDATA", "[Ljava/lang/Object;"), ("java/util/ArrayList", "DEFAULTCAPACITY_EMPTY_ELEMENTDATA", "[Ljava/lang/Object;")]
/-- a constant text -/
def isStr (E : w_E) (a : Nat) (tx : List Nat) : Prop := va_O "java/lang/String" a (w_A E) E.1 E.1.heap ∧ va_OF "java/lang/String" "coder" "B" (.int 0) a (w_A E) E.1 E.1.heap ∧ ∃ v : Nat, va_OF "java/lang/String" "value" "[B" (.ref v) a (w_A E) E.1 E.1.heap ∧ va_T .byte v tx.length (fun i => .int (nI (tx.getD i 0))) (w_A E) E.1 E.1.heap ∧ tx.length < 1000 ∧ ∀ c ∈ tx, c < 128
/-- the texts: class, place in its table, text -/
def litL : List (String × Nat × String) := [("ApartBenchModel", 11, "judge"), ("ApartBenchModel", 13, "deaf"), ("ApartBenchModel", 15, "wise"), ("ApartBenchModel", 21, "proof"), ("ApartBenchModel", 23, "harsh"), ("ApartBenchModel", 25, "day"), ("ApartBenchModel", 27, "town"), ("ApartBenchModel", 29, "said"), ("ApartBenchModel", 279, "gossip"), ("ApartBenchModel", 281, "law"), ("ApartBenchModel", 252, "not"), ("ApartBenchModel", 260, "and"), ("ApartBenchModel", 265, "or"), ("ApartBenchModel", 271, "inn"), ("ApartBenchModel", 289, "road"), ("ApartBenchModel", 293, "case"), ("ApartBench$Reader", 9, ""), ("ApartBench$Reader", 123, "town"), ("ApartBench$Reader", 128, "inn"), ("ApartBench$Reader", 133, "road"), ("ApartBench$Reader", 141, "gossip"), ("ApartBench$Reader", 153, "law"), ("ApartBench$Reader", 221, "("), ("ApartBench$Reader", 237, "not"), ("ApartBench$Reader", 271, ")"), ("ApartBench$Reader", 281, "proof"), ("ApartBench$Reader", 289, "harsh"), ("ApartBench$Reader", 294, "day"), ("ApartBench$Reader", 302, "said"), ("ApartBench$Reader", 264, "*"), ("ApartBench$Reader", 266, "/"), ("ApartBench$Reader", 257, "+"), ("ApartBench$Reader", 259, "-"), ("ApartBench$Reader", 241, "<"), ("ApartBench$Reader", 243, "="), ("ApartBench$Reader", 236, "and"), ("ApartBench$Reader", 226, "or"), ("ApartBench$Reader", 162, "case"), ("ApartBench$Reader", 175, "judge"), ("ApartBench$Reader", 177, "deaf"), ("ApartBench$Reader", 179, "wise"), ("ApartBench$Reader", 186, ";")]
/-- more of the claim's start: constants of the JDK's, texts, Enum.ordinal -/
def E1ok (E : w_E) : Prop := va_Z "java/lang/String" "COMPACT_STRINGS" "Z" (.int 1) (w_A E) E.1 E.1.heap ∧ (∀ (i : Nat) (q : String × Nat × String), litL[i]? = some q → ∃ a, vk_R q.1 q.2.1 q.2.2 a E.1 ∧ isStr E a (q.2.2.toList.map Char.toNat)) ∧ va_Mi "[Ljava/lang/Object;" (E.2.2.2.2 20) E.1 ∧
  (∀ i, i < 5 → va_O "ApartBench$Value" (E.2.2.2.2 i) (w_A E) E.1 E.1.heap ∧ va_OF "java/lang/Enum" "ordinal" "I" (.int (nI i)) (E.2.2.2.2 i) (w_A E) E.1 E.1.heap) ∧
  (∃ cl0 : Cell, E.1.heap[E.2.2.2.2 10]? = some cl0 ∧ cl0.cls = E.2.2.2.1 6 ∧ cl0.slots = (vp_cell (E.2.2.2.1 6) (5, .inr (.inr (.inr (.inr (fun i => some (E.2.2.2.2 i))))))).slots ∧ cl0.vm.isStatics = false ∧ cl0.vm ≠ .unknown) ∧ ∀ i, i < 11 → ¬ w_A E (E.2.2.2.2 i)
/-- what a state has of the claim's start -/
def E0ok (E : w_E) : Prop := (Jvm.Cond.and given_1 narrow_1).before E.2.1 E.1 = true ∧ (∀ w ∈ lw_tbl, w.before E.2.1 E.1 = true) ∧ va_K E.2.2.1 acl (atyK E.2.2.2.1) E.1 ∧
  (∀ (i : Nat) (q : String × String × String), cstL[i]? = some q → va_Z q.1 q.2.1 q.2.2 (.ref (E.2.2.2.2 i)) (w_A E) E.1 E.1.heap) ∧
  (∀ i j : Nat, i < 5 → j < 5 → E.2.2.2.2 i = E.2.2.2.2 j → i = j) ∧ (∀ i j : Nat, i < 5 → j < 5 → E.2.2.2.2 (i + 5) = E.2.2.2.2 (j + 5) → i = j) ∧ E1ok E
def kenv (E : w_E) (U : State) : Prop := E0ok E ∧ E.1.WarmedH U.vm ∧ E.1.heap.size ≤ U.heap.size ∧ ∀ q : Nat, q < E.1.heap.size → U.heap[q]? = E.1.heap[q]?
theorem kenv.K {E : w_E} {U : State} (h : kenv E U) : va_K E.2.2.1 acl (atyK E.2.2.2.1) U := va_K.moved h.2.1.alike h.1.2.2.1
/-- a Fault just made: no field is written, nobody holds it -/
def fcell (E : w_E) (a : Nat) (H : Heap) : Prop := ∃ kX : Class, E.1.vm.classes[E.2.2.1.1 16]? = some kX ∧ H[a]? = some (blank (E.2.2.1.1 16) kX)
theorem fcell.kept {E : w_E} {a : Nat} {H H1 : Heap} (h : fcell E a H) (h1 : H1[a]? = H[a]?) : fcell E a H1 := by
  obtain ⟨kX, h2, h3⟩ := h
  exact ⟨kX, h2, h1.trans h3⟩
theorem fcell.lt {E : w_E} {a : Nat} {H : Heap} (h : fcell E a H) : a < H.size := by
  obtain ⟨kX, h2, h3⟩ := h
  exact (Array.getElem?_eq_some_iff.mp h3).1
def wd (E : w_E) (z : Nat) (T L : Nat → Nat) (V : w_V) (P : w_P) (H : Heap) : Prop :=
  H.size = z ∧ (∀ a, z ≤ a → T a = 0) ∧ E.1.heap.size ≤ z ∧ (∀ a, a < E.1.heap.size → T a = 0) ∧
  (∀ a c, T a = c + 1 → c < 100 → va_at E.2.2.1 acl (a, .inr (acn c, o_fl (V a 0) (P a) a 0 (alay c))) H ∧
    ∀ (j : Nat) (f : w_fk), (alay c)[j]? = some f → f.1 = 1 → T (a + f.2.1) = 10000 + a ∧ va_at E.2.2.1 acl (a + f.2.1, .inl (E.2.2.2.1 f.2.2.1, f.2.2.2, .inl (V a (j + 1)))) H) ∧
  (∀ a t, T a = 1000 + t → t < 100 → va_at E.2.2.1 acl (a, .inl (E.2.2.2.1 t, L a, .inl (V a 0))) H) ∧
  (∀ a t, T a = 2000 + t → t < 100 → va_at E.2.2.1 acl (a, .inl (E.2.2.2.1 t, L a, .inr (.inr (.inr (.inr (P a)))))) H) ∧
  (∀ a, T a = 3003 → va_at E.2.2.1 acl (a, .inl (E.2.2.2.1 3, L a, .inr (.inl (fun j => (V a 0 j).toInt64)))) H) ∧ ∀ a, T a = 4016 → fcell E a H
theorem wd.base {E : w_E} {z : Nat} {T L : Nat → Nat} {V : w_V} {P : w_P} {H : Heap} (h : wd E z T L V P H) {a : Nat} (ha : T a ≠ 0) : w_A E a := by
  by_cases q : a < E.1.heap.size
  · exact absurd (h.2.2.2.1 a q) ha
  · exact Nat.not_lt.mp q
def lyok (l : List w_fk) : Bool := (List.range l.length).all fun i => (List.range l.length).all fun j => match l[i]?, l[j]? with
  | some f, some g => !(f.1 == 1) || !(g.1 == 1) || !(f.2.1 == g.2.1) || i == j
  | _, _ => true
theorem ly_ok (c : Nat) : lyok (alay c) = true := by
  unfold alay
  split <;> decide +kernel
theorem lyok_inj {l : List w_fk} (h : lyok l = true) {i j : Nat} {f g : w_fk} (hi : l[i]? = some f) (hj : l[j]? = some g) (f1 : f.1 = 1) (g1 : g.1 = 1) (e : f.2.1 = g.2.1) : i = j := by
  have li : i < l.length := (List.getElem?_eq_some_iff.mp hi).1
  have lj : j < l.length := (List.getElem?_eq_some_iff.mp hj).1
  have h1 := List.all_eq_true.mp h i (List.mem_range.mpr li)
  have h2 := List.all_eq_true.mp h1 j (List.mem_range.mpr lj)
  simp only [hi, hj, f1, g1, e] at h2
  simpa using h2
theorem ly_inj (c i j : Nat) (f g : w_fk) (_ : c < 100) (hi : (alay c)[i]? = some f) (hj : (alay c)[j]? = some g) (f1 : f.1 = 1) (g1 : g.1 = 1) (e : f.2.1 = g.2.1) : i = j := lyok_inj (ly_ok c) hi hj f1 g1 e
/-- a cell of a kind's own written: an object's field -/
theorem wd.putI {E : w_E} {z : Nat} {T L : Nat → Nat} {V : w_V} {P : w_P} {H H1 : Heap} (h : wd E z T L V P H) {a c j : Nat} {x : Int32} (ht : T a = c + 1) (hc : c < 100) (hj : (alay c)[j]? = some fI)
    (h1 : va_at E.2.2.1 acl (a, .inr (acn c, (o_fl (V a 0) (P a) a 0 (alay c)).set j (.int x))) H1) (z1 : H1.size = H.size) (o1 : ∀ q : Nat, q ≠ a → H1[q]? = H[q]?) : wd E z T L (up3 V a 0 j x) P H1 := by
  obtain ⟨w1, w2, w3, w4, w5, w6, w7, w8, w9⟩ := h
  have hne : ∀ b, T b ≠ c + 1 → b ≠ a := fun b hb e => hb (by rw [e]; exact ht)
  refine ⟨z1.trans w1, w2, w3, w4, fun b d hb hd => ?_, fun b t hb hlt => ?_, fun b t hb hlt => ?_, fun b hb => ?_, fun b hb => ?_⟩
  · obtain ⟨q1, q2⟩ := w5 b d hb hd
    by_cases e : b = a
    · subst e
      have ed : d = c := by rw [ht] at hb; omega
      subst ed
      refine ⟨?_, fun i f hi hf => ?_⟩
      · have e2 : (o_fl (V b 0) (P b) b 0 (alay d)).set j (.int x) = o_fl (up3 V b 0 j x b 0) (P b) b 0 (alay d) := by
          refine list_set_ext ?_ ?_ ?_ ?_
          · rw [o_fl_len, o_fl_len]
          · rw [o_fl_len]; exact (List.getElem?_eq_some_iff.mp hj).1
          · rw [o_fl_get _ _ _ _ hj]
            show some (Value.int (up3 V b 0 j x b 0 (0 + j))) = _
            rw [Nat.zero_add]
            unfold up3
            rw [up1_s, s2_s]
          · intro k hk
            cases hf : (alay d)[k]? with
            | none =>
              rw [List.getElem?_eq_none (by rw [o_fl_len]; exact List.getElem?_eq_none_iff.mp hf), List.getElem?_eq_none (by rw [o_fl_len]; exact List.getElem?_eq_none_iff.mp hf)]
            | some f =>
              rw [o_fl_get _ _ _ _ hf, o_fl_get _ _ _ _ hf]
              have : up3 V b 0 j x b 0 (0 + k) = V b 0 (0 + k) := by
                unfold up3
                rw [up1_s, s2_i (by omega)]
              unfold fl_val
              split
              · rw [this]
              · rfl
              · rfl
        rw [← e2]
        exact h1
      · obtain ⟨r1, r2⟩ := q2 i f hi hf
        refine ⟨r1, ?_⟩
        have : up3 V b 0 j x b (i + 1) = V b (i + 1) := by
          unfold up3
          rw [up1_s, s2_rowN (by omega)]
        rw [this]
        exact va_at.kept r2 (o1 _ (fun e => by have e' : b + f.2.1 = b := e; rw [e'] at r1; rw [ht] at r1; omega))
    · have ev : up3 V a 0 j x b = V b := by unfold up3; rw [up1_n e]
      rw [ev]
      refine ⟨va_at.kept q1 (o1 _ e), fun i f hi hf => ?_⟩
      obtain ⟨r1, r2⟩ := q2 i f hi hf
      exact ⟨r1, va_at.kept r2 (o1 _ (fun e => by have e' : b + f.2.1 = a := e; rw [e'] at r1; rw [ht] at r1; omega))⟩
  · have e : b ≠ a := hne b (by omega)
    have ev : up3 V a 0 j x b = V b := by unfold up3; rw [up1_n e]
    rw [ev]
    exact va_at.kept (w6 b t hb hlt) (o1 _ e)
  · exact va_at.kept (w7 b t hb hlt) (o1 _ (hne b (by omega)))
  · have e : b ≠ a := hne b (by omega)
    have ev : up3 V a 0 j x b = V b := by unfold up3; rw [up1_n e]
    rw [ev]
    exact va_at.kept (w8 b hb) (o1 _ e)
  · exact (w9 b hb).kept (o1 _ (hne b (by omega)))
/-- an object's own array changed -/
theorem wd.setA {E : w_E} {z : Nat} {T L : Nat → Nat} {V : w_V} {P : w_P} {H H1 : Heap} (h : wd E z T L V P H) {a c j off ty len : Nat} {g : Nat → Int32} (ht : T a = c + 1) (hc : c < 100) (hj : (alay c)[j]? = some (fA off ty len))
    (h1 : va_at E.2.2.1 acl (a + off, .inl (E.2.2.2.1 ty, len, .inl g)) H1) (z1 : H1.size = H.size) (o1 : ∀ q : Nat, q ≠ a + off → H1[q]? = H[q]?) : wd E z T L (up1 V a (up1 (V a) (j + 1) g)) P H1 := by
  obtain ⟨w1, w2, w3, w4, w5, w6, w7, w8, w9⟩ := h
  have hT : T (a + off) = 10000 + a := ((w5 a c ht hc).2 j _ hj rfl).1
  have hne : ∀ b, T b < 10000 → b ≠ a + off := fun b hb e => by rw [e, hT] at hb; omega
  refine ⟨z1.trans w1, w2, w3, w4, fun b d hb hd => ?_, fun b t hb hlt => ?_, fun b t hb hlt => ?_, fun b hb => ?_, fun b hb => ?_⟩
  · obtain ⟨q1, q2⟩ := w5 b d hb hd
    have nb : b ≠ a + off := hne b (by omega)
    by_cases e : b = a
    · subst e
      have ed : d = c := by rw [ht] at hb; omega
      subst ed
      rw [up1_s]
      refine ⟨by rw [up1_n (by omega)]; exact va_at.kept q1 (o1 _ nb), fun i2 f hi hf => ?_⟩
      obtain ⟨r1, r2⟩ := q2 i2 f hi hf
      refine ⟨r1, ?_⟩
      by_cases e3 : i2 = j
      · subst e3
        rw [hj] at hi
        cases hi
        rw [up1_s]
        exact h1
      · rw [up1_n (by omega)]
        by_cases e4 : b + f.2.1 = b + off
        · exfalso
          exact e3 (ly_inj d i2 j f (fA off ty len) hd hi hj hf rfl (by show f.2.1 = off; omega))
        · exact va_at.kept r2 (o1 _ e4)
    · rw [up1_n e]
      refine ⟨va_at.kept q1 (o1 _ nb), fun i2 f hi hf => ?_⟩
      obtain ⟨r1, r2⟩ := q2 i2 f hi hf
      exact ⟨r1, va_at.kept r2 (o1 _ (fun e4 => by have e' : b + f.2.1 = a + off := e4; rw [e', hT] at r1; omega))⟩
  · have nb : b ≠ a + off := hne b (by omega)
    have e : b ≠ a := fun e => by rw [e, ht] at hb; omega
    rw [up1_n e]
    exact va_at.kept (w6 b t hb hlt) (o1 _ nb)
  · exact va_at.kept (w7 b t hb hlt) (o1 _ (hne b (by omega)))
  · have nb : b ≠ a + off := hne b (by omega)
    have e : b ≠ a := fun e => by rw [e, ht] at hb; omega
    rw [up1_n e]
    exact va_at.kept (w8 b hb) (o1 _ nb)
  · exact (w9 b hb).kept (o1 _ (hne b (by omega)))
theorem s2_up {σ : Nat → Nat → Int32} {k i : Nat} {x : Int32} : s2 σ k i x = up1 σ k (upd (σ k) i x) := by
  funext a b
  unfold s2 up1 upd
  by_cases h : a = k
  · subst h
    by_cases e : b = i
    · simp [e]
    · simp [e]
  · simp [h]
theorem wd.putA {E : w_E} {z : Nat} {T L : Nat → Nat} {V : w_V} {P : w_P} {H H1 : Heap} (h : wd E z T L V P H) {a c j off ty len i : Nat} {x : Int32} (ht : T a = c + 1) (hc : c < 100) (hj : (alay c)[j]? = some (fA off ty len))
    (h1 : va_at E.2.2.1 acl (a + off, .inl (E.2.2.2.1 ty, len, .inl (upd (V a (j + 1)) i x))) H1) (z1 : H1.size = H.size) (o1 : ∀ q : Nat, q ≠ a + off → H1[q]? = H[q]?) : wd E z T L (up3 V a (j + 1) i x) P H1 := by
  unfold up3
  rw [s2_up]
  exact h.setA ht hc hj h1 z1 o1
/-- an array by itself changed -/
theorem wd.setS {E : w_E} {z : Nat} {T L : Nat → Nat} {V : w_V} {P : w_P} {H H1 : Heap} (h : wd E z T L V P H) {a ty : Nat} {g : Nat → Int32} (ht : T a = 1000 + ty) (hc : ty < 100)
    (h1 : va_at E.2.2.1 acl (a, .inl (E.2.2.2.1 ty, L a, .inl g)) H1) (z1 : H1.size = H.size) (o1 : ∀ q : Nat, q ≠ a → H1[q]? = H[q]?) : wd E z T L (up1 V a (up1 (V a) 0 g)) P H1 := by
  obtain ⟨w1, w2, w3, w4, w5, w6, w7, w8, w9⟩ := h
  have hne : ∀ b, T b ≠ 1000 + ty → b ≠ a := fun b hb e => hb (by rw [e]; exact ht)
  refine ⟨z1.trans w1, w2, w3, w4, fun b d hb hd => ?_, fun b t hb hlt => ?_, fun b t hb hlt => ?_, fun b hb => ?_, fun b hb => ?_⟩
  · obtain ⟨q1, q2⟩ := w5 b d hb hd
    have nb : b ≠ a := hne b (by omega)
    rw [up1_n nb]
    refine ⟨va_at.kept q1 (o1 _ nb), fun i2 f hi hf => ?_⟩
    obtain ⟨r1, r2⟩ := q2 i2 f hi hf
    exact ⟨r1, va_at.kept r2 (o1 _ (hne _ (by rw [r1]; omega)))⟩
  · by_cases e : b = a
    · subst e
      have : t = ty := by rw [ht] at hb; omega
      subst this
      rw [up1_s, up1_s]
      exact h1
    · rw [up1_n e]
      exact va_at.kept (w6 b t hb hlt) (o1 _ e)
  · exact va_at.kept (w7 b t hb hlt) (o1 _ (hne b (by omega)))
  · have nb : b ≠ a := hne b (by omega)
    rw [up1_n nb]
    exact va_at.kept (w8 b hb) (o1 _ nb)
  · exact (w9 b hb).kept (o1 _ (hne b (by omega)))
/-- a reference field changed -/
theorem wd.putR {E : w_E} {z : Nat} {T L : Nat → Nat} {V : w_V} {P : w_P} {H H1 : Heap} (h : wd E z T L V P H) {a c j : Nat} {x : Option Nat} (ht : T a = c + 1) (hc : c < 100) (hj : (alay c)[j]? = some fR)
    (h1 : va_at E.2.2.1 acl (a, .inr (acn c, (o_fl (V a 0) (P a) a 0 (alay c)).set j (va_rf x))) H1) (z1 : H1.size = H.size) (o1 : ∀ q : Nat, q ≠ a → H1[q]? = H[q]?) : wd E z T L V (up2 P a j x) H1 := by
  obtain ⟨w1, w2, w3, w4, w5, w6, w7, w8, w9⟩ := h
  have hne : ∀ b, T b ≠ c + 1 → b ≠ a := fun b hb e => hb (by rw [e]; exact ht)
  refine ⟨z1.trans w1, w2, w3, w4, fun b d hb hd => ?_, fun b t hb hlt => ?_, fun b t hb hlt => ?_, fun b hb => ?_, fun b hb => ?_⟩
  · obtain ⟨q1, q2⟩ := w5 b d hb hd
    by_cases e : b = a
    · subst e
      have ed : d = c := by rw [ht] at hb; omega
      subst ed
      refine ⟨?_, fun i f hi hf => ?_⟩
      · have e2 : (o_fl (V b 0) (P b) b 0 (alay d)).set j (va_rf x) = o_fl (V b 0) (up2 P b j x b) b 0 (alay d) := by
          refine list_set_ext ?_ ?_ ?_ ?_
          · rw [o_fl_len, o_fl_len]
          · rw [o_fl_len]; exact (List.getElem?_eq_some_iff.mp hj).1
          · rw [o_fl_get _ _ _ _ hj]
            show some (va_rf (up2 P b j x b (0 + j))) = _
            rw [Nat.zero_add]
            unfold up2
            rw [up1_s, up1_s]
          · intro k hk
            cases hf : (alay d)[k]? with
            | none =>
              rw [List.getElem?_eq_none (by rw [o_fl_len]; exact List.getElem?_eq_none_iff.mp hf), List.getElem?_eq_none (by rw [o_fl_len]; exact List.getElem?_eq_none_iff.mp hf)]
            | some f =>
              rw [o_fl_get _ _ _ _ hf, o_fl_get _ _ _ _ hf]
              have : up2 P b j x b (0 + k) = P b (0 + k) := by
                unfold up2
                rw [up1_s, up1_n (by omega)]
              unfold fl_val
              split
              · rfl
              · rfl
              · rw [this]
        rw [← e2]
        exact h1
      · obtain ⟨r1, r2⟩ := q2 i f hi hf
        exact ⟨r1, va_at.kept r2 (o1 _ (fun e => by have e' : b + f.2.1 = b := e; rw [e'] at r1; rw [ht] at r1; omega))⟩
    · have ev : up2 P a j x b = P b := by unfold up2; rw [up1_n e]
      rw [ev]
      refine ⟨va_at.kept q1 (o1 _ e), fun i f hi hf => ?_⟩
      obtain ⟨r1, r2⟩ := q2 i f hi hf
      exact ⟨r1, va_at.kept r2 (o1 _ (fun e => by have e' : b + f.2.1 = a := e; rw [e'] at r1; rw [ht] at r1; omega))⟩
  · exact va_at.kept (w6 b t hb hlt) (o1 _ (hne b (by omega)))
  · have e : b ≠ a := hne b (by omega)
    have ev : up2 P a j x b = P b := by unfold up2; rw [up1_n e]
    rw [ev]
    exact va_at.kept (w7 b t hb hlt) (o1 _ e)
  · exact va_at.kept (w8 b hb) (o1 _ (hne b (by omega)))
  · exact (w9 b hb).kept (o1 _ (hne b (by omega)))
/-- an array of references changed -/
theorem wd.setR {E : w_E} {z : Nat} {T L : Nat → Nat} {V : w_V} {P : w_P} {H H1 : Heap} (h : wd E z T L V P H) {a ty : Nat} {g : Nat → Option Nat} (ht : T a = 2000 + ty) (hc : ty < 100)
    (h1 : va_at E.2.2.1 acl (a, .inl (E.2.2.2.1 ty, L a, .inr (.inr (.inr (.inr g))))) H1) (z1 : H1.size = H.size) (o1 : ∀ q : Nat, q ≠ a → H1[q]? = H[q]?) : wd E z T L V (up1 P a g) H1 := by
  obtain ⟨w1, w2, w3, w4, w5, w6, w7, w8, w9⟩ := h
  have hne : ∀ b, T b ≠ 2000 + ty → b ≠ a := fun b hb e => hb (by rw [e]; exact ht)
  refine ⟨z1.trans w1, w2, w3, w4, fun b d hb hd => ?_, fun b t hb hlt => ?_, fun b t hb hlt => ?_, fun b hb => ?_, fun b hb => ?_⟩
  · obtain ⟨q1, q2⟩ := w5 b d hb hd
    have nb : b ≠ a := hne b (by omega)
    rw [up1_n nb]
    refine ⟨va_at.kept q1 (o1 _ nb), fun i2 f hi hf => ?_⟩
    obtain ⟨r1, r2⟩ := q2 i2 f hi hf
    exact ⟨r1, va_at.kept r2 (o1 _ (hne _ (by rw [r1]; omega)))⟩
  · exact va_at.kept (w6 b t hb hlt) (o1 _ (hne b (by omega)))
  · by_cases e : b = a
    · subst e
      have : t = ty := by rw [ht] at hb; omega
      subst this
      rw [up1_s]
      exact h1
    · rw [up1_n e]
      exact va_at.kept (w7 b t hb hlt) (o1 _ e)
  · exact va_at.kept (w8 b hb) (o1 _ (hne b (by omega)))
  · exact (w9 b hb).kept (o1 _ (hne b (by omega)))
/-- at the address ad lies the array V a k, of len places of the kind ty -/
def hArr (T L : Nat → Nat) (ad a k len ty : Nat) : Prop := ty < 100 ∧ ((∃ lay j off, lay < 100 ∧ T a = lay + 1 ∧ (alay lay)[j]? = some (fA off ty len) ∧ k = j + 1 ∧ ad = a + off) ∨ (T a = 1000 + ty ∧ k = 0 ∧ len = L a ∧ ad = a))
theorem hArr.at {E : w_E} {z : Nat} {T L : Nat → Nat} {V : w_V} {P : w_P} {H : Heap} {ad a k len ty : Nat} (h : wd E z T L V P H) (g : hArr T L ad a k len ty) : va_at E.2.2.1 acl (ad, .inl (E.2.2.2.1 ty, len, .inl (V a k))) H := by
  obtain ⟨g0, ⟨lay, j, off, g1, g2, g3, rfl, rfl⟩ | ⟨g1, rfl, rfl, rfl⟩⟩ := g
  · exact ((h.2.2.2.2.1 a lay g2 g1).2 j _ g3 rfl).2
  · exact h.2.2.2.2.2.1 _ ty g1 g0
theorem hArr.base {E : w_E} {z : Nat} {T L : Nat → Nat} {V : w_V} {P : w_P} {H : Heap} {ad a k len ty : Nat} (h : wd E z T L V P H) (g : hArr T L ad a k len ty) : w_A E ad := by
  obtain ⟨g0, ⟨lay, j, off, g1, g2, g3, rfl, rfl⟩ | ⟨g1, rfl, rfl, rfl⟩⟩ := g
  · exact h.base (by rw [((h.2.2.2.2.1 a lay g2 g1).2 j _ g3 rfl).1]; omega)
  · exact h.base (by rw [g1]; omega)
theorem wd.setH {E : w_E} {z : Nat} {T L : Nat → Nat} {V : w_V} {P : w_P} {H H1 : Heap} (h : wd E z T L V P H) {ad a k len ty : Nat} {f : Nat → Int32} (g : hArr T L ad a k len ty) (h1 : va_at E.2.2.1 acl (ad, .inl (E.2.2.2.1 ty, len, .inl f)) H1) (z1 : H1.size = H.size) (o1 : ∀ q : Nat, q ≠ ad → H1[q]? = H[q]?) : wd E z T L (up1 V a (up1 (V a) k f)) P H1 := by
  obtain ⟨g0, ⟨lay, j, off, g1, g2, g3, rfl, rfl⟩ | ⟨g1, rfl, rfl, rfl⟩⟩ := g
  · exact h.setA g2 g1 g3 h1 z1 o1
  · exact h.setS g1 g0 h1 z1 o1
