/-! printed by gen/sgen.py: what the claim's start gives (E0ok) -/
set_option maxRecDepth 100000
theorem arr_prim {args : Array Value} {s : State} {ty : FieldType} (hne : ∀ C, ty ≠ .object C) (h : (Cond.arrayClass ty).before args s = true) : ∃ cA : ClassId, ArrOfT s cA ty ∧ va_RA s cA ty := by
  obtain ⟨c, k, comp, h1, h2, h3⟩ := Cond.arrayClass_spec h
  refine ⟨c, fun n z => ⟨fun k h => (by cases h), k, h2, comp, h3⟩, ?_⟩
  cases ty <;> first | exact h1 | exact absurd rfl (hne _)
theorem arr_obj {args : Array Value} {s : State} {C : String} (h : (Cond.arrayOver (.object C)).before args s = true) : ∃ cA : ClassId, ArrOfT s cA (.object C) ∧ va_RA s cA (.object C) := by
  obtain ⟨comp, c, k, h1, h2, h3, h4, h5⟩ := Cond.arrayOver_spec h
  exact ⟨c, fun n z => ⟨fun k h => (by cases h), k, h3, comp, h4⟩, k, comp, h3, h4, h1, h5⟩
/-- a constant static -/
theorem const_of {args : Array Value} {s : State} {C n d nm : String} {A : Nat → Prop} (hl : (Cond.laysStatic C n d).before args s = true) (hini : (Cond.initialized C).before args s = true) (hex : (Cond.exactly (.static C n d) nm).before args s = true) (hA : ∀ a : Nat, a < s.heap.size → ¬ A a) : ∃ a : Nat, (Term.static C n d).eval args s none [] s = some (.ref a) ∧ va_Z C n d (.ref a) A s s.heap ∧ va_O nm a A s s.heap ∧ ¬ A a := by
  obtain ⟨a, c, cell, k, q1, q2, q3, q4, q5, q6, -⟩ := Cond.exactly_spec hex
  have hn := hA a (Array.getElem?_eq_some_iff.mp q3).1
  exact ⟨a, q1, va_Zref hl hini q1 hA, ⟨cell, q3, q5, by rw [q6]; exact q2, hn⟩, hn⟩
theorem eq_ref {args : Array Value} {s : State} {t u : Term} {a : Nat} (h : (Cond.eq t u).before args s = true) (hu : u.eval args s none [] s = some (.ref a)) : t.eval args s none [] s = some (.ref a) := by
  cases hv : t.eval args s none [] s with
  | none => simp [Cond.before, Cond.holds, Cond.value, hv] at h
  | some w =>
    simp only [Cond.before, Cond.holds, Cond.value, hv, hu] at h
    cases w <;> simp_all
abbrev flN : List Jvm.Cond := flatC (Jvm.Cond.and given_1 narrow_1)
/-- a constant text -/
theorem lit_of {args : Array Value} {s : State} {own : String} {k : Nat} {tx : List Nat} {A : Nat → Prop} (hlen : tx.length < 1000) (hlt : ∀ c ∈ tx, c < 128) (hex : (Cond.exactly (.string own k) "java/lang/String").before args s = true) (hco : (Cond.eq (.field (.string own k) "java/lang/String" "coder" "B") (.int 0)).before args s = true)
    (har : (Cond.arrayOf (.field (.string own k) "java/lang/String" "value" "[B") .byte).before args s = true) (hle : (Cond.eq (.length (.field (.string own k) "java/lang/String" "value" "[B")) (.int (Int32.ofNat tx.length))).before args s = true)
    (hel : ∀ j : Nat, j < tx.length → (Cond.eq (.elem (.field (.string own k) "java/lang/String" "value" "[B") (.int (Int32.ofNat j))) (.int (nI (tx.getD j 0)))).before args s = true) (hA : ∀ a : Nat, a < s.heap.size → ¬ A a) :
    ∃ a : Nat, (Term.string own k).eval args s none [] s = some (.ref a) ∧ va_O "java/lang/String" a A s s.heap ∧ va_OF "java/lang/String" "coder" "B" (.int 0) a A s s.heap ∧ (∃ v : Nat, va_OF "java/lang/String" "value" "[B" (.ref v) a A s s.heap ∧ va_T .byte v tx.length (fun i => .int (nI (tx.getD i 0))) A s s.heap ∧ tx.length < 1000 ∧ ∀ c ∈ tx, c < 128) := by
  obtain ⟨a, c, cA, kA, q1, q2, q3, q4, q5, q6, -⟩ := Cond.exactly_spec (args := args) (first := s) (o := none) (s := s) (idx := []) (t := .string own k) (cls := "java/lang/String") hex
  obtain ⟨t, ht, hT⟩ := va_Tof (f := fun j => .int (nI (tx.getD j 0))) (A := A) (Nat.lt_trans hlen (by decide)) har (va_eqt hle) (fun j hj => va_eqt (hel j hj)) hA
  exact ⟨a, q1, ⟨cA, q3, q5, by rw [q6]; exact q2, hA a (Array.getElem?_eq_some_iff.mp q3).1⟩, vk_OFof q1 (va_eqt hco) hA, t, vk_OFof q1 ht hA, hT, hlen, hlt⟩
theorem cls_known {args : Array Value} {s : State} (hts : ∀ w ∈ lw_tbl, w.before args s = true) : ∃ D : va_G, ∀ (c : Nat) (q : vw_C), acl[c]? = some q → u_Kn s q.1 q.2.1 q.2.2 (D.1 c) (D.2 c) := by
  have h0 : ∀ c : Nat, ∃ x : ClassId × (Nat → Nat), ∀ q : vw_C, acl[c]? = some q → u_Kn s q.1 q.2.1 q.2.2 x.1 x.2 := fun c => by
    match c with
    | 0 =>
      obtain ⟨c0, i0, h⟩ := u_known (C := RX8) (T := TX8) (N := 63) (n := 63) hts (fun w h => lw_all_tbl (ck0.2.1 w h)) (hts _ (lw_all_tbl q1713))
      exact ⟨(c0, i0), fun q hq => by cases hq; exact h⟩
    | 1 =>
      obtain ⟨c0, i0, h⟩ := u_known (C := RX1) (T := TX1) (N := 11) (n := 11) hts (fun w h => lw_all_tbl (ck1.2.1 w h)) (hts _ (lw_all_tbl q148))
      exact ⟨(c0, i0), fun q hq => by cases hq; exact h⟩
    | 2 =>
      obtain ⟨c0, i0, h⟩ := u_known (C := RX2) (T := TX2) (N := 10) (n := 10) hts (fun w h => lw_all_tbl (ck2.2.1 w h)) (hts _ (lw_all_tbl q156))
      exact ⟨(c0, i0), fun q hq => by cases hq; exact h⟩
    | 3 =>
      obtain ⟨c0, i0, h⟩ := u_known (C := RX3) (T := TX3) (N := 1) (n := 1) hts (fun w h => lw_all_tbl (ck3.2.1 w h)) (hts _ (lw_all_tbl q503))
      exact ⟨(c0, i0), fun q hq => by cases hq; exact h⟩
    | 4 =>
      obtain ⟨c0, i0, h⟩ := u_known (C := RX5) (T := TX5) (N := 8) (n := 8) hts (fun w h => lw_all_tbl (ck4.2.1 w h)) (hts _ (lw_all_tbl q572))
      exact ⟨(c0, i0), fun q hq => by cases hq; exact h⟩
    | 5 =>
      obtain ⟨c0, i0, h⟩ := u_known (C := RX6) (T := TX6) (N := 12) (n := 12) hts (fun w h => lw_all_tbl (ck5.2.1 w h)) (hts _ (lw_all_tbl q578))
      exact ⟨(c0, i0), fun q hq => by cases hq; exact h⟩
    | 6 =>
      obtain ⟨c0, i0, h⟩ := u_known (C := RX7) (T := TX7) (N := 11) (n := 11) hts (fun w h => lw_all_tbl (ck6.2.1 w h)) (hts _ (lw_all_tbl q734))
      exact ⟨(c0, i0), fun q hq => by cases hq; exact h⟩
    | 7 =>
      obtain ⟨c0, i0, h⟩ := u_known (C := RX9) (T := TX9) (N := 9) (n := 9) hts (fun w h => lw_all_tbl (ck7.2.1 w h)) (hts _ (lw_all_tbl q909))
      exact ⟨(c0, i0), fun q hq => by cases hq; exact h⟩
    | 8 =>
      obtain ⟨c0, i0, h⟩ := u_known (C := RX12) (T := TX12) (N := 1) (n := 1) hts (fun w h => lw_all_tbl (ck8.2.1 w h)) (hts _ (lw_all_tbl q1102))
      exact ⟨(c0, i0), fun q hq => by cases hq; exact h⟩
    | 9 =>
      obtain ⟨c0, i0, h⟩ := u_known (C := RX13) (T := TX13) (N := 1) (n := 1) hts (fun w h => lw_all_tbl (ck9.2.1 w h)) (hts _ (lw_all_tbl q1137))
      exact ⟨(c0, i0), fun q hq => by cases hq; exact h⟩
    | 10 =>
      obtain ⟨c0, i0, h⟩ := u_known (C := RX14) (T := TX14) (N := 3) (n := 3) hts (fun w h => lw_all_tbl (ck10.2.1 w h)) (hts _ (lw_all_tbl q1164))
      exact ⟨(c0, i0), fun q hq => by cases hq; exact h⟩
    | 11 =>
      obtain ⟨c0, i0, h⟩ := u_known (C := RX15) (T := TX15) (N := 1) (n := 1) hts (fun w h => lw_all_tbl (ck11.2.1 w h)) (hts _ (lw_all_tbl q1184))
      exact ⟨(c0, i0), fun q hq => by cases hq; exact h⟩
    | 12 =>
      obtain ⟨c0, i0, h⟩ := u_known (C := RX16) (T := TX16) (N := 3) (n := 3) hts (fun w h => lw_all_tbl (ck12.2.1 w h)) (hts _ (lw_all_tbl q1243))
      exact ⟨(c0, i0), fun q hq => by cases hq; exact h⟩
    | 13 =>
      obtain ⟨c0, i0, h⟩ := u_known (C := RX17) (T := TX17) (N := 3) (n := 3) hts (fun w h => lw_all_tbl (ck13.2.1 w h)) (hts _ (lw_all_tbl q1211))
      exact ⟨(c0, i0), fun q hq => by cases hq; exact h⟩
    | 14 =>
      obtain ⟨c0, i0, h⟩ := u_known (C := RX18) (T := TX18) (N := 3) (n := 3) hts (fun w h => lw_all_tbl (ck14.2.1 w h)) (hts _ (lw_all_tbl q1233))
      exact ⟨(c0, i0), fun q hq => by cases hq; exact h⟩
    | 15 =>
      obtain ⟨c0, i0, h⟩ := u_known (C := RJ2) (T := TJ2) (N := 3) (n := 3) hts (fun w h => lw_all_tbl (ck15.2.1 w h)) (hts _ (lw_all_tbl q162))
      exact ⟨(c0, i0), fun q hq => by cases hq; exact h⟩
    | 16 =>
      obtain ⟨c0, i0, h⟩ := u_known (C := RX10) (T := TF10) (N := 2) (n := 8) hts (fun w h => lw_all_tbl (ck16.2.1 w h)) (hts _ (lw_all_tbl q1033))
      exact ⟨(c0, i0), fun q hq => by cases hq; exact h⟩
    | 17 =>
      obtain ⟨c0, i0, h⟩ := u_known (C := RJ9) (T := TJ9) (N := 4) (n := 4) hts (fun w h => lw_all_tbl (ck17.2.1 w h)) (hts _ (lw_all_tbl q402))
      exact ⟨(c0, i0), fun q hq => by cases hq; exact h⟩
    | 18 =>
      obtain ⟨c0, i0, h⟩ := u_known (C := RJ8) (T := TJ8) (N := 4) (n := 4) hts (fun w h => lw_all_tbl (ck18.2.1 w h)) (hts _ (lw_all_tbl q219))
      exact ⟨(c0, i0), fun q hq => by cases hq; exact h⟩
    | 19 =>
      obtain ⟨c0, i0, h⟩ := u_known (C := RJ6) (T := TJ6) (N := 6) (n := 6) hts (fun w h => lw_all_tbl (in_J6 w h)) (hts _ (lw_all_tbl q178))
      exact ⟨(c0, i0), fun q hq => by cases hq; exact h⟩
    | 20 =>
      obtain ⟨c0, i0, h⟩ := u_known (C := RJ19) (T := TJ19) (N := 6) (n := 6) hts (fun w h => lw_all_tbl (in_J19 w h)) (hts _ (lw_all_tbl q1266))
      exact ⟨(c0, i0), fun q hq => by cases hq; exact h⟩
    | c + 21 =>
      obtain ⟨c0, i0, h⟩ := u_known (C := RX8) (T := TX8) (N := 63) (n := 63) hts (fun w h => lw_all_tbl (ck0.2.1 w h)) (hts _ (lw_all_tbl q1713))
      exact ⟨(c0, i0), fun q hq => by simp at hq⟩
  obtain ⟨f, hf⟩ := Classical.axiomOfChoice h0
  exact ⟨(fun c => (f c).1, fun c => (f c).2), fun c q hq => hf c q hq⟩
theorem arr_known {args : Array Value} {s : State} (hts : ∀ w ∈ lw_tbl, w.before args s = true) : ∃ cA : Nat → ClassId, ∀ (k : Nat) (q : ClassId × FieldType), (atyK cA)[k]? = some q → ArrOfT s q.1 q.2 ∧ va_RA s q.1 q.2 := by
  obtain ⟨a0, h0⟩ := arr_prim (ty := .int) (fun C h => by cases h) (hts _ (lw_all_tbl q249))
  obtain ⟨a1, h1⟩ := arr_prim (ty := .byte) (fun C h => by cases h) (hts _ (lw_all_tbl q250))
  obtain ⟨a2, h2⟩ := arr_prim (ty := .boolean) (fun C h => by cases h) (hts _ (lw_all_tbl q730))
  obtain ⟨a3, h3⟩ := arr_prim (ty := .long) (fun C h => by cases h) (hts _ (lw_all_tbl q2332))
  obtain ⟨a4, h4⟩ := arr_obj (C := "java/lang/Object") (hts _ q174)
  obtain ⟨a5, h5⟩ := arr_obj (C := "java/lang/String") (hts _ q1719)
  obtain ⟨a6, h6⟩ := arr_obj (C := "ApartBench$Value") (hts _ q517)
  refine ⟨fun k => match k with
    | 0 => a0
    | 1 => a1
    | 2 => a2
    | 3 => a3
    | 4 => a4
    | 5 => a5
    | _ => a6, fun k q hq => ?_⟩
  match k, hq with
  | 0, hq => cases hq; exact h0
  | 1, hq => cases hq; exact h1
  | 2, hq => cases hq; exact h2
  | 3, hq => cases hq; exact h3
  | 4, hq => cases hq; exact h4
  | 5, hq => cases hq; exact h5
  | 6, hq => cases hq; exact h6
  | k + 7, hq => simp [atyK] at hq
set_option maxHeartbeats 4000000 in
theorem litS0 {b : Nat} {s : State} {A : Nat → Prop} (hts : ∀ w ∈ lw_tbl, w.before #[Value.ref b] s = true) (hn : ∀ c ∈ flN, c.before #[Value.ref b] s = true) (hA : ∀ a : Nat, a < s.heap.size → ¬ A a) : ∃ a : Nat, vk_R "ApartBenchModel" 11 "judge" a s ∧ va_O "java/lang/String" a A s s.heap ∧ va_OF "java/lang/String" "coder" "B" (.int 0) a A s s.heap ∧ (∃ v : Nat, va_OF "java/lang/String" "value" "[B" (.ref v) a A s s.heap ∧ va_T .byte v 5 (fun i => .int (nI (([106, 117, 100, 103, 101] : List Nat).getD i 0))) A s s.heap ∧ 5 < 1000 ∧ ∀ c ∈ ([106, 117, 100, 103, 101] : List Nat), c < 128) := by
  have hm : ∀ j : Nat, j < 5 → Cond.eq (.elem (.field (.string "ApartBenchModel" 11) "java/lang/String" "value" "[B") (.int (Int32.ofNat j))) (.int (nI (([106, 117, 100, 103, 101] : List Nat).getD j 0))) ∈ flN := by decide +kernel
  obtain ⟨a, h1, h2, h3, h4⟩ := lit_of (own := "ApartBenchModel") (k := 11) (tx := [106, 117, 100, 103, 101]) (by decide) (by decide) (hn _ (by decide +kernel)) (hn _ (by decide +kernel)) (hn _ (by decide +kernel)) (hn _ (by decide +kernel)) (fun j hj => hn _ (hm j hj)) hA
  exact ⟨a, vk_R.of (hts _ q1720) h1, h2, h3, h4⟩
set_option maxHeartbeats 4000000 in
theorem litS1 {b : Nat} {s : State} {A : Nat → Prop} (hts : ∀ w ∈ lw_tbl, w.before #[Value.ref b] s = true) (hn : ∀ c ∈ flN, c.before #[Value.ref b] s = true) (hA : ∀ a : Nat, a < s.heap.size → ¬ A a) : ∃ a : Nat, vk_R "ApartBenchModel" 13 "deaf" a s ∧ va_O "java/lang/String" a A s s.heap ∧ va_OF "java/lang/String" "coder" "B" (.int 0) a A s s.heap ∧ (∃ v : Nat, va_OF "java/lang/String" "value" "[B" (.ref v) a A s s.heap ∧ va_T .byte v 4 (fun i => .int (nI (([100, 101, 97, 102] : List Nat).getD i 0))) A s s.heap ∧ 4 < 1000 ∧ ∀ c ∈ ([100, 101, 97, 102] : List Nat), c < 128) := by
  have hm : ∀ j : Nat, j < 4 → Cond.eq (.elem (.field (.string "ApartBenchModel" 13) "java/lang/String" "value" "[B") (.int (Int32.ofNat j))) (.int (nI (([100, 101, 97, 102] : List Nat).getD j 0))) ∈ flN := by decide +kernel
  obtain ⟨a, h1, h2, h3, h4⟩ := lit_of (own := "ApartBenchModel") (k := 13) (tx := [100, 101, 97, 102]) (by decide) (by decide) (hn _ (by decide +kernel)) (hn _ (by decide +kernel)) (hn _ (by decide +kernel)) (hn _ (by decide +kernel)) (fun j hj => hn _ (hm j hj)) hA
  exact ⟨a, vk_R.of (hts _ q1721) h1, h2, h3, h4⟩
set_option maxHeartbeats 4000000 in
theorem litS2 {b : Nat} {s : State} {A : Nat → Prop} (hts : ∀ w ∈ lw_tbl, w.before #[Value.ref b] s = true) (hn : ∀ c ∈ flN, c.before #[Value.ref b] s = true) (hA : ∀ a : Nat, a < s.heap.size → ¬ A a) : ∃ a : Nat, vk_R "ApartBenchModel" 15 "wise" a s ∧ va_O "java/lang/String" a A s s.heap ∧ va_OF "java/lang/String" "coder" "B" (.int 0) a A s s.heap ∧ (∃ v : Nat, va_OF "java/lang/String" "value" "[B" (.ref v) a A s s.heap ∧ va_T .byte v 4 (fun i => .int (nI (([119, 105, 115, 101] : List Nat).getD i 0))) A s s.heap ∧ 4 < 1000 ∧ ∀ c ∈ ([119, 105, 115, 101] : List Nat), c < 128) := by
  have hm : ∀ j : Nat, j < 4 → Cond.eq (.elem (.field (.string "ApartBenchModel" 15) "java/lang/String" "value" "[B") (.int (Int32.ofNat j))) (.int (nI (([119, 105, 115, 101] : List Nat).getD j 0))) ∈ flN := by decide +kernel
  obtain ⟨a, h1, h2, h3, h4⟩ := lit_of (own := "ApartBenchModel") (k := 15) (tx := [119, 105, 115, 101]) (by decide) (by decide) (hn _ (by decide +kernel)) (hn _ (by decide +kernel)) (hn _ (by decide +kernel)) (hn _ (by decide +kernel)) (fun j hj => hn _ (hm j hj)) hA
  exact ⟨a, vk_R.of (hts _ q1722) h1, h2, h3, h4⟩
set_option maxHeartbeats 4000000 in
theorem litS3 {b : Nat} {s : State} {A : Nat → Prop} (hts : ∀ w ∈ lw_tbl, w.before #[Value.ref b] s = true) (hn : ∀ c ∈ flN, c.before #[Value.ref b] s = true) (hA : ∀ a : Nat, a < s.heap.size → ¬ A a) : ∃ a : Nat, vk_R "ApartBenchModel" 21 "proof" a s ∧ va_O "java/lang/String" a A s s.heap ∧ va_OF "java/lang/String" "coder" "B" (.int 0) a A s s.heap ∧ (∃ v : Nat, va_OF "java/lang/String" "value" "[B" (.ref v) a A s s.heap ∧ va_T .byte v 5 (fun i => .int (nI (([112, 114, 111, 111, 102] : List Nat).getD i 0))) A s s.heap ∧ 5 < 1000 ∧ ∀ c ∈ ([112, 114, 111, 111, 102] : List Nat), c < 128) := by
  have hm : ∀ j : Nat, j < 5 → Cond.eq (.elem (.field (.string "ApartBenchModel" 21) "java/lang/String" "value" "[B") (.int (Int32.ofNat j))) (.int (nI (([112, 114, 111, 111, 102] : List Nat).getD j 0))) ∈ flN := by decide +kernel
  obtain ⟨a, h1, h2, h3, h4⟩ := lit_of (own := "ApartBenchModel") (k := 21) (tx := [112, 114, 111, 111, 102]) (by decide) (by decide) (hn _ (by decide +kernel)) (hn _ (by decide +kernel)) (hn _ (by decide +kernel)) (hn _ (by decide +kernel)) (fun j hj => hn _ (hm j hj)) hA
  exact ⟨a, vk_R.of (hts _ q1723) h1, h2, h3, h4⟩
set_option maxHeartbeats 4000000 in
theorem litS4 {b : Nat} {s : State} {A : Nat → Prop} (hts : ∀ w ∈ lw_tbl, w.before #[Value.ref b] s = true) (hn : ∀ c ∈ flN, c.before #[Value.ref b] s = true) (hA : ∀ a : Nat, a < s.heap.size → ¬ A a) : ∃ a : Nat, vk_R "ApartBenchModel" 23 "harsh" a s ∧ va_O "java/lang/String" a A s s.heap ∧ va_OF "java/lang/String" "coder" "B" (.int 0) a A s s.heap ∧ (∃ v : Nat, va_OF "java/lang/String" "value" "[B" (.ref v) a A s s.heap ∧ va_T .byte v 5 (fun i => .int (nI (([104, 97, 114, 115, 104] : List Nat).getD i 0))) A s s.heap ∧ 5 < 1000 ∧ ∀ c ∈ ([104, 97, 114, 115, 104] : List Nat), c < 128) := by
  have hm : ∀ j : Nat, j < 5 → Cond.eq (.elem (.field (.string "ApartBenchModel" 23) "java/lang/String" "value" "[B") (.int (Int32.ofNat j))) (.int (nI (([104, 97, 114, 115, 104] : List Nat).getD j 0))) ∈ flN := by decide +kernel
  obtain ⟨a, h1, h2, h3, h4⟩ := lit_of (own := "ApartBenchModel") (k := 23) (tx := [104, 97, 114, 115, 104]) (by decide) (by decide) (hn _ (by decide +kernel)) (hn _ (by decide +kernel)) (hn _ (by decide +kernel)) (hn _ (by decide +kernel)) (fun j hj => hn _ (hm j hj)) hA
  exact ⟨a, vk_R.of (hts _ q1724) h1, h2, h3, h4⟩
set_option maxHeartbeats 4000000 in
theorem litS5 {b : Nat} {s : State} {A : Nat → Prop} (hts : ∀ w ∈ lw_tbl, w.before #[Value.ref b] s = true) (hn : ∀ c ∈ flN, c.before #[Value.ref b] s = true) (hA : ∀ a : Nat, a < s.heap.size → ¬ A a) : ∃ a : Nat, vk_R "ApartBenchModel" 25 "day" a s ∧ va_O "java/lang/String" a A s s.heap ∧ va_OF "java/lang/String" "coder" "B" (.int 0) a A s s.heap ∧ (∃ v : Nat, va_OF "java/lang/String" "value" "[B" (.ref v) a A s s.heap ∧ va_T .byte v 3 (fun i => .int (nI (([100, 97, 121] : List Nat).getD i 0))) A s s.heap ∧ 3 < 1000 ∧ ∀ c ∈ ([100, 97, 121] : List Nat), c < 128) := by
  have hm : ∀ j : Nat, j < 3 → Cond.eq (.elem (.field (.string "ApartBenchModel" 25) "java/lang/String" "value" "[B") (.int (Int32.ofNat j))) (.int (nI (([100, 97, 121] : List Nat).getD j 0))) ∈ flN := by decide +kernel
  obtain ⟨a, h1, h2, h3, h4⟩ := lit_of (own := "ApartBenchModel") (k := 25) (tx := [100, 97, 121]) (by decide) (by decide) (hn _ (by decide +kernel)) (hn _ (by decide +kernel)) (hn _ (by decide +kernel)) (hn _ (by decide +kernel)) (fun j hj => hn _ (hm j hj)) hA
  exact ⟨a, vk_R.of (hts _ q1725) h1, h2, h3, h4⟩
set_option maxHeartbeats 4000000 in
theorem litS6 {b : Nat} {s : State} {A : Nat → Prop} (hts : ∀ w ∈ lw_tbl, w.before #[Value.ref b] s = true) (hn : ∀ c ∈ flN, c.before #[Value.ref b] s = true) (hA : ∀ a : Nat, a < s.heap.size → ¬ A a) : ∃ a : Nat, vk_R "ApartBenchModel" 27 "town" a s ∧ va_O "java/lang/String" a A s s.heap ∧ va_OF "java/lang/String" "coder" "B" (.int 0) a A s s.heap ∧ (∃ v : Nat, va_OF "java/lang/String" "value" "[B" (.ref v) a A s s.heap ∧ va_T .byte v 4 (fun i => .int (nI (([116, 111, 119, 110] : List Nat).getD i 0))) A s s.heap ∧ 4 < 1000 ∧ ∀ c ∈ ([116, 111, 119, 110] : List Nat), c < 128) := by
  have hm : ∀ j : Nat, j < 4 → Cond.eq (.elem (.field (.string "ApartBenchModel" 27) "java/lang/String" "value" "[B") (.int (Int32.ofNat j))) (.int (nI (([116, 111, 119, 110] : List Nat).getD j 0))) ∈ flN := by decide +kernel
  obtain ⟨a, h1, h2, h3, h4⟩ := lit_of (own := "ApartBenchModel") (k := 27) (tx := [116, 111, 119, 110]) (by decide) (by decide) (hn _ (by decide +kernel)) (hn _ (by decide +kernel)) (hn _ (by decide +kernel)) (hn _ (by decide +kernel)) (fun j hj => hn _ (hm j hj)) hA
  exact ⟨a, vk_R.of (hts _ q1726) h1, h2, h3, h4⟩
set_option maxHeartbeats 4000000 in
theorem litS7 {b : Nat} {s : State} {A : Nat → Prop} (hts : ∀ w ∈ lw_tbl, w.before #[Value.ref b] s = true) (hn : ∀ c ∈ flN, c.before #[Value.ref b] s = true) (hA : ∀ a : Nat, a < s.heap.size → ¬ A a) : ∃ a : Nat, vk_R "ApartBenchModel" 29 "said" a s ∧ va_O "java/lang/String" a A s s.heap ∧ va_OF "java/lang/String" "coder" "B" (.int 0) a A s s.heap ∧ (∃ v : Nat, va_OF "java/lang/String" "value" "[B" (.ref v) a A s s.heap ∧ va_T .byte v 4 (fun i => .int (nI (([115, 97, 105, 100] : List Nat).getD i 0))) A s s.heap ∧ 4 < 1000 ∧ ∀ c ∈ ([115, 97, 105, 100] : List Nat), c < 128) := by
  have hm : ∀ j : Nat, j < 4 → Cond.eq (.elem (.field (.string "ApartBenchModel" 29) "java/lang/String" "value" "[B") (.int (Int32.ofNat j))) (.int (nI (([115, 97, 105, 100] : List Nat).getD j 0))) ∈ flN := by decide +kernel
  obtain ⟨a, h1, h2, h3, h4⟩ := lit_of (own := "ApartBenchModel") (k := 29) (tx := [115, 97, 105, 100]) (by decide) (by decide) (hn _ (by decide +kernel)) (hn _ (by decide +kernel)) (hn _ (by decide +kernel)) (hn _ (by decide +kernel)) (fun j hj => hn _ (hm j hj)) hA
  exact ⟨a, vk_R.of (hts _ q1727) h1, h2, h3, h4⟩
set_option maxHeartbeats 4000000 in
theorem litS8 {b : Nat} {s : State} {A : Nat → Prop} (hts : ∀ w ∈ lw_tbl, w.before #[Value.ref b] s = true) (hn : ∀ c ∈ flN, c.before #[Value.ref b] s = true) (hA : ∀ a : Nat, a < s.heap.size → ¬ A a) : ∃ a : Nat, vk_R "ApartBenchModel" 279 "gossip" a s ∧ va_O "java/lang/String" a A s s.heap ∧ va_OF "java/lang/String" "coder" "B" (.int 0) a A s s.heap ∧ (∃ v : Nat, va_OF "java/lang/String" "value" "[B" (.ref v) a A s s.heap ∧ va_T .byte v 6 (fun i => .int (nI (([103, 111, 115, 115, 105, 112] : List Nat).getD i 0))) A s s.heap ∧ 6 < 1000 ∧ ∀ c ∈ ([103, 111, 115, 115, 105, 112] : List Nat), c < 128) := by
  have hm : ∀ j : Nat, j < 6 → Cond.eq (.elem (.field (.string "ApartBenchModel" 279) "java/lang/String" "value" "[B") (.int (Int32.ofNat j))) (.int (nI (([103, 111, 115, 115, 105, 112] : List Nat).getD j 0))) ∈ flN := by decide +kernel
  obtain ⟨a, h1, h2, h3, h4⟩ := lit_of (own := "ApartBenchModel") (k := 279) (tx := [103, 111, 115, 115, 105, 112]) (by decide) (by decide) (hn _ (by decide +kernel)) (hn _ (by decide +kernel)) (hn _ (by decide +kernel)) (hn _ (by decide +kernel)) (fun j hj => hn _ (hm j hj)) hA
  exact ⟨a, vk_R.of (hts _ q1957) h1, h2, h3, h4⟩
set_option maxHeartbeats 4000000 in
theorem litS9 {b : Nat} {s : State} {A : Nat → Prop} (hts : ∀ w ∈ lw_tbl, w.before #[Value.ref b] s = true) (hn : ∀ c ∈ flN, c.before #[Value.ref b] s = true) (hA : ∀ a : Nat, a < s.heap.size → ¬ A a) : ∃ a : Nat, vk_R "ApartBenchModel" 281 "law" a s ∧ va_O "java/lang/String" a A s s.heap ∧ va_OF "java/lang/String" "coder" "B" (.int 0) a A s s.heap ∧ (∃ v : Nat, va_OF "java/lang/String" "value" "[B" (.ref v) a A s s.heap ∧ va_T .byte v 3 (fun i => .int (nI (([108, 97, 119] : List Nat).getD i 0))) A s s.heap ∧ 3 < 1000 ∧ ∀ c ∈ ([108, 97, 119] : List Nat), c < 128) := by
  have hm : ∀ j : Nat, j < 3 → Cond.eq (.elem (.field (.string "ApartBenchModel" 281) "java/lang/String" "value" "[B") (.int (Int32.ofNat j))) (.int (nI (([108, 97, 119] : List Nat).getD j 0))) ∈ flN := by decide +kernel
  obtain ⟨a, h1, h2, h3, h4⟩ := lit_of (own := "ApartBenchModel") (k := 281) (tx := [108, 97, 119]) (by decide) (by decide) (hn _ (by decide +kernel)) (hn _ (by decide +kernel)) (hn _ (by decide +kernel)) (hn _ (by decide +kernel)) (fun j hj => hn _ (hm j hj)) hA
  exact ⟨a, vk_R.of (hts _ q1964) h1, h2, h3, h4⟩
set_option maxHeartbeats 4000000 in
theorem litS10 {b : Nat} {s : State} {A : Nat → Prop} (hts : ∀ w ∈ lw_tbl, w.before #[Value.ref b] s = true) (hn : ∀ c ∈ flN, c.before #[Value.ref b] s = true) (hA : ∀ a : Nat, a < s.heap.size → ¬ A a) : ∃ a : Nat, vk_R "ApartBenchModel" 252 "not" a s ∧ va_O "java/lang/String" a A s s.heap ∧ va_OF "java/lang/String" "coder" "B" (.int 0) a A s s.heap ∧ (∃ v : Nat, va_OF "java/lang/String" "value" "[B" (.ref v) a A s s.heap ∧ va_T .byte v 3 (fun i => .int (nI (([110, 111, 116] : List Nat).getD i 0))) A s s.heap ∧ 3 < 1000 ∧ ∀ c ∈ ([110, 111, 116] : List Nat), c < 128) := by
  have hm : ∀ j : Nat, j < 3 → Cond.eq (.elem (.field (.string "ApartBenchModel" 252) "java/lang/String" "value" "[B") (.int (Int32.ofNat j))) (.int (nI (([110, 111, 116] : List Nat).getD j 0))) ∈ flN := by decide +kernel
  obtain ⟨a, h1, h2, h3, h4⟩ := lit_of (own := "ApartBenchModel") (k := 252) (tx := [110, 111, 116]) (by decide) (by decide) (hn _ (by decide +kernel)) (hn _ (by decide +kernel)) (hn _ (by decide +kernel)) (hn _ (by decide +kernel)) (fun j hj => hn _ (hm j hj)) hA
  exact ⟨a, vk_R.of (hts _ q1997) h1, h2, h3, h4⟩
set_option maxHeartbeats 4000000 in
theorem litS11 {b : Nat} {s : State} {A : Nat → Prop} (hts : ∀ w ∈ lw_tbl, w.before #[Value.ref b] s = true) (hn : ∀ c ∈ flN, c.before #[Value.ref b] s = true) (hA : ∀ a : Nat, a < s.heap.size → ¬ A a) : ∃ a : Nat, vk_R "ApartBenchModel" 260 "and" a s ∧ va_O "java/lang/String" a A s s.heap ∧ va_OF "java/lang/String" "coder" "B" (.int 0) a A s s.heap ∧ (∃ v : Nat, va_OF "java/lang/String" "value" "[B" (.ref v) a A s s.heap ∧ va_T .byte v 3 (fun i => .int (nI (([97, 110, 100] : List Nat).getD i 0))) A s s.heap ∧ 3 < 1000 ∧ ∀ c ∈ ([97, 110, 100] : List Nat), c < 128) := by
  have hm : ∀ j : Nat, j < 3 → Cond.eq (.elem (.field (.string "ApartBenchModel" 260) "java/lang/String" "value" "[B") (.int (Int32.ofNat j))) (.int (nI (([97, 110, 100] : List Nat).getD j 0))) ∈ flN := by decide +kernel
  obtain ⟨a, h1, h2, h3, h4⟩ := lit_of (own := "ApartBenchModel") (k := 260) (tx := [97, 110, 100]) (by decide) (by decide) (hn _ (by decide +kernel)) (hn _ (by decide +kernel)) (hn _ (by decide +kernel)) (hn _ (by decide +kernel)) (fun j hj => hn _ (hm j hj)) hA
  exact ⟨a, vk_R.of (hts _ q2018) h1, h2, h3, h4⟩
set_option maxHeartbeats 4000000 in
theorem litS12 {b : Nat} {s : State} {A : Nat → Prop} (hts : ∀ w ∈ lw_tbl, w.before #[Value.ref b] s = true) (hn : ∀ c ∈ flN, c.before #[Value.ref b] s = true) (hA : ∀ a : Nat, a < s.heap.size → ¬ A a) : ∃ a : Nat, vk_R "ApartBenchModel" 265 "or" a s ∧ va_O "java/lang/String" a A s s.heap ∧ va_OF "java/lang/String" "coder" "B" (.int 0) a A s s.heap ∧ (∃ v : Nat, va_OF "java/lang/String" "value" "[B" (.ref v) a A s s.heap ∧ va_T .byte v 2 (fun i => .int (nI (([111, 114] : List Nat).getD i 0))) A s s.heap ∧ 2 < 1000 ∧ ∀ c ∈ ([111, 114] : List Nat), c < 128) := by
  have hm : ∀ j : Nat, j < 2 → Cond.eq (.elem (.field (.string "ApartBenchModel" 265) "java/lang/String" "value" "[B") (.int (Int32.ofNat j))) (.int (nI (([111, 114] : List Nat).getD j 0))) ∈ flN := by decide +kernel
  obtain ⟨a, h1, h2, h3, h4⟩ := lit_of (own := "ApartBenchModel") (k := 265) (tx := [111, 114]) (by decide) (by decide) (hn _ (by decide +kernel)) (hn _ (by decide +kernel)) (hn _ (by decide +kernel)) (hn _ (by decide +kernel)) (fun j hj => hn _ (hm j hj)) hA
  exact ⟨a, vk_R.of (hts _ q2019) h1, h2, h3, h4⟩
set_option maxHeartbeats 4000000 in
theorem litS13 {b : Nat} {s : State} {A : Nat → Prop} (hts : ∀ w ∈ lw_tbl, w.before #[Value.ref b] s = true) (hn : ∀ c ∈ flN, c.before #[Value.ref b] s = true) (hA : ∀ a : Nat, a < s.heap.size → ¬ A a) : ∃ a : Nat, vk_R "ApartBenchModel" 271 "inn" a s ∧ va_O "java/lang/String" a A s s.heap ∧ va_OF "java/lang/String" "coder" "B" (.int 0) a A s s.heap ∧ (∃ v : Nat, va_OF "java/lang/String" "value" "[B" (.ref v) a A s s.heap ∧ va_T .byte v 3 (fun i => .int (nI (([105, 110, 110] : List Nat).getD i 0))) A s s.heap ∧ 3 < 1000 ∧ ∀ c ∈ ([105, 110, 110] : List Nat), c < 128) := by
  have hm : ∀ j : Nat, j < 3 → Cond.eq (.elem (.field (.string "ApartBenchModel" 271) "java/lang/String" "value" "[B") (.int (Int32.ofNat j))) (.int (nI (([105, 110, 110] : List Nat).getD j 0))) ∈ flN := by decide +kernel
  obtain ⟨a, h1, h2, h3, h4⟩ := lit_of (own := "ApartBenchModel") (k := 271) (tx := [105, 110, 110]) (by decide) (by decide) (hn _ (by decide +kernel)) (hn _ (by decide +kernel)) (hn _ (by decide +kernel)) (hn _ (by decide +kernel)) (fun j hj => hn _ (hm j hj)) hA
  exact ⟨a, vk_R.of (hts _ q2039) h1, h2, h3, h4⟩
set_option maxHeartbeats 4000000 in
theorem litS14 {b : Nat} {s : State} {A : Nat → Prop} (hts : ∀ w ∈ lw_tbl, w.before #[Value.ref b] s = true) (hn : ∀ c ∈ flN, c.before #[Value.ref b] s = true) (hA : ∀ a : Nat, a < s.heap.size → ¬ A a) : ∃ a : Nat, vk_R "ApartBenchModel" 289 "road" a s ∧ va_O "java/lang/String" a A s s.heap ∧ va_OF "java/lang/String" "coder" "B" (.int 0) a A s s.heap ∧ (∃ v : Nat, va_OF "java/lang/String" "value" "[B" (.ref v) a A s s.heap ∧ va_T .byte v 4 (fun i => .int (nI (([114, 111, 97, 100] : List Nat).getD i 0))) A s s.heap ∧ 4 < 1000 ∧ ∀ c ∈ ([114, 111, 97, 100] : List Nat), c < 128) := by
  have hm : ∀ j : Nat, j < 4 → Cond.eq (.elem (.field (.string "ApartBenchModel" 289) "java/lang/String" "value" "[B") (.int (Int32.ofNat j))) (.int (nI (([114, 111, 97, 100] : List Nat).getD j 0))) ∈ flN := by decide +kernel
  obtain ⟨a, h1, h2, h3, h4⟩ := lit_of (own := "ApartBenchModel") (k := 289) (tx := [114, 111, 97, 100]) (by decide) (by decide) (hn _ (by decide +kernel)) (hn _ (by decide +kernel)) (hn _ (by decide +kernel)) (hn _ (by decide +kernel)) (fun j hj => hn _ (hm j hj)) hA
  exact ⟨a, vk_R.of (hts _ q2040) h1, h2, h3, h4⟩
set_option maxHeartbeats 4000000 in
theorem litS15 {b : Nat} {s : State} {A : Nat → Prop} (hts : ∀ w ∈ lw_tbl, w.before #[Value.ref b] s = true) (hn : ∀ c ∈ flN, c.before #[Value.ref b] s = true) (hA : ∀ a : Nat, a < s.heap.size → ¬ A a) : ∃ a : Nat, vk_R "ApartBenchModel" 293 "case" a s ∧ va_O "java/lang/String" a A s s.heap ∧ va_OF "java/lang/String" "coder" "B" (.int 0) a A s s.heap ∧ (∃ v : Nat, va_OF "java/lang/String" "value" "[B" (.ref v) a A s s.heap ∧ va_T .byte v 4 (fun i => .int (nI (([99, 97, 115, 101] : List Nat).getD i 0))) A s s.heap ∧ 4 < 1000 ∧ ∀ c ∈ ([99, 97, 115, 101] : List Nat), c < 128) := by
  have hm : ∀ j : Nat, j < 4 → Cond.eq (.elem (.field (.string "ApartBenchModel" 293) "java/lang/String" "value" "[B") (.int (Int32.ofNat j))) (.int (nI (([99, 97, 115, 101] : List Nat).getD j 0))) ∈ flN := by decide +kernel
  obtain ⟨a, h1, h2, h3, h4⟩ := lit_of (own := "ApartBenchModel") (k := 293) (tx := [99, 97, 115, 101]) (by decide) (by decide) (hn _ (by decide +kernel)) (hn _ (by decide +kernel)) (hn _ (by decide +kernel)) (hn _ (by decide +kernel)) (fun j hj => hn _ (hm j hj)) hA
  exact ⟨a, vk_R.of (hts _ q2045) h1, h2, h3, h4⟩
set_option maxHeartbeats 4000000 in
theorem litS16 {b : Nat} {s : State} {A : Nat → Prop} (hts : ∀ w ∈ lw_tbl, w.before #[Value.ref b] s = true) (hn : ∀ c ∈ flN, c.before #[Value.ref b] s = true) (hA : ∀ a : Nat, a < s.heap.size → ¬ A a) : ∃ a : Nat, vk_R "ApartBench$Reader" 9 "" a s ∧ va_O "java/lang/String" a A s s.heap ∧ va_OF "java/lang/String" "coder" "B" (.int 0) a A s s.heap ∧ (∃ v : Nat, va_OF "java/lang/String" "value" "[B" (.ref v) a A s s.heap ∧ va_T .byte v 0 (fun i => .int (nI (([] : List Nat).getD i 0))) A s s.heap ∧ 0 < 1000 ∧ ∀ c ∈ ([] : List Nat), c < 128) := by
  have hm : ∀ j : Nat, j < 0 → Cond.eq (.elem (.field (.string "ApartBench$Reader" 9) "java/lang/String" "value" "[B") (.int (Int32.ofNat j))) (.int (nI (([] : List Nat).getD j 0))) ∈ flN := by decide +kernel
  obtain ⟨a, h1, h2, h3, h4⟩ := lit_of (own := "ApartBench$Reader") (k := 9) (tx := []) (by decide) (by decide) (hn _ (by decide +kernel)) (hn _ (by decide +kernel)) (hn _ (by decide +kernel)) (hn _ (by decide +kernel)) (fun j hj => hn _ (hm j hj)) hA
  exact ⟨a, vk_R.of (hts _ q914) h1, h2, h3, h4⟩
set_option maxHeartbeats 4000000 in
theorem litS17 {b : Nat} {s : State} {A : Nat → Prop} (hts : ∀ w ∈ lw_tbl, w.before #[Value.ref b] s = true) (hn : ∀ c ∈ flN, c.before #[Value.ref b] s = true) (hA : ∀ a : Nat, a < s.heap.size → ¬ A a) : ∃ a : Nat, vk_R "ApartBench$Reader" 123 "town" a s ∧ va_O "java/lang/String" a A s s.heap ∧ va_OF "java/lang/String" "coder" "B" (.int 0) a A s s.heap ∧ (∃ v : Nat, va_OF "java/lang/String" "value" "[B" (.ref v) a A s s.heap ∧ va_T .byte v 4 (fun i => .int (nI (([116, 111, 119, 110] : List Nat).getD i 0))) A s s.heap ∧ 4 < 1000 ∧ ∀ c ∈ ([116, 111, 119, 110] : List Nat), c < 128) := by
  have hm : ∀ j : Nat, j < 4 → Cond.eq (.elem (.field (.string "ApartBench$Reader" 123) "java/lang/String" "value" "[B") (.int (Int32.ofNat j))) (.int (nI (([116, 111, 119, 110] : List Nat).getD j 0))) ∈ flN := by decide +kernel
  obtain ⟨a, h1, h2, h3, h4⟩ := lit_of (own := "ApartBench$Reader") (k := 123) (tx := [116, 111, 119, 110]) (by decide) (by decide) (hn _ (by decide +kernel)) (hn _ (by decide +kernel)) (hn _ (by decide +kernel)) (hn _ (by decide +kernel)) (fun j hj => hn _ (hm j hj)) hA
  exact ⟨a, vk_R.of (hts _ q1016) h1, h2, h3, h4⟩
set_option maxHeartbeats 4000000 in
theorem litS18 {b : Nat} {s : State} {A : Nat → Prop} (hts : ∀ w ∈ lw_tbl, w.before #[Value.ref b] s = true) (hn : ∀ c ∈ flN, c.before #[Value.ref b] s = true) (hA : ∀ a : Nat, a < s.heap.size → ¬ A a) : ∃ a : Nat, vk_R "ApartBench$Reader" 128 "inn" a s ∧ va_O "java/lang/String" a A s s.heap ∧ va_OF "java/lang/String" "coder" "B" (.int 0) a A s s.heap ∧ (∃ v : Nat, va_OF "java/lang/String" "value" "[B" (.ref v) a A s s.heap ∧ va_T .byte v 3 (fun i => .int (nI (([105, 110, 110] : List Nat).getD i 0))) A s s.heap ∧ 3 < 1000 ∧ ∀ c ∈ ([105, 110, 110] : List Nat), c < 128) := by
  have hm : ∀ j : Nat, j < 3 → Cond.eq (.elem (.field (.string "ApartBench$Reader" 128) "java/lang/String" "value" "[B") (.int (Int32.ofNat j))) (.int (nI (([105, 110, 110] : List Nat).getD j 0))) ∈ flN := by decide +kernel
  obtain ⟨a, h1, h2, h3, h4⟩ := lit_of (own := "ApartBench$Reader") (k := 128) (tx := [105, 110, 110]) (by decide) (by decide) (hn _ (by decide +kernel)) (hn _ (by decide +kernel)) (hn _ (by decide +kernel)) (hn _ (by decide +kernel)) (fun j hj => hn _ (hm j hj)) hA
  exact ⟨a, vk_R.of (hts _ q1055) h1, h2, h3, h4⟩
set_option maxHeartbeats 4000000 in
theorem litS19 {b : Nat} {s : State} {A : Nat → Prop} (hts : ∀ w ∈ lw_tbl, w.before #[Value.ref b] s = true) (hn : ∀ c ∈ flN, c.before #[Value.ref b] s = true) (hA : ∀ a : Nat, a < s.heap.size → ¬ A a) : ∃ a : Nat, vk_R "ApartBench$Reader" 133 "road" a s ∧ va_O "java/lang/String" a A s s.heap ∧ va_OF "java/lang/String" "coder" "B" (.int 0) a A s s.heap ∧ (∃ v : Nat, va_OF "java/lang/String" "value" "[B" (.ref v) a A s s.heap ∧ va_T .byte v 4 (fun i => .int (nI (([114, 111, 97, 100] : List Nat).getD i 0))) A s s.heap ∧ 4 < 1000 ∧ ∀ c ∈ ([114, 111, 97, 100] : List Nat), c < 128) := by
  have hm : ∀ j : Nat, j < 4 → Cond.eq (.elem (.field (.string "ApartBench$Reader" 133) "java/lang/String" "value" "[B") (.int (Int32.ofNat j))) (.int (nI (([114, 111, 97, 100] : List Nat).getD j 0))) ∈ flN := by decide +kernel
  obtain ⟨a, h1, h2, h3, h4⟩ := lit_of (own := "ApartBench$Reader") (k := 133) (tx := [114, 111, 97, 100]) (by decide) (by decide) (hn _ (by decide +kernel)) (hn _ (by decide +kernel)) (hn _ (by decide +kernel)) (hn _ (by decide +kernel)) (fun j hj => hn _ (hm j hj)) hA
  exact ⟨a, vk_R.of (hts _ q1056) h1, h2, h3, h4⟩
set_option maxHeartbeats 4000000 in
theorem litS20 {b : Nat} {s : State} {A : Nat → Prop} (hts : ∀ w ∈ lw_tbl, w.before #[Value.ref b] s = true) (hn : ∀ c ∈ flN, c.before #[Value.ref b] s = true) (hA : ∀ a : Nat, a < s.heap.size → ¬ A a) : ∃ a : Nat, vk_R "ApartBench$Reader" 141 "gossip" a s ∧ va_O "java/lang/String" a A s s.heap ∧ va_OF "java/lang/String" "coder" "B" (.int 0) a A s s.heap ∧ (∃ v : Nat, va_OF "java/lang/String" "value" "[B" (.ref v) a A s s.heap ∧ va_T .byte v 6 (fun i => .int (nI (([103, 111, 115, 115, 105, 112] : List Nat).getD i 0))) A s s.heap ∧ 6 < 1000 ∧ ∀ c ∈ ([103, 111, 115, 115, 105, 112] : List Nat), c < 128) := by
  have hm : ∀ j : Nat, j < 6 → Cond.eq (.elem (.field (.string "ApartBench$Reader" 141) "java/lang/String" "value" "[B") (.int (Int32.ofNat j))) (.int (nI (([103, 111, 115, 115, 105, 112] : List Nat).getD j 0))) ∈ flN := by decide +kernel
  obtain ⟨a, h1, h2, h3, h4⟩ := lit_of (own := "ApartBench$Reader") (k := 141) (tx := [103, 111, 115, 115, 105, 112]) (by decide) (by decide) (hn _ (by decide +kernel)) (hn _ (by decide +kernel)) (hn _ (by decide +kernel)) (hn _ (by decide +kernel)) (fun j hj => hn _ (hm j hj)) hA
  exact ⟨a, vk_R.of (hts _ q1069) h1, h2, h3, h4⟩
set_option maxHeartbeats 4000000 in
theorem litS21 {b : Nat} {s : State} {A : Nat → Prop} (hts : ∀ w ∈ lw_tbl, w.before #[Value.ref b] s = true) (hn : ∀ c ∈ flN, c.before #[Value.ref b] s = true) (hA : ∀ a : Nat, a < s.heap.size → ¬ A a) : ∃ a : Nat, vk_R "ApartBench$Reader" 153 "law" a s ∧ va_O "java/lang/String" a A s s.heap ∧ va_OF "java/lang/String" "coder" "B" (.int 0) a A s s.heap ∧ (∃ v : Nat, va_OF "java/lang/String" "value" "[B" (.ref v) a A s s.heap ∧ va_T .byte v 3 (fun i => .int (nI (([108, 97, 119] : List Nat).getD i 0))) A s s.heap ∧ 3 < 1000 ∧ ∀ c ∈ ([108, 97, 119] : List Nat), c < 128) := by
  have hm : ∀ j : Nat, j < 3 → Cond.eq (.elem (.field (.string "ApartBench$Reader" 153) "java/lang/String" "value" "[B") (.int (Int32.ofNat j))) (.int (nI (([108, 97, 119] : List Nat).getD j 0))) ∈ flN := by decide +kernel
  obtain ⟨a, h1, h2, h3, h4⟩ := lit_of (own := "ApartBench$Reader") (k := 153) (tx := [108, 97, 119]) (by decide) (by decide) (hn _ (by decide +kernel)) (hn _ (by decide +kernel)) (hn _ (by decide +kernel)) (hn _ (by decide +kernel)) (fun j hj => hn _ (hm j hj)) hA
  exact ⟨a, vk_R.of (hts _ q1074) h1, h2, h3, h4⟩
set_option maxHeartbeats 4000000 in
theorem litS22 {b : Nat} {s : State} {A : Nat → Prop} (hts : ∀ w ∈ lw_tbl, w.before #[Value.ref b] s = true) (hn : ∀ c ∈ flN, c.before #[Value.ref b] s = true) (hA : ∀ a : Nat, a < s.heap.size → ¬ A a) : ∃ a : Nat, vk_R "ApartBench$Reader" 221 "(" a s ∧ va_O "java/lang/String" a A s s.heap ∧ va_OF "java/lang/String" "coder" "B" (.int 0) a A s s.heap ∧ (∃ v : Nat, va_OF "java/lang/String" "value" "[B" (.ref v) a A s s.heap ∧ va_T .byte v 1 (fun i => .int (nI (([40] : List Nat).getD i 0))) A s s.heap ∧ 1 < 1000 ∧ ∀ c ∈ ([40] : List Nat), c < 128) := by
  have hm : ∀ j : Nat, j < 1 → Cond.eq (.elem (.field (.string "ApartBench$Reader" 221) "java/lang/String" "value" "[B") (.int (Int32.ofNat j))) (.int (nI (([40] : List Nat).getD j 0))) ∈ flN := by decide +kernel
  obtain ⟨a, h1, h2, h3, h4⟩ := lit_of (own := "ApartBench$Reader") (k := 221) (tx := [40]) (by decide) (by decide) (hn _ (by decide +kernel)) (hn _ (by decide +kernel)) (hn _ (by decide +kernel)) (hn _ (by decide +kernel)) (fun j hj => hn _ (hm j hj)) hA
  exact ⟨a, vk_R.of (hts _ q1079) h1, h2, h3, h4⟩
set_option maxHeartbeats 4000000 in
theorem litS23 {b : Nat} {s : State} {A : Nat → Prop} (hts : ∀ w ∈ lw_tbl, w.before #[Value.ref b] s = true) (hn : ∀ c ∈ flN, c.before #[Value.ref b] s = true) (hA : ∀ a : Nat, a < s.heap.size → ¬ A a) : ∃ a : Nat, vk_R "ApartBench$Reader" 237 "not" a s ∧ va_O "java/lang/String" a A s s.heap ∧ va_OF "java/lang/String" "coder" "B" (.int 0) a A s s.heap ∧ (∃ v : Nat, va_OF "java/lang/String" "value" "[B" (.ref v) a A s s.heap ∧ va_T .byte v 3 (fun i => .int (nI (([110, 111, 116] : List Nat).getD i 0))) A s s.heap ∧ 3 < 1000 ∧ ∀ c ∈ ([110, 111, 116] : List Nat), c < 128) := by
  have hm : ∀ j : Nat, j < 3 → Cond.eq (.elem (.field (.string "ApartBench$Reader" 237) "java/lang/String" "value" "[B") (.int (Int32.ofNat j))) (.int (nI (([110, 111, 116] : List Nat).getD j 0))) ∈ flN := by decide +kernel
  obtain ⟨a, h1, h2, h3, h4⟩ := lit_of (own := "ApartBench$Reader") (k := 237) (tx := [110, 111, 116]) (by decide) (by decide) (hn _ (by decide +kernel)) (hn _ (by decide +kernel)) (hn _ (by decide +kernel)) (hn _ (by decide +kernel)) (fun j hj => hn _ (hm j hj)) hA
  exact ⟨a, vk_R.of (hts _ q1088) h1, h2, h3, h4⟩
set_option maxHeartbeats 4000000 in
theorem litS24 {b : Nat} {s : State} {A : Nat → Prop} (hts : ∀ w ∈ lw_tbl, w.before #[Value.ref b] s = true) (hn : ∀ c ∈ flN, c.before #[Value.ref b] s = true) (hA : ∀ a : Nat, a < s.heap.size → ¬ A a) : ∃ a : Nat, vk_R "ApartBench$Reader" 271 ")" a s ∧ va_O "java/lang/String" a A s s.heap ∧ va_OF "java/lang/String" "coder" "B" (.int 0) a A s s.heap ∧ (∃ v : Nat, va_OF "java/lang/String" "value" "[B" (.ref v) a A s s.heap ∧ va_T .byte v 1 (fun i => .int (nI (([41] : List Nat).getD i 0))) A s s.heap ∧ 1 < 1000 ∧ ∀ c ∈ ([41] : List Nat), c < 128) := by
  have hm : ∀ j : Nat, j < 1 → Cond.eq (.elem (.field (.string "ApartBench$Reader" 271) "java/lang/String" "value" "[B") (.int (Int32.ofNat j))) (.int (nI (([41] : List Nat).getD j 0))) ∈ flN := by decide +kernel
  obtain ⟨a, h1, h2, h3, h4⟩ := lit_of (own := "ApartBench$Reader") (k := 271) (tx := [41]) (by decide) (by decide) (hn _ (by decide +kernel)) (hn _ (by decide +kernel)) (hn _ (by decide +kernel)) (hn _ (by decide +kernel)) (fun j hj => hn _ (hm j hj)) hA
  exact ⟨a, vk_R.of (hts _ q1114) h1, h2, h3, h4⟩
set_option maxHeartbeats 4000000 in
theorem litS25 {b : Nat} {s : State} {A : Nat → Prop} (hts : ∀ w ∈ lw_tbl, w.before #[Value.ref b] s = true) (hn : ∀ c ∈ flN, c.before #[Value.ref b] s = true) (hA : ∀ a : Nat, a < s.heap.size → ¬ A a) : ∃ a : Nat, vk_R "ApartBench$Reader" 281 "proof" a s ∧ va_O "java/lang/String" a A s s.heap ∧ va_OF "java/lang/String" "coder" "B" (.int 0) a A s s.heap ∧ (∃ v : Nat, va_OF "java/lang/String" "value" "[B" (.ref v) a A s s.heap ∧ va_T .byte v 5 (fun i => .int (nI (([112, 114, 111, 111, 102] : List Nat).getD i 0))) A s s.heap ∧ 5 < 1000 ∧ ∀ c ∈ ([112, 114, 111, 111, 102] : List Nat), c < 128) := by
  have hm : ∀ j : Nat, j < 5 → Cond.eq (.elem (.field (.string "ApartBench$Reader" 281) "java/lang/String" "value" "[B") (.int (Int32.ofNat j))) (.int (nI (([112, 114, 111, 111, 102] : List Nat).getD j 0))) ∈ flN := by decide +kernel
  obtain ⟨a, h1, h2, h3, h4⟩ := lit_of (own := "ApartBench$Reader") (k := 281) (tx := [112, 114, 111, 111, 102]) (by decide) (by decide) (hn _ (by decide +kernel)) (hn _ (by decide +kernel)) (hn _ (by decide +kernel)) (hn _ (by decide +kernel)) (fun j hj => hn _ (hm j hj)) hA
  exact ⟨a, vk_R.of (hts _ q1122) h1, h2, h3, h4⟩
set_option maxHeartbeats 4000000 in
theorem litS26 {b : Nat} {s : State} {A : Nat → Prop} (hts : ∀ w ∈ lw_tbl, w.before #[Value.ref b] s = true) (hn : ∀ c ∈ flN, c.before #[Value.ref b] s = true) (hA : ∀ a : Nat, a < s.heap.size → ¬ A a) : ∃ a : Nat, vk_R "ApartBench$Reader" 289 "harsh" a s ∧ va_O "java/lang/String" a A s s.heap ∧ va_OF "java/lang/String" "coder" "B" (.int 0) a A s s.heap ∧ (∃ v : Nat, va_OF "java/lang/String" "value" "[B" (.ref v) a A s s.heap ∧ va_T .byte v 5 (fun i => .int (nI (([104, 97, 114, 115, 104] : List Nat).getD i 0))) A s s.heap ∧ 5 < 1000 ∧ ∀ c ∈ ([104, 97, 114, 115, 104] : List Nat), c < 128) := by
  have hm : ∀ j : Nat, j < 5 → Cond.eq (.elem (.field (.string "ApartBench$Reader" 289) "java/lang/String" "value" "[B") (.int (Int32.ofNat j))) (.int (nI (([104, 97, 114, 115, 104] : List Nat).getD j 0))) ∈ flN := by decide +kernel
  obtain ⟨a, h1, h2, h3, h4⟩ := lit_of (own := "ApartBench$Reader") (k := 289) (tx := [104, 97, 114, 115, 104]) (by decide) (by decide) (hn _ (by decide +kernel)) (hn _ (by decide +kernel)) (hn _ (by decide +kernel)) (hn _ (by decide +kernel)) (fun j hj => hn _ (hm j hj)) hA
  exact ⟨a, vk_R.of (hts _ q1125) h1, h2, h3, h4⟩
set_option maxHeartbeats 4000000 in
theorem litS27 {b : Nat} {s : State} {A : Nat → Prop} (hts : ∀ w ∈ lw_tbl, w.before #[Value.ref b] s = true) (hn : ∀ c ∈ flN, c.before #[Value.ref b] s = true) (hA : ∀ a : Nat, a < s.heap.size → ¬ A a) : ∃ a : Nat, vk_R "ApartBench$Reader" 294 "day" a s ∧ va_O "java/lang/String" a A s s.heap ∧ va_OF "java/lang/String" "coder" "B" (.int 0) a A s s.heap ∧ (∃ v : Nat, va_OF "java/lang/String" "value" "[B" (.ref v) a A s s.heap ∧ va_T .byte v 3 (fun i => .int (nI (([100, 97, 121] : List Nat).getD i 0))) A s s.heap ∧ 3 < 1000 ∧ ∀ c ∈ ([100, 97, 121] : List Nat), c < 128) := by
  have hm : ∀ j : Nat, j < 3 → Cond.eq (.elem (.field (.string "ApartBench$Reader" 294) "java/lang/String" "value" "[B") (.int (Int32.ofNat j))) (.int (nI (([100, 97, 121] : List Nat).getD j 0))) ∈ flN := by decide +kernel
  obtain ⟨a, h1, h2, h3, h4⟩ := lit_of (own := "ApartBench$Reader") (k := 294) (tx := [100, 97, 121]) (by decide) (by decide) (hn _ (by decide +kernel)) (hn _ (by decide +kernel)) (hn _ (by decide +kernel)) (hn _ (by decide +kernel)) (fun j hj => hn _ (hm j hj)) hA
  exact ⟨a, vk_R.of (hts _ q1128) h1, h2, h3, h4⟩
set_option maxHeartbeats 4000000 in
theorem litS28 {b : Nat} {s : State} {A : Nat → Prop} (hts : ∀ w ∈ lw_tbl, w.before #[Value.ref b] s = true) (hn : ∀ c ∈ flN, c.before #[Value.ref b] s = true) (hA : ∀ a : Nat, a < s.heap.size → ¬ A a) : ∃ a : Nat, vk_R "ApartBench$Reader" 302 "said" a s ∧ va_O "java/lang/String" a A s s.heap ∧ va_OF "java/lang/String" "coder" "B" (.int 0) a A s s.heap ∧ (∃ v : Nat, va_OF "java/lang/String" "value" "[B" (.ref v) a A s s.heap ∧ va_T .byte v 4 (fun i => .int (nI (([115, 97, 105, 100] : List Nat).getD i 0))) A s s.heap ∧ 4 < 1000 ∧ ∀ c ∈ ([115, 97, 105, 100] : List Nat), c < 128) := by
  have hm : ∀ j : Nat, j < 4 → Cond.eq (.elem (.field (.string "ApartBench$Reader" 302) "java/lang/String" "value" "[B") (.int (Int32.ofNat j))) (.int (nI (([115, 97, 105, 100] : List Nat).getD j 0))) ∈ flN := by decide +kernel
  obtain ⟨a, h1, h2, h3, h4⟩ := lit_of (own := "ApartBench$Reader") (k := 302) (tx := [115, 97, 105, 100]) (by decide) (by decide) (hn _ (by decide +kernel)) (hn _ (by decide +kernel)) (hn _ (by decide +kernel)) (hn _ (by decide +kernel)) (fun j hj => hn _ (hm j hj)) hA
  exact ⟨a, vk_R.of (hts _ q1133) h1, h2, h3, h4⟩
set_option maxHeartbeats 4000000 in
theorem litS29 {b : Nat} {s : State} {A : Nat → Prop} (hts : ∀ w ∈ lw_tbl, w.before #[Value.ref b] s = true) (hn : ∀ c ∈ flN, c.before #[Value.ref b] s = true) (hA : ∀ a : Nat, a < s.heap.size → ¬ A a) : ∃ a : Nat, vk_R "ApartBench$Reader" 264 "*" a s ∧ va_O "java/lang/String" a A s s.heap ∧ va_OF "java/lang/String" "coder" "B" (.int 0) a A s s.heap ∧ (∃ v : Nat, va_OF "java/lang/String" "value" "[B" (.ref v) a A s s.heap ∧ va_T .byte v 1 (fun i => .int (nI (([42] : List Nat).getD i 0))) A s s.heap ∧ 1 < 1000 ∧ ∀ c ∈ ([42] : List Nat), c < 128) := by
  have hm : ∀ j : Nat, j < 1 → Cond.eq (.elem (.field (.string "ApartBench$Reader" 264) "java/lang/String" "value" "[B") (.int (Int32.ofNat j))) (.int (nI (([42] : List Nat).getD j 0))) ∈ flN := by decide +kernel
  obtain ⟨a, h1, h2, h3, h4⟩ := lit_of (own := "ApartBench$Reader") (k := 264) (tx := [42]) (by decide) (by decide) (hn _ (by decide +kernel)) (hn _ (by decide +kernel)) (hn _ (by decide +kernel)) (hn _ (by decide +kernel)) (fun j hj => hn _ (hm j hj)) hA
  exact ⟨a, vk_R.of (hts _ q1146) h1, h2, h3, h4⟩
set_option maxHeartbeats 4000000 in
theorem litS30 {b : Nat} {s : State} {A : Nat → Prop} (hts : ∀ w ∈ lw_tbl, w.before #[Value.ref b] s = true) (hn : ∀ c ∈ flN, c.before #[Value.ref b] s = true) (hA : ∀ a : Nat, a < s.heap.size → ¬ A a) : ∃ a : Nat, vk_R "ApartBench$Reader" 266 "/" a s ∧ va_O "java/lang/String" a A s s.heap ∧ va_OF "java/lang/String" "coder" "B" (.int 0) a A s s.heap ∧ (∃ v : Nat, va_OF "java/lang/String" "value" "[B" (.ref v) a A s s.heap ∧ va_T .byte v 1 (fun i => .int (nI (([47] : List Nat).getD i 0))) A s s.heap ∧ 1 < 1000 ∧ ∀ c ∈ ([47] : List Nat), c < 128) := by
  have hm : ∀ j : Nat, j < 1 → Cond.eq (.elem (.field (.string "ApartBench$Reader" 266) "java/lang/String" "value" "[B") (.int (Int32.ofNat j))) (.int (nI (([47] : List Nat).getD j 0))) ∈ flN := by decide +kernel
  obtain ⟨a, h1, h2, h3, h4⟩ := lit_of (own := "ApartBench$Reader") (k := 266) (tx := [47]) (by decide) (by decide) (hn _ (by decide +kernel)) (hn _ (by decide +kernel)) (hn _ (by decide +kernel)) (hn _ (by decide +kernel)) (fun j hj => hn _ (hm j hj)) hA
  exact ⟨a, vk_R.of (hts _ q1147) h1, h2, h3, h4⟩
set_option maxHeartbeats 4000000 in
theorem litS31 {b : Nat} {s : State} {A : Nat → Prop} (hts : ∀ w ∈ lw_tbl, w.before #[Value.ref b] s = true) (hn : ∀ c ∈ flN, c.before #[Value.ref b] s = true) (hA : ∀ a : Nat, a < s.heap.size → ¬ A a) : ∃ a : Nat, vk_R "ApartBench$Reader" 257 "+" a s ∧ va_O "java/lang/String" a A s s.heap ∧ va_OF "java/lang/String" "coder" "B" (.int 0) a A s s.heap ∧ (∃ v : Nat, va_OF "java/lang/String" "value" "[B" (.ref v) a A s s.heap ∧ va_T .byte v 1 (fun i => .int (nI (([43] : List Nat).getD i 0))) A s s.heap ∧ 1 < 1000 ∧ ∀ c ∈ ([43] : List Nat), c < 128) := by
  have hm : ∀ j : Nat, j < 1 → Cond.eq (.elem (.field (.string "ApartBench$Reader" 257) "java/lang/String" "value" "[B") (.int (Int32.ofNat j))) (.int (nI (([43] : List Nat).getD j 0))) ∈ flN := by decide +kernel
  obtain ⟨a, h1, h2, h3, h4⟩ := lit_of (own := "ApartBench$Reader") (k := 257) (tx := [43]) (by decide) (by decide) (hn _ (by decide +kernel)) (hn _ (by decide +kernel)) (hn _ (by decide +kernel)) (hn _ (by decide +kernel)) (fun j hj => hn _ (hm j hj)) hA
  exact ⟨a, vk_R.of (hts _ q1179) h1, h2, h3, h4⟩
set_option maxHeartbeats 4000000 in
theorem litS32 {b : Nat} {s : State} {A : Nat → Prop} (hts : ∀ w ∈ lw_tbl, w.before #[Value.ref b] s = true) (hn : ∀ c ∈ flN, c.before #[Value.ref b] s = true) (hA : ∀ a : Nat, a < s.heap.size → ¬ A a) : ∃ a : Nat, vk_R "ApartBench$Reader" 259 "-" a s ∧ va_O "java/lang/String" a A s s.heap ∧ va_OF "java/lang/String" "coder" "B" (.int 0) a A s s.heap ∧ (∃ v : Nat, va_OF "java/lang/String" "value" "[B" (.ref v) a A s s.heap ∧ va_T .byte v 1 (fun i => .int (nI (([45] : List Nat).getD i 0))) A s s.heap ∧ 1 < 1000 ∧ ∀ c ∈ ([45] : List Nat), c < 128) := by
  have hm : ∀ j : Nat, j < 1 → Cond.eq (.elem (.field (.string "ApartBench$Reader" 259) "java/lang/String" "value" "[B") (.int (Int32.ofNat j))) (.int (nI (([45] : List Nat).getD j 0))) ∈ flN := by decide +kernel
  obtain ⟨a, h1, h2, h3, h4⟩ := lit_of (own := "ApartBench$Reader") (k := 259) (tx := [45]) (by decide) (by decide) (hn _ (by decide +kernel)) (hn _ (by decide +kernel)) (hn _ (by decide +kernel)) (hn _ (by decide +kernel)) (fun j hj => hn _ (hm j hj)) hA
  exact ⟨a, vk_R.of (hts _ q1180) h1, h2, h3, h4⟩
set_option maxHeartbeats 4000000 in
theorem litS33 {b : Nat} {s : State} {A : Nat → Prop} (hts : ∀ w ∈ lw_tbl, w.before #[Value.ref b] s = true) (hn : ∀ c ∈ flN, c.before #[Value.ref b] s = true) (hA : ∀ a : Nat, a < s.heap.size → ¬ A a) : ∃ a : Nat, vk_R "ApartBench$Reader" 241 "<" a s ∧ va_O "java/lang/String" a A s s.heap ∧ va_OF "java/lang/String" "coder" "B" (.int 0) a A s s.heap ∧ (∃ v : Nat, va_OF "java/lang/String" "value" "[B" (.ref v) a A s s.heap ∧ va_T .byte v 1 (fun i => .int (nI (([60] : List Nat).getD i 0))) A s s.heap ∧ 1 < 1000 ∧ ∀ c ∈ ([60] : List Nat), c < 128) := by
  have hm : ∀ j : Nat, j < 1 → Cond.eq (.elem (.field (.string "ApartBench$Reader" 241) "java/lang/String" "value" "[B") (.int (Int32.ofNat j))) (.int (nI (([60] : List Nat).getD j 0))) ∈ flN := by decide +kernel
  obtain ⟨a, h1, h2, h3, h4⟩ := lit_of (own := "ApartBench$Reader") (k := 241) (tx := [60]) (by decide) (by decide) (hn _ (by decide +kernel)) (hn _ (by decide +kernel)) (hn _ (by decide +kernel)) (hn _ (by decide +kernel)) (fun j hj => hn _ (hm j hj)) hA
  exact ⟨a, vk_R.of (hts _ q1181) h1, h2, h3, h4⟩
set_option maxHeartbeats 4000000 in
theorem litS34 {b : Nat} {s : State} {A : Nat → Prop} (hts : ∀ w ∈ lw_tbl, w.before #[Value.ref b] s = true) (hn : ∀ c ∈ flN, c.before #[Value.ref b] s = true) (hA : ∀ a : Nat, a < s.heap.size → ¬ A a) : ∃ a : Nat, vk_R "ApartBench$Reader" 243 "=" a s ∧ va_O "java/lang/String" a A s s.heap ∧ va_OF "java/lang/String" "coder" "B" (.int 0) a A s s.heap ∧ (∃ v : Nat, va_OF "java/lang/String" "value" "[B" (.ref v) a A s s.heap ∧ va_T .byte v 1 (fun i => .int (nI (([61] : List Nat).getD i 0))) A s s.heap ∧ 1 < 1000 ∧ ∀ c ∈ ([61] : List Nat), c < 128) := by
  have hm : ∀ j : Nat, j < 1 → Cond.eq (.elem (.field (.string "ApartBench$Reader" 243) "java/lang/String" "value" "[B") (.int (Int32.ofNat j))) (.int (nI (([61] : List Nat).getD j 0))) ∈ flN := by decide +kernel
  obtain ⟨a, h1, h2, h3, h4⟩ := lit_of (own := "ApartBench$Reader") (k := 243) (tx := [61]) (by decide) (by decide) (hn _ (by decide +kernel)) (hn _ (by decide +kernel)) (hn _ (by decide +kernel)) (hn _ (by decide +kernel)) (fun j hj => hn _ (hm j hj)) hA
  exact ⟨a, vk_R.of (hts _ q1182) h1, h2, h3, h4⟩
set_option maxHeartbeats 4000000 in
theorem litS35 {b : Nat} {s : State} {A : Nat → Prop} (hts : ∀ w ∈ lw_tbl, w.before #[Value.ref b] s = true) (hn : ∀ c ∈ flN, c.before #[Value.ref b] s = true) (hA : ∀ a : Nat, a < s.heap.size → ¬ A a) : ∃ a : Nat, vk_R "ApartBench$Reader" 236 "and" a s ∧ va_O "java/lang/String" a A s s.heap ∧ va_OF "java/lang/String" "coder" "B" (.int 0) a A s s.heap ∧ (∃ v : Nat, va_OF "java/lang/String" "value" "[B" (.ref v) a A s s.heap ∧ va_T .byte v 3 (fun i => .int (nI (([97, 110, 100] : List Nat).getD i 0))) A s s.heap ∧ 3 < 1000 ∧ ∀ c ∈ ([97, 110, 100] : List Nat), c < 128) := by
  have hm : ∀ j : Nat, j < 3 → Cond.eq (.elem (.field (.string "ApartBench$Reader" 236) "java/lang/String" "value" "[B") (.int (Int32.ofNat j))) (.int (nI (([97, 110, 100] : List Nat).getD j 0))) ∈ flN := by decide +kernel
  obtain ⟨a, h1, h2, h3, h4⟩ := lit_of (own := "ApartBench$Reader") (k := 236) (tx := [97, 110, 100]) (by decide) (by decide) (hn _ (by decide +kernel)) (hn _ (by decide +kernel)) (hn _ (by decide +kernel)) (hn _ (by decide +kernel)) (fun j hj => hn _ (hm j hj)) hA
  exact ⟨a, vk_R.of (hts _ q1193) h1, h2, h3, h4⟩
set_option maxHeartbeats 4000000 in
theorem litS36 {b : Nat} {s : State} {A : Nat → Prop} (hts : ∀ w ∈ lw_tbl, w.before #[Value.ref b] s = true) (hn : ∀ c ∈ flN, c.before #[Value.ref b] s = true) (hA : ∀ a : Nat, a < s.heap.size → ¬ A a) : ∃ a : Nat, vk_R "ApartBench$Reader" 226 "or" a s ∧ va_O "java/lang/String" a A s s.heap ∧ va_OF "java/lang/String" "coder" "B" (.int 0) a A s s.heap ∧ (∃ v : Nat, va_OF "java/lang/String" "value" "[B" (.ref v) a A s s.heap ∧ va_T .byte v 2 (fun i => .int (nI (([111, 114] : List Nat).getD i 0))) A s s.heap ∧ 2 < 1000 ∧ ∀ c ∈ ([111, 114] : List Nat), c < 128) := by
  have hm : ∀ j : Nat, j < 2 → Cond.eq (.elem (.field (.string "ApartBench$Reader" 226) "java/lang/String" "value" "[B") (.int (Int32.ofNat j))) (.int (nI (([111, 114] : List Nat).getD j 0))) ∈ flN := by decide +kernel
  obtain ⟨a, h1, h2, h3, h4⟩ := lit_of (own := "ApartBench$Reader") (k := 226) (tx := [111, 114]) (by decide) (by decide) (hn _ (by decide +kernel)) (hn _ (by decide +kernel)) (hn _ (by decide +kernel)) (hn _ (by decide +kernel)) (fun j hj => hn _ (hm j hj)) hA
  exact ⟨a, vk_R.of (hts _ q1194) h1, h2, h3, h4⟩
set_option maxHeartbeats 4000000 in
theorem litS37 {b : Nat} {s : State} {A : Nat → Prop} (hts : ∀ w ∈ lw_tbl, w.before #[Value.ref b] s = true) (hn : ∀ c ∈ flN, c.before #[Value.ref b] s = true) (hA : ∀ a : Nat, a < s.heap.size → ¬ A a) : ∃ a : Nat, vk_R "ApartBench$Reader" 162 "case" a s ∧ va_O "java/lang/String" a A s s.heap ∧ va_OF "java/lang/String" "coder" "B" (.int 0) a A s s.heap ∧ (∃ v : Nat, va_OF "java/lang/String" "value" "[B" (.ref v) a A s s.heap ∧ va_T .byte v 4 (fun i => .int (nI (([99, 97, 115, 101] : List Nat).getD i 0))) A s s.heap ∧ 4 < 1000 ∧ ∀ c ∈ ([99, 97, 115, 101] : List Nat), c < 128) := by
  have hm : ∀ j : Nat, j < 4 → Cond.eq (.elem (.field (.string "ApartBench$Reader" 162) "java/lang/String" "value" "[B") (.int (Int32.ofNat j))) (.int (nI (([99, 97, 115, 101] : List Nat).getD j 0))) ∈ flN := by decide +kernel
  obtain ⟨a, h1, h2, h3, h4⟩ := lit_of (own := "ApartBench$Reader") (k := 162) (tx := [99, 97, 115, 101]) (by decide) (by decide) (hn _ (by decide +kernel)) (hn _ (by decide +kernel)) (hn _ (by decide +kernel)) (hn _ (by decide +kernel)) (fun j hj => hn _ (hm j hj)) hA
  exact ⟨a, vk_R.of (hts _ q1195) h1, h2, h3, h4⟩
set_option maxHeartbeats 4000000 in
theorem litS38 {b : Nat} {s : State} {A : Nat → Prop} (hts : ∀ w ∈ lw_tbl, w.before #[Value.ref b] s = true) (hn : ∀ c ∈ flN, c.before #[Value.ref b] s = true) (hA : ∀ a : Nat, a < s.heap.size → ¬ A a) : ∃ a : Nat, vk_R "ApartBench$Reader" 175 "judge" a s ∧ va_O "java/lang/String" a A s s.heap ∧ va_OF "java/lang/String" "coder" "B" (.int 0) a A s s.heap ∧ (∃ v : Nat, va_OF "java/lang/String" "value" "[B" (.ref v) a A s s.heap ∧ va_T .byte v 5 (fun i => .int (nI (([106, 117, 100, 103, 101] : List Nat).getD i 0))) A s s.heap ∧ 5 < 1000 ∧ ∀ c ∈ ([106, 117, 100, 103, 101] : List Nat), c < 128) := by
  have hm : ∀ j : Nat, j < 5 → Cond.eq (.elem (.field (.string "ApartBench$Reader" 175) "java/lang/String" "value" "[B") (.int (Int32.ofNat j))) (.int (nI (([106, 117, 100, 103, 101] : List Nat).getD j 0))) ∈ flN := by decide +kernel
  obtain ⟨a, h1, h2, h3, h4⟩ := lit_of (own := "ApartBench$Reader") (k := 175) (tx := [106, 117, 100, 103, 101]) (by decide) (by decide) (hn _ (by decide +kernel)) (hn _ (by decide +kernel)) (hn _ (by decide +kernel)) (hn _ (by decide +kernel)) (fun j hj => hn _ (hm j hj)) hA
  exact ⟨a, vk_R.of (hts _ q1202) h1, h2, h3, h4⟩
set_option maxHeartbeats 4000000 in
theorem litS39 {b : Nat} {s : State} {A : Nat → Prop} (hts : ∀ w ∈ lw_tbl, w.before #[Value.ref b] s = true) (hn : ∀ c ∈ flN, c.before #[Value.ref b] s = true) (hA : ∀ a : Nat, a < s.heap.size → ¬ A a) : ∃ a : Nat, vk_R "ApartBench$Reader" 177 "deaf" a s ∧ va_O "java/lang/String" a A s s.heap ∧ va_OF "java/lang/String" "coder" "B" (.int 0) a A s s.heap ∧ (∃ v : Nat, va_OF "java/lang/String" "value" "[B" (.ref v) a A s s.heap ∧ va_T .byte v 4 (fun i => .int (nI (([100, 101, 97, 102] : List Nat).getD i 0))) A s s.heap ∧ 4 < 1000 ∧ ∀ c ∈ ([100, 101, 97, 102] : List Nat), c < 128) := by
  have hm : ∀ j : Nat, j < 4 → Cond.eq (.elem (.field (.string "ApartBench$Reader" 177) "java/lang/String" "value" "[B") (.int (Int32.ofNat j))) (.int (nI (([100, 101, 97, 102] : List Nat).getD j 0))) ∈ flN := by decide +kernel
  obtain ⟨a, h1, h2, h3, h4⟩ := lit_of (own := "ApartBench$Reader") (k := 177) (tx := [100, 101, 97, 102]) (by decide) (by decide) (hn _ (by decide +kernel)) (hn _ (by decide +kernel)) (hn _ (by decide +kernel)) (hn _ (by decide +kernel)) (fun j hj => hn _ (hm j hj)) hA
  exact ⟨a, vk_R.of (hts _ q1203) h1, h2, h3, h4⟩
set_option maxHeartbeats 4000000 in
theorem litS40 {b : Nat} {s : State} {A : Nat → Prop} (hts : ∀ w ∈ lw_tbl, w.before #[Value.ref b] s = true) (hn : ∀ c ∈ flN, c.before #[Value.ref b] s = true) (hA : ∀ a : Nat, a < s.heap.size → ¬ A a) : ∃ a : Nat, vk_R "ApartBench$Reader" 179 "wise" a s ∧ va_O "java/lang/String" a A s s.heap ∧ va_OF "java/lang/String" "coder" "B" (.int 0) a A s s.heap ∧ (∃ v : Nat, va_OF "java/lang/String" "value" "[B" (.ref v) a A s s.heap ∧ va_T .byte v 4 (fun i => .int (nI (([119, 105, 115, 101] : List Nat).getD i 0))) A s s.heap ∧ 4 < 1000 ∧ ∀ c ∈ ([119, 105, 115, 101] : List Nat), c < 128) := by
  have hm : ∀ j : Nat, j < 4 → Cond.eq (.elem (.field (.string "ApartBench$Reader" 179) "java/lang/String" "value" "[B") (.int (Int32.ofNat j))) (.int (nI (([119, 105, 115, 101] : List Nat).getD j 0))) ∈ flN := by decide +kernel
  obtain ⟨a, h1, h2, h3, h4⟩ := lit_of (own := "ApartBench$Reader") (k := 179) (tx := [119, 105, 115, 101]) (by decide) (by decide) (hn _ (by decide +kernel)) (hn _ (by decide +kernel)) (hn _ (by decide +kernel)) (hn _ (by decide +kernel)) (fun j hj => hn _ (hm j hj)) hA
  exact ⟨a, vk_R.of (hts _ q1204) h1, h2, h3, h4⟩
set_option maxHeartbeats 4000000 in
theorem litS41 {b : Nat} {s : State} {A : Nat → Prop} (hts : ∀ w ∈ lw_tbl, w.before #[Value.ref b] s = true) (hn : ∀ c ∈ flN, c.before #[Value.ref b] s = true) (hA : ∀ a : Nat, a < s.heap.size → ¬ A a) : ∃ a : Nat, vk_R "ApartBench$Reader" 186 ";" a s ∧ va_O "java/lang/String" a A s s.heap ∧ va_OF "java/lang/String" "coder" "B" (.int 0) a A s s.heap ∧ (∃ v : Nat, va_OF "java/lang/String" "value" "[B" (.ref v) a A s s.heap ∧ va_T .byte v 1 (fun i => .int (nI (([59] : List Nat).getD i 0))) A s s.heap ∧ 1 < 1000 ∧ ∀ c ∈ ([59] : List Nat), c < 128) := by
  have hm : ∀ j : Nat, j < 1 → Cond.eq (.elem (.field (.string "ApartBench$Reader" 186) "java/lang/String" "value" "[B") (.int (Int32.ofNat j))) (.int (nI (([59] : List Nat).getD j 0))) ∈ flN := by decide +kernel
  obtain ⟨a, h1, h2, h3, h4⟩ := lit_of (own := "ApartBench$Reader") (k := 186) (tx := [59]) (by decide) (by decide) (hn _ (by decide +kernel)) (hn _ (by decide +kernel)) (hn _ (by decide +kernel)) (hn _ (by decide +kernel)) (fun j hj => hn _ (hm j hj)) hA
  exact ⟨a, vk_R.of (hts _ q1249) h1, h2, h3, h4⟩
set_option maxHeartbeats 16000000 in
theorem start_E0 {b : Nat} {s : State} (hts : ∀ w ∈ lw_tbl, w.before #[Value.ref b] s = true) (hg : (Jvm.Cond.and given_1 narrow_1).before #[Value.ref b] s = true) : ∃ E : w_E, E.1 = s ∧ E.2.1 = #[Value.ref b] ∧ E0ok E := by
  have hn : ∀ c ∈ flN, c.before #[Value.ref b] s = true := flat_of_before _ hg
  have hA : ∀ a : Nat, a < s.heap.size → ¬ s.heap.size ≤ a := fun a h => Nat.not_le.mpr h
  obtain ⟨D, hD⟩ := cls_known hts
  obtain ⟨cA, hcA⟩ := arr_known hts
  obtain ⟨a0, e0, z0, o0, n0⟩ := const_of (C := "ApartBench$Value") (n := "PROOF") (d := "LApartBench$Value;") (nm := "ApartBench$Value") (hts _ q1124) (hts _ (lw_all_tbl q129)) (hn _ (by decide +kernel)) hA
  obtain ⟨a1, e1, z1, o1, n1⟩ := const_of (C := "ApartBench$Value") (n := "HARSH") (d := "LApartBench$Value;") (nm := "ApartBench$Value") (hts _ q1127) (hts _ (lw_all_tbl q129)) (hn _ (by decide +kernel)) hA
  obtain ⟨a2, e2, z2, o2, n2⟩ := const_of (C := "ApartBench$Value") (n := "DAY") (d := "LApartBench$Value;") (nm := "ApartBench$Value") (hts _ q1130) (hts _ (lw_all_tbl q129)) (hn _ (by decide +kernel)) hA
  obtain ⟨a3, e3, z3, o3, n3⟩ := const_of (C := "ApartBench$Value") (n := "TOWN") (d := "LApartBench$Value;") (nm := "ApartBench$Value") (hts _ q1132) (hts _ (lw_all_tbl q129)) (hn _ (by decide +kernel)) hA
  obtain ⟨a4, e4, z4, o4, n4⟩ := const_of (C := "ApartBench$Value") (n := "SAID") (d := "LApartBench$Value;") (nm := "ApartBench$Value") (hts _ q1135) (hts _ (lw_all_tbl q129)) (hn _ (by decide +kernel)) hA
  obtain ⟨a5, e5, z5, o5, n5⟩ := const_of (C := "ApartBench$Sort") (n := "WORD") (d := "LApartBench$Sort;") (nm := "ApartBench$Sort") (hts _ q955) (hts _ (lw_all_tbl q136)) (hn _ (by decide +kernel)) hA
  obtain ⟨a6, e6, z6, o6, n6⟩ := const_of (C := "ApartBench$Sort") (n := "NUMBER") (d := "LApartBench$Sort;") (nm := "ApartBench$Sort") (hts _ q960) (hts _ (lw_all_tbl q136)) (hn _ (by decide +kernel)) hA
  obtain ⟨a7, e7, z7, o7, n7⟩ := const_of (C := "ApartBench$Sort") (n := "SIGN") (d := "LApartBench$Sort;") (nm := "ApartBench$Sort") (hts _ q965) (hts _ (lw_all_tbl q136)) (hn _ (by decide +kernel)) hA
  obtain ⟨a8, e8, z8, o8, n8⟩ := const_of (C := "ApartBench$Sort") (n := "BAD") (d := "LApartBench$Sort;") (nm := "ApartBench$Sort") (hts _ q967) (hts _ (lw_all_tbl q136)) (hn _ (by decide +kernel)) hA
  obtain ⟨a9, e9, z9, o9, n9⟩ := const_of (C := "ApartBench$Sort") (n := "END") (d := "LApartBench$Sort;") (nm := "ApartBench$Sort") (hts _ q924) (hts _ (lw_all_tbl q136)) (hn _ (by decide +kernel)) hA
  obtain ⟨a10, e10, z10, o10, n10⟩ := const_of (C := "ApartBench$Value") (n := "$VALUES") (d := "[LApartBench$Value;") (nm := "[LApartBench$Value;") (hts _ q512) (hts _ (lw_all_tbl q129)) (hn _ (by decide +kernel)) hA
  obtain ⟨a11, e11, z11, o11, n11⟩ := const_of (C := "java/util/ArrayList") (n := "EMPTY_ELEMENTDATA") (d := "[Ljava/lang/Object;") (nm := "[Ljava/lang/Object;") (hts _ q176) (hts _ (lw_all_tbl q110)) (hn _ (by decide +kernel)) hA
  obtain ⟨a12, e12, z12, o12, n12⟩ := const_of (C := "java/util/ArrayList") (n := "DEFAULTCAPACITY_EMPTY_ELEMENTDATA") (d := "[Ljava/lang/Object;") (nm := "[Ljava/lang/Object;") (hts _ q659) (hts _ (lw_all_tbl q110)) (hn _ (by decide +kernel)) hA
  obtain ⟨mi, hmi⟩ := va_Mi.of (C := "[Ljava/lang/Object;") (hn _ (by decide +kernel))
  refine ⟨(s, #[Value.ref b], D, cA, fun i => match i with
    | 0 => a0
    | 1 => a1
    | 2 => a2
    | 3 => a3
    | 4 => a4
    | 5 => a5
    | 6 => a6
    | 7 => a7
    | 8 => a8
    | 9 => a9
    | 10 => a10
    | 11 => a11
    | 12 => a12
    | _ => mi), rfl, rfl, hg, hts, ⟨hD, hcA⟩, ?_, ?_, ?_, ?_, ?_, hmi, ?_, ?_, ?_⟩
  · intro i q hq
    match i, hq with
    | 0, hq => cases hq; exact z0
    | 1, hq => cases hq; exact z1
    | 2, hq => cases hq; exact z2
    | 3, hq => cases hq; exact z3
    | 4, hq => cases hq; exact z4
    | 5, hq => cases hq; exact z5
    | 6, hq => cases hq; exact z6
    | 7, hq => cases hq; exact z7
    | 8, hq => cases hq; exact z8
    | 9, hq => cases hq; exact z9
    | 10, hq => cases hq; exact z10
    | 11, hq => cases hq; exact z11
    | 12, hq => cases hq; exact z12
    | i + 13, hq => simp [cstL] at hq
  · intro i j hi hj e
    match i, j, hi, hj, e with
    | 0, 0, hi, hj, e => rfl
    | 0, 1, hi, hj, e => exact absurd e (va_neR (t := (.static "ApartBench$Value" "PROOF" "LApartBench$Value;")) (u := (.static "ApartBench$Value" "HARSH" "LApartBench$Value;")) (hn _ (by decide +kernel)) e0 e1)
    | 0, 2, hi, hj, e => exact absurd e (va_neR (t := (.static "ApartBench$Value" "PROOF" "LApartBench$Value;")) (u := (.static "ApartBench$Value" "DAY" "LApartBench$Value;")) (hn _ (by decide +kernel)) e0 e2)
    | 0, 3, hi, hj, e => exact absurd e (va_neR (t := (.static "ApartBench$Value" "PROOF" "LApartBench$Value;")) (u := (.static "ApartBench$Value" "TOWN" "LApartBench$Value;")) (hn _ (by decide +kernel)) e0 e3)
    | 0, 4, hi, hj, e => exact absurd e (va_neR (t := (.static "ApartBench$Value" "PROOF" "LApartBench$Value;")) (u := (.static "ApartBench$Value" "SAID" "LApartBench$Value;")) (hn _ (by decide +kernel)) e0 e4)
    | 1, 0, hi, hj, e => exact absurd e.symm (va_neR (t := (.static "ApartBench$Value" "PROOF" "LApartBench$Value;")) (u := (.static "ApartBench$Value" "HARSH" "LApartBench$Value;")) (hn _ (by decide +kernel)) e0 e1)
    | 1, 1, hi, hj, e => rfl
    | 1, 2, hi, hj, e => exact absurd e (va_neR (t := (.static "ApartBench$Value" "HARSH" "LApartBench$Value;")) (u := (.static "ApartBench$Value" "DAY" "LApartBench$Value;")) (hn _ (by decide +kernel)) e1 e2)
    | 1, 3, hi, hj, e => exact absurd e (va_neR (t := (.static "ApartBench$Value" "HARSH" "LApartBench$Value;")) (u := (.static "ApartBench$Value" "TOWN" "LApartBench$Value;")) (hn _ (by decide +kernel)) e1 e3)
    | 1, 4, hi, hj, e => exact absurd e (va_neR (t := (.static "ApartBench$Value" "HARSH" "LApartBench$Value;")) (u := (.static "ApartBench$Value" "SAID" "LApartBench$Value;")) (hn _ (by decide +kernel)) e1 e4)
    | 2, 0, hi, hj, e => exact absurd e.symm (va_neR (t := (.static "ApartBench$Value" "PROOF" "LApartBench$Value;")) (u := (.static "ApartBench$Value" "DAY" "LApartBench$Value;")) (hn _ (by decide +kernel)) e0 e2)
    | 2, 1, hi, hj, e => exact absurd e.symm (va_neR (t := (.static "ApartBench$Value" "HARSH" "LApartBench$Value;")) (u := (.static "ApartBench$Value" "DAY" "LApartBench$Value;")) (hn _ (by decide +kernel)) e1 e2)
    | 2, 2, hi, hj, e => rfl
    | 2, 3, hi, hj, e => exact absurd e (va_neR (t := (.static "ApartBench$Value" "DAY" "LApartBench$Value;")) (u := (.static "ApartBench$Value" "TOWN" "LApartBench$Value;")) (hn _ (by decide +kernel)) e2 e3)
    | 2, 4, hi, hj, e => exact absurd e (va_neR (t := (.static "ApartBench$Value" "DAY" "LApartBench$Value;")) (u := (.static "ApartBench$Value" "SAID" "LApartBench$Value;")) (hn _ (by decide +kernel)) e2 e4)
    | 3, 0, hi, hj, e => exact absurd e.symm (va_neR (t := (.static "ApartBench$Value" "PROOF" "LApartBench$Value;")) (u := (.static "ApartBench$Value" "TOWN" "LApartBench$Value;")) (hn _ (by decide +kernel)) e0 e3)
    | 3, 1, hi, hj, e => exact absurd e.symm (va_neR (t := (.static "ApartBench$Value" "HARSH" "LApartBench$Value;")) (u := (.static "ApartBench$Value" "TOWN" "LApartBench$Value;")) (hn _ (by decide +kernel)) e1 e3)
    | 3, 2, hi, hj, e => exact absurd e.symm (va_neR (t := (.static "ApartBench$Value" "DAY" "LApartBench$Value;")) (u := (.static "ApartBench$Value" "TOWN" "LApartBench$Value;")) (hn _ (by decide +kernel)) e2 e3)
    | 3, 3, hi, hj, e => rfl
    | 3, 4, hi, hj, e => exact absurd e (va_neR (t := (.static "ApartBench$Value" "TOWN" "LApartBench$Value;")) (u := (.static "ApartBench$Value" "SAID" "LApartBench$Value;")) (hn _ (by decide +kernel)) e3 e4)
    | 4, 0, hi, hj, e => exact absurd e.symm (va_neR (t := (.static "ApartBench$Value" "PROOF" "LApartBench$Value;")) (u := (.static "ApartBench$Value" "SAID" "LApartBench$Value;")) (hn _ (by decide +kernel)) e0 e4)
    | 4, 1, hi, hj, e => exact absurd e.symm (va_neR (t := (.static "ApartBench$Value" "HARSH" "LApartBench$Value;")) (u := (.static "ApartBench$Value" "SAID" "LApartBench$Value;")) (hn _ (by decide +kernel)) e1 e4)
    | 4, 2, hi, hj, e => exact absurd e.symm (va_neR (t := (.static "ApartBench$Value" "DAY" "LApartBench$Value;")) (u := (.static "ApartBench$Value" "SAID" "LApartBench$Value;")) (hn _ (by decide +kernel)) e2 e4)
    | 4, 3, hi, hj, e => exact absurd e.symm (va_neR (t := (.static "ApartBench$Value" "TOWN" "LApartBench$Value;")) (u := (.static "ApartBench$Value" "SAID" "LApartBench$Value;")) (hn _ (by decide +kernel)) e3 e4)
    | 4, 4, hi, hj, e => rfl
    | i + 5, j, hi, hj, e => exact absurd hi (by omega)
    | i, j + 5, hi, hj, e => exact absurd hj (by omega)
  · intro i j hi hj e
    match i, j, hi, hj, e with
    | 0, 0, hi, hj, e => rfl
    | 0, 1, hi, hj, e => exact absurd e (va_neR (t := (.static "ApartBench$Sort" "WORD" "LApartBench$Sort;")) (u := (.static "ApartBench$Sort" "NUMBER" "LApartBench$Sort;")) (hn _ (by decide +kernel)) e5 e6)
    | 0, 2, hi, hj, e => exact absurd e (va_neR (t := (.static "ApartBench$Sort" "WORD" "LApartBench$Sort;")) (u := (.static "ApartBench$Sort" "SIGN" "LApartBench$Sort;")) (hn _ (by decide +kernel)) e5 e7)
    | 0, 3, hi, hj, e => exact absurd e (va_neR (t := (.static "ApartBench$Sort" "WORD" "LApartBench$Sort;")) (u := (.static "ApartBench$Sort" "BAD" "LApartBench$Sort;")) (hn _ (by decide +kernel)) e5 e8)
    | 0, 4, hi, hj, e => exact absurd e.symm (va_neR (t := (.static "ApartBench$Sort" "END" "LApartBench$Sort;")) (u := (.static "ApartBench$Sort" "WORD" "LApartBench$Sort;")) (hn _ (by decide +kernel)) e9 e5)
    | 1, 0, hi, hj, e => exact absurd e.symm (va_neR (t := (.static "ApartBench$Sort" "WORD" "LApartBench$Sort;")) (u := (.static "ApartBench$Sort" "NUMBER" "LApartBench$Sort;")) (hn _ (by decide +kernel)) e5 e6)
    | 1, 1, hi, hj, e => rfl
    | 1, 2, hi, hj, e => exact absurd e (va_neR (t := (.static "ApartBench$Sort" "NUMBER" "LApartBench$Sort;")) (u := (.static "ApartBench$Sort" "SIGN" "LApartBench$Sort;")) (hn _ (by decide +kernel)) e6 e7)
    | 1, 3, hi, hj, e => exact absurd e (va_neR (t := (.static "ApartBench$Sort" "NUMBER" "LApartBench$Sort;")) (u := (.static "ApartBench$Sort" "BAD" "LApartBench$Sort;")) (hn _ (by decide +kernel)) e6 e8)
    | 1, 4, hi, hj, e => exact absurd e.symm (va_neR (t := (.static "ApartBench$Sort" "END" "LApartBench$Sort;")) (u := (.static "ApartBench$Sort" "NUMBER" "LApartBench$Sort;")) (hn _ (by decide +kernel)) e9 e6)
    | 2, 0, hi, hj, e => exact absurd e.symm (va_neR (t := (.static "ApartBench$Sort" "WORD" "LApartBench$Sort;")) (u := (.static "ApartBench$Sort" "SIGN" "LApartBench$Sort;")) (hn _ (by decide +kernel)) e5 e7)
    | 2, 1, hi, hj, e => exact absurd e.symm (va_neR (t := (.static "ApartBench$Sort" "NUMBER" "LApartBench$Sort;")) (u := (.static "ApartBench$Sort" "SIGN" "LApartBench$Sort;")) (hn _ (by decide +kernel)) e6 e7)
    | 2, 2, hi, hj, e => rfl
    | 2, 3, hi, hj, e => exact absurd e (va_neR (t := (.static "ApartBench$Sort" "SIGN" "LApartBench$Sort;")) (u := (.static "ApartBench$Sort" "BAD" "LApartBench$Sort;")) (hn _ (by decide +kernel)) e7 e8)
    | 2, 4, hi, hj, e => exact absurd e.symm (va_neR (t := (.static "ApartBench$Sort" "END" "LApartBench$Sort;")) (u := (.static "ApartBench$Sort" "SIGN" "LApartBench$Sort;")) (hn _ (by decide +kernel)) e9 e7)
    | 3, 0, hi, hj, e => exact absurd e.symm (va_neR (t := (.static "ApartBench$Sort" "WORD" "LApartBench$Sort;")) (u := (.static "ApartBench$Sort" "BAD" "LApartBench$Sort;")) (hn _ (by decide +kernel)) e5 e8)
    | 3, 1, hi, hj, e => exact absurd e.symm (va_neR (t := (.static "ApartBench$Sort" "NUMBER" "LApartBench$Sort;")) (u := (.static "ApartBench$Sort" "BAD" "LApartBench$Sort;")) (hn _ (by decide +kernel)) e6 e8)
    | 3, 2, hi, hj, e => exact absurd e.symm (va_neR (t := (.static "ApartBench$Sort" "SIGN" "LApartBench$Sort;")) (u := (.static "ApartBench$Sort" "BAD" "LApartBench$Sort;")) (hn _ (by decide +kernel)) e7 e8)
    | 3, 3, hi, hj, e => rfl
    | 3, 4, hi, hj, e => exact absurd e.symm (va_neR (t := (.static "ApartBench$Sort" "END" "LApartBench$Sort;")) (u := (.static "ApartBench$Sort" "BAD" "LApartBench$Sort;")) (hn _ (by decide +kernel)) e9 e8)
    | 4, 0, hi, hj, e => exact absurd e (va_neR (t := (.static "ApartBench$Sort" "END" "LApartBench$Sort;")) (u := (.static "ApartBench$Sort" "WORD" "LApartBench$Sort;")) (hn _ (by decide +kernel)) e9 e5)
    | 4, 1, hi, hj, e => exact absurd e (va_neR (t := (.static "ApartBench$Sort" "END" "LApartBench$Sort;")) (u := (.static "ApartBench$Sort" "NUMBER" "LApartBench$Sort;")) (hn _ (by decide +kernel)) e9 e6)
    | 4, 2, hi, hj, e => exact absurd e (va_neR (t := (.static "ApartBench$Sort" "END" "LApartBench$Sort;")) (u := (.static "ApartBench$Sort" "SIGN" "LApartBench$Sort;")) (hn _ (by decide +kernel)) e9 e7)
    | 4, 3, hi, hj, e => exact absurd e (va_neR (t := (.static "ApartBench$Sort" "END" "LApartBench$Sort;")) (u := (.static "ApartBench$Sort" "BAD" "LApartBench$Sort;")) (hn _ (by decide +kernel)) e9 e8)
    | 4, 4, hi, hj, e => rfl
    | i + 5, j, hi, hj, e => exact absurd hi (by omega)
    | i, j + 5, hi, hj, e => exact absurd hj (by omega)
  · exact va_Zof (hts _ q228) (hts _ (lw_all_tbl q117)) (va_eqi (hn _ (by decide +kernel))) hA
  · intro i q hq
    match i, hq with
    | 0, hq => cases hq; exact litS0 hts hn hA
    | 1, hq => cases hq; exact litS1 hts hn hA
    | 2, hq => cases hq; exact litS2 hts hn hA
    | 3, hq => cases hq; exact litS3 hts hn hA
    | 4, hq => cases hq; exact litS4 hts hn hA
    | 5, hq => cases hq; exact litS5 hts hn hA
    | 6, hq => cases hq; exact litS6 hts hn hA
    | 7, hq => cases hq; exact litS7 hts hn hA
    | 8, hq => cases hq; exact litS8 hts hn hA
    | 9, hq => cases hq; exact litS9 hts hn hA
    | 10, hq => cases hq; exact litS10 hts hn hA
    | 11, hq => cases hq; exact litS11 hts hn hA
    | 12, hq => cases hq; exact litS12 hts hn hA
    | 13, hq => cases hq; exact litS13 hts hn hA
    | 14, hq => cases hq; exact litS14 hts hn hA
    | 15, hq => cases hq; exact litS15 hts hn hA
    | 16, hq => cases hq; exact litS16 hts hn hA
    | 17, hq => cases hq; exact litS17 hts hn hA
    | 18, hq => cases hq; exact litS18 hts hn hA
    | 19, hq => cases hq; exact litS19 hts hn hA
    | 20, hq => cases hq; exact litS20 hts hn hA
    | 21, hq => cases hq; exact litS21 hts hn hA
    | 22, hq => cases hq; exact litS22 hts hn hA
    | 23, hq => cases hq; exact litS23 hts hn hA
    | 24, hq => cases hq; exact litS24 hts hn hA
    | 25, hq => cases hq; exact litS25 hts hn hA
    | 26, hq => cases hq; exact litS26 hts hn hA
    | 27, hq => cases hq; exact litS27 hts hn hA
    | 28, hq => cases hq; exact litS28 hts hn hA
    | 29, hq => cases hq; exact litS29 hts hn hA
    | 30, hq => cases hq; exact litS30 hts hn hA
    | 31, hq => cases hq; exact litS31 hts hn hA
    | 32, hq => cases hq; exact litS32 hts hn hA
    | 33, hq => cases hq; exact litS33 hts hn hA
    | 34, hq => cases hq; exact litS34 hts hn hA
    | 35, hq => cases hq; exact litS35 hts hn hA
    | 36, hq => cases hq; exact litS36 hts hn hA
    | 37, hq => cases hq; exact litS37 hts hn hA
    | 38, hq => cases hq; exact litS38 hts hn hA
    | 39, hq => cases hq; exact litS39 hts hn hA
    | 40, hq => cases hq; exact litS40 hts hn hA
    | 41, hq => cases hq; exact litS41 hts hn hA
    | i + 42, hq => simp [litL] at hq
  · intro i hi
    match i, hi with
    | 0, hi => exact ⟨o0, vk_OFof e0 (va_eqt (hn _ (by decide +kernel))) hA⟩
    | 1, hi => exact ⟨o1, vk_OFof e1 (va_eqt (hn _ (by decide +kernel))) hA⟩
    | 2, hi => exact ⟨o2, vk_OFof e2 (va_eqt (hn _ (by decide +kernel))) hA⟩
    | 3, hi => exact ⟨o3, vk_OFof e3 (va_eqt (hn _ (by decide +kernel))) hA⟩
    | 4, hi => exact ⟨o4, vk_OFof e4 (va_eqt (hn _ (by decide +kernel))) hA⟩
    | i + 5, hi => exact absurd hi (by omega)
  · obtain ⟨t, ht, cell, c1, c2, c3, c4, c5, c6, c7⟩ := va_Tof (tm := (.static "ApartBench$Value" "$VALUES" "[LApartBench$Value;")) (ty := .object "ApartBench$Value") (N := 5) (f := fun i => .ref (match i with
      | 0 => a0
      | 1 => a1
      | 2 => a2
      | 3 => a3
      | _ => a4)) (A := fun a => s.heap.size ≤ a) (by decide) (hn _ (by decide +kernel)) (va_eqt (hn _ (by decide +kernel))) (fun j hj => by
      match j, hj with
      | 0, hj => exact eq_ref (u := (.static "ApartBench$Value" "PROOF" "LApartBench$Value;")) (hn _ (by decide +kernel)) e0
      | 1, hj => exact eq_ref (u := (.static "ApartBench$Value" "HARSH" "LApartBench$Value;")) (hn _ (by decide +kernel)) e1
      | 2, hj => exact eq_ref (u := (.static "ApartBench$Value" "DAY" "LApartBench$Value;")) (hn _ (by decide +kernel)) e2
      | 3, hj => exact eq_ref (u := (.static "ApartBench$Value" "TOWN" "LApartBench$Value;")) (hn _ (by decide +kernel)) e3
      | 4, hj => exact eq_ref (u := (.static "ApartBench$Value" "SAID" "LApartBench$Value;")) (hn _ (by decide +kernel)) e4
      | j + 5, hj => exact absurd hj (by omega)) hA
    cases ht.symm.trans e10
    obtain ⟨cell2, d1, d2, d3, -⟩ := o10
    cases c1.symm.trans d1
    have hall : (Cond.all (.static "ApartBench$Value" "$VALUES" "[LApartBench$Value;") (.le (.index 0) (.int 4))).before #[Value.ref b] s = true := hn _ (by decide +kernel)
    obtain ⟨t9, cell9, ht9, hat9, hv9⟩ := Term.length_spec (va_eqt (t := .length (.static "ApartBench$Value" "$VALUES" "[LApartBench$Value;")) (z := 5) (hn _ (by decide +kernel)))
    cases ht.symm.trans ht9
    cases c1.symm.trans (State.arrayAt?_spec hat9).1
    have h5 : ¬ 5 < cell.slots.size := fun h => by
      have := Cond.all_elim ht9 hat9 (by simpa [Cond.before, Cond.holds] using hall) 5 h
      simp [Cond.value, Term.eval] at this
      exact absurd this (by decide)
    have hsz : cell.slots.size = 5 := by omega
    have hcls : cell.cls = cA 6 := Option.some.inj (d3.symm.trans (hcA 6 _ rfl).2.choose_spec.choose_spec.2.2.2)
    refine ⟨cell, c1, hcls, ?_, d2, c3⟩
    apply Array.ext_getElem?
    intro i
    by_cases hi : i < 5
    · refine (c6 i hi).trans (Eq.trans ?_ (arrV_read _ _ hi).symm)
      match i, hi with
      | 0, _ => rfl
      | 1, _ => rfl
      | 2, _ => rfl
      | 3, _ => rfl
      | 4, _ => rfl
    · rw [Array.getElem?_eq_none (by omega)]
      exact (Array.getElem?_eq_none (by rw [show (vp_cell (cA 6) (5, .inr (.inr (.inr (.inr _))))).slots.size = 5 from arrV_size _ _ _]; omega)).symm
  · intro i hi
    match i, hi with
    | 0, hi => exact n0
    | 1, hi => exact n1
    | 2, hi => exact n2
    | 3, hi => exact n3
    | 4, hi => exact n4
    | 5, hi => exact n5
    | 6, hi => exact n6
    | 7, hi => exact n7
    | 8, hi => exact n8
    | 9, hi => exact n9
    | 10, hi => exact n10
    | i + 11, hi => exact absurd hi (by omega)
