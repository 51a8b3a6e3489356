/-! ROWS: gW, what a walk's place owes; an instruction, a row. -/
set_option maxRecDepth 100000
section FR
variable {p : Program} {l : Launch} {e : Env} {R : Room} {s : State} {m : MethodId} {args : Array Value} {below : List Frame} {meth : Method} {c : Code} {H : Heap} {locs : List Loc} {cells slots : Nat} {Q : State → Prop}
variable {cc : ByteArray} {pc : Nat} {ls : Array Slot} {rest : List Value} {D : va_G} {cl : List vw_C} {a : Nat} {tys : List (ClassId × FieldType)}
/-- putfield, with all other cells as they were -/
theorem fr_put (hexec : p.tables.exec = Jvm.exec) (hb : c.code = cc) {own ref C : String} {T : u_T} {N ci index : Nat} {Ts : List Cond} (hts : ∀ w ∈ Ts, w.before args s = true) (hin : ∀ w ∈ u_ws C T N, w ∈ Ts) (ty0 : Nat → FieldType) (hty : ∀ k, k < N → parseFieldDescriptor (T k).2.2.1 = some (ty0 k)) (hnm : ∀ a, a < N → ∀ b, b < N → a ≠ b → (T a).2.1 ≠ (T b).2.1) (hown : s.vm.findClass own = some m.cls) (hK : va_K D cl tys s) {fs : List Value} (hP : va_at D cl (a, .inr (ci, fs)) H) (hc : cl[ci]? = some (C, T, N)) (k : Nat) (hk : k < N) (hlink : (Cond.fieldLink own index ref (T k).2.1 (T k).2.2.1).before args s = true) (hsame : ∀ x, s.fieldFound? (T k).1 (T k).2.1 (T k).2.2.1 = some x → s.fieldFound? ref (T k).2.1 (T k).2.2.1 = some x) (hfin : (T k).2.2.2 = false) {ty : FieldType} {v : Value} (hd : parseFieldDescriptor (T k).2.2.1 = some ty) (hn : narrow ty v = v) (hfit : fits ty v = true) (hl : k < fs.length)
    (hdg : decode cc pc = .ok (.putfield index, 3)) (kk : ∀ (H1 : Heap) (i : Nat), va_at D cl (a, .inr (ci, fs.set k v)) H1 → H1.size = H.size → (∀ q : Nat, q ≠ a → H1[q]? = H[q]?) → W p l e R s m args below meth c H1 (locs ++ [⟨a, i⟩]) cells slots Q (F0 m (pc + 3) ls rest)) : W p l e R s m args below meth c H locs cells slots Q (F0 m pc ls (v :: .ref a :: rest)) := by
  have hap := va_apart (own := own) hts hin ty0 hty hnm hK hc
  obtain ⟨r, h1, cell, q1, q2, q3, q4⟩ := hP
  have hr : r = (C, T, N) := Option.some.inj (h1.symm.trans hc)
  subst hr
  obtain ⟨hS, hfc, kC, hkC, hkind⟩ := hK.1 ci _ hc
  obtain ⟨cf, kf, fi, f, hi, hsl⟩ := hS k hk
  have hlay := hts _ (hin _ (u_in_lay hk))
  unfold u_lay at hlay
  rw [if_neg (by rw [hfin]; decide)] at hlay
  have hst := (u_facts hfc hkC (u_lays hts hin hk) hi).1
  have h6 := u_store hfc hkC hkind hlay hi hd hn hfit
  refine W.putK hexec hb (f := f) ⟨hown, hlink, ⟨_, _, _, hsame _ hi⟩, hst⟩ (by rw [q2]; exact h6) q1 q3 (by rw [hsl]; exact k2_hasslot (q4 k hk)) rfl rfl hdg fun H' e1 e2 e3 => ?_
  rw [hsl] at e1 ⊢
  exact kk H' _ ⟨_, hc, t_OB.to (V := updV (vp_V fs) k v) ⟨_, e1, q2, q3, t_set q4 hap hk v⟩ (fun j _ => vp_updV_set hl v j)⟩ e2 e3
theorem fr_putN (hexec : p.tables.exec = Jvm.exec) (hb : c.code = cc) {own ref C host : String} {T : u_T} {N ci index : Nat} {Ts : List Cond} (hts : ∀ w ∈ Ts, w.before args s = true) (hin : ∀ w ∈ u_ws C T N, w ∈ Ts) (ty0 : Nat → FieldType) (hty : ∀ k, k < N → parseFieldDescriptor (T k).2.2.1 = some (ty0 k)) (hnm : ∀ a, a < N → ∀ b, b < N → a ≠ b → (T a).2.1 ≠ (T b).2.1) (hown : s.vm.findClass own = some m.cls) (hK : va_K D cl tys s) {fs : List Value} (hP : va_at D cl (a, .inr (ci, fs)) H) (hc : cl[ci]? = some (C, T, N)) (k : Nat) (hk : k < N) (hlink : (Cond.fieldLinkNest own index ref (T k).2.1 (T k).2.2.1 host).before args s = true) (hsame : ∀ x, s.fieldFound? (T k).1 (T k).2.1 (T k).2.2.1 = some x → s.fieldFound? ref (T k).2.1 (T k).2.2.1 = some x) (hfin : (T k).2.2.2 = false) {ty : FieldType} {v : Value} (hd : parseFieldDescriptor (T k).2.2.1 = some ty) (hn : narrow ty v = v) (hfit : fits ty v = true) (hl : k < fs.length)
    (hdg : decode cc pc = .ok (.putfield index, 3)) (kk : ∀ (H1 : Heap) (i : Nat), va_at D cl (a, .inr (ci, fs.set k v)) H1 → H1.size = H.size → (∀ q : Nat, q ≠ a → H1[q]? = H[q]?) → W p l e R s m args below meth c H1 (locs ++ [⟨a, i⟩]) cells slots Q (F0 m (pc + 3) ls rest)) : W p l e R s m args below meth c H locs cells slots Q (F0 m pc ls (v :: .ref a :: rest)) := by
  have hap := va_apart (own := own) hts hin ty0 hty hnm hK hc
  obtain ⟨r, h1, cell, q1, q2, q3, q4⟩ := hP
  have hr : r = (C, T, N) := Option.some.inj (h1.symm.trans hc)
  subst hr
  obtain ⟨hS, hfc, kC, hkC, hkind⟩ := hK.1 ci _ hc
  obtain ⟨cf, kf, fi, f, hi, hsl⟩ := hS k hk
  have hlay := hts _ (hin _ (u_in_lay hk))
  unfold u_lay at hlay
  rw [if_neg (by rw [hfin]; decide)] at hlay
  have hst := (u_facts hfc hkC (u_lays hts hin hk) hi).1
  have h6 := u_store hfc hkC hkind hlay hi hd hn hfit
  refine va_WputK hexec hb (f := f) hown hlink (hsame _ hi) hst (by rw [q2]; exact h6) q1 q3 (by rw [hsl]; exact k2_hasslot (q4 k hk)) rfl rfl hdg fun H' e1 e2 e3 => ?_
  rw [hsl] at e1 ⊢
  exact kk H' _ ⟨_, hc, t_OB.to (V := updV (vp_V fs) k v) ⟨_, e1, q2, q3, t_set q4 hap hk v⟩ (fun j _ => vp_updV_set hl v j)⟩ e2 e3
theorem fr_iast (hexec : p.tables.exec = Jvm.exec) (hb : c.code = cc) {cA : ClassId} {n : Nat} {f : Nat → Int32} (ha : va_at D cl (a, .inl (cA, n, .inl f)) H) (ht : ArrOfT s cA .int) {i x : Int32} (hin : vp_in i n) (hdg : decode cc pc = .ok (.iastore, 1))
    (kk : ∀ (H1 : Heap) (j : Nat), va_at D cl (a, .inl (cA, n, .inl (upd f i.toNatClampNeg x))) H1 → H1.size = H.size → (∀ q : Nat, q ≠ a → H1[q]? = H[q]?) → W p l e R s m args below meth c H1 (locs ++ [⟨a, j⟩]) cells slots Q (F0 m (pc + 1) ls rest)) : W p l e R s m args below meth c H locs cells slots Q (F0 m pc ls (.int x :: .int i :: .ref a :: rest)) := by
  refine W.iast hexec hb (show H[a]? = some (vp_cell cA (n, .inl f)) from ha) (ht n (fun j => .int (f j))) (fun q => by cases q) (by show ¬ (i < 0 ∨ (arrV _ _ _).slots.size ≤ _); rw [arrV_size]; exact hin) rfl rfl hdg fun H1 e z oq => ?_
  refine kk H1 _ ?_ z oq
  show H1[a]? = some (vp_cell _ _)
  rw [e]
  rw [vp_cell_i, vp_cell_i, arrV_store]
  congr 2
  funext q
  by_cases hq : q = i.toNatClampNeg
  · subst hq
    simp [updV, upd]
  · simp [updV, upd, hq]
end FR
/-- a walk's fixed things -/
abbrev Cx : Type := Program × Launch × Env × Room × State × MethodId × Array Value × List Frame × Method × Code × w_E × (State → Prop)
abbrev cxP (X : Cx) : Program := X.1
abbrev cxL (X : Cx) : Launch := X.2.1
abbrev cxe (X : Cx) : Env := X.2.2.1
abbrev cxR (X : Cx) : Room := X.2.2.2.1
abbrev cxs (X : Cx) : State := X.2.2.2.2.1
abbrev cxm (X : Cx) : MethodId := X.2.2.2.2.2.1
abbrev cxa (X : Cx) : Array Value := X.2.2.2.2.2.2.1
abbrev cxb (X : Cx) : List Frame := X.2.2.2.2.2.2.2.1
abbrev cxM (X : Cx) : Method := X.2.2.2.2.2.2.2.2.1
abbrev cxc (X : Cx) : Code := X.2.2.2.2.2.2.2.2.2.1
abbrev cxE (X : Cx) : w_E := X.2.2.2.2.2.2.2.2.2.2.1
abbrev cxQ (X : Cx) : State → Prop := X.2.2.2.2.2.2.2.2.2.2.2
def lvp : Nat → List (Option Value) → List (Nat × Value)
  | _, [] => []
  | i, some v :: r => (i, v) :: lvp (i + 1) r
  | i, none :: r => lvp (i + 1) r
def cxW (X : Cx) (H : Heap) (locs : List Loc) (k n : Nat) (pc : Nat) (ls : Array Slot) (st : List Value) : Prop := W (cxP X) (cxL X) (cxe X) (cxR X) (cxs X) (cxm X) (cxa X) (cxb X) (cxM X) (cxc X) H locs k n (cxQ X) (F0 (cxm X) pc ls st)
def gW (X : Cx) (k n : Nat) (z : Nat) (T L : Nat → Nat) (V : w_V) (P : w_P) (pc : Nat) (lv : List (Option Value)) (st : List Value) : Prop :=
  ∀ (H : Heap) (locs : List Loc) (ls : Array Slot), wd (cxE X) z T L V P H → va_S (w_A (cxE X)) (cxs X).heap H locs → lv_has ls lv.length (lvp 0 lv) → cxW X H locs k n pc ls st
/-- what a walk of the code cc stands on -/
def Okc (X : Cx) (cc : ByteArray) (own : String) (nL : Nat) (ret : Option FieldType) : Prop :=
  (cxP X).tables.exec = Jvm.exec ∧ (cxc X).code = cc ∧ (cxc X).maxLocals = nL ∧ (cxs X).vm.findClass own = some (cxm X).cls ∧ (∀ w ∈ lw_all, w.before (cxa X) (cxs X) = true) ∧ kenv (cxE X) (cxs X) ∧ (cxM X).sig.returnType = ret ∧ (cxM X).locks = false ∧ (cxL X).flags = flags0
theorem lvp_mem : ∀ (lv : List (Option Value)) (b i : Nat) (v : Value), lv[i]? = some (some v) → (b + i, v) ∈ lvp b lv
  | [], b, i, v, h => by simp at h
  | some w :: r, b, 0, v, h => by
    simp at h
    subst h
    exact List.mem_cons_self
  | none :: r, b, 0, v, h => by simp at h
  | some w :: r, b, i + 1, v, h => by
    have := lvp_mem r (b + 1) i v (by simpa using h)
    rw [show b + 1 + i = b + (i + 1) by omega] at this
    exact List.mem_cons_of_mem _ this
  | none :: r, b, i + 1, v, h => by
    have := lvp_mem r (b + 1) i v (by simpa using h)
    rw [show b + 1 + i = b + (i + 1) by omega] at this
    exact this
theorem lvp_at {lv : List (Option Value)} {ls : Array Slot} {N : Nat} (h : lv_has ls N (lvp 0 lv)) {i : Nat} {v : Value} (hi : lv[i]? = some (some v)) : ls[i]? = some (.val v) := by
  have := lvp_mem lv 0 i v hi
  rw [Nat.zero_add] at this
  exact h.2.2 _ this
theorem lvp_of : ∀ (lv : List (Option Value)) (b : Nat) (q : Nat × Value), q ∈ lvp b lv → ∃ i, q.1 = b + i ∧ lv[i]? = some (some q.2)
  | [], b, q, h => by simp [lvp] at h
  | some w :: r, b, q, h => by
    rcases List.mem_cons.mp h with h | h
    · subst h
      exact ⟨0, rfl, rfl⟩
    · obtain ⟨i, h1, h2⟩ := lvp_of r (b + 1) q h
      exact ⟨i + 1, by omega, by simpa using h2⟩
  | none :: r, b, q, h => by
    obtain ⟨i, h1, h2⟩ := lvp_of r (b + 1) q h
    exact ⟨i + 1, by omega, by simpa using h2⟩
/-- no long stands just below place i -/
def lno (lv : List (Option Value)) (i : Nat) : Bool := match i with
  | 0 => true
  | j + 1 => match lv[j]? with
    | some (some v) => !(v.category == 2)
    | _ => true
theorem lvp_set {lv : List (Option Value)} {ls : Array Slot} {N i : Nat} {v : Value} (hi : i < lv.length) (hn : lno lv i = true) (hN : N = lv.length)
    (h : lv_has ls N ((i, v) :: (lvp 0 lv).filter (fun q => !(q.1 == i) && !(q.1 + 1 == i && q.2.category == 2)))) : lv_has ls (lv.set i (some v)).length (lvp 0 (lv.set i (some v))) := by
  refine ⟨by rw [h.1, hN, List.length_set], h.2.1, fun q hq => ?_⟩
  obtain ⟨j, e1, e2⟩ := lvp_of _ _ _ hq
  rw [Nat.zero_add] at e1
  by_cases hj : j = i
  · subst hj
    rw [List.getElem?_set_self hi] at e2
    have e3 : q = (j, v) := by
      obtain ⟨q1, q2⟩ := q
      simp at e2 e1
      rw [e1, e2]
    rw [e3]
    exact h.2.2 _ List.mem_cons_self
  · rw [List.getElem?_set_ne (fun e => hj e.symm)] at e2
    refine h.2.2 q (List.mem_cons_of_mem _ (List.mem_filter.mpr ⟨?_, ?_⟩))
    · have := lvp_mem lv 0 j q.2 e2
      rw [Nat.zero_add, ← e1] at this
      exact this
    · rw [e1]
      have h1 : (j == i) = false := by simpa using hj
      rw [h1]
      by_cases h2 : j + 1 = i
      · subst h2
        have := hn
        simp only [lno, e2] at this
        simp only [Bool.not_false, Bool.true_and, beq_self_eq_true]
        exact this
      · have h3 : (j + 1 == i) = false := by simpa using h2
        rw [h3]
        rfl
def lvdrop : Nat → List Nat → List (Option Value) → List (Option Value)
  | _, _, [] => []
  | b, is, v :: r => (if is.contains b then none else v) :: lvdrop (b + 1) is r
theorem lvdrop_len (is : List Nat) : ∀ (lv : List (Option Value)) (b : Nat), (lvdrop b is lv).length = lv.length
  | [], b => rfl
  | v :: r, b => by
    show (lvdrop (b + 1) is r).length + 1 = r.length + 1
    rw [lvdrop_len is r (b + 1)]
theorem lvdrop_sub (is : List Nat) : ∀ (lv : List (Option Value)) (b : Nat) (q : Nat × Value), q ∈ lvp b (lvdrop b is lv) → q ∈ lvp b lv
  | [], b, q, h => h
  | v :: r, b, q, h => by
    have ih := lvdrop_sub is r (b + 1) q
    have h : q ∈ lvp b ((if is.contains b then none else v) :: lvdrop (b + 1) is r) := h
    by_cases c : is.contains b = true
    · rw [if_pos c] at h
      have := ih h
      cases v with
      | none => exact this
      | some w => exact List.mem_cons_of_mem _ this
    · rw [if_neg c] at h
      cases v with
      | none => exact ih h
      | some w =>
        rcases List.mem_cons.mp h with h | h
        · rw [h]; exact List.mem_cons_self
        · exact List.mem_cons_of_mem _ (ih h)
section GR
variable {X : Cx} {cc : ByteArray} {own : String} {nL : Nat} {ret : Option FieldType} {k n z : Nat} {T L : Nat → Nat} {V : w_V} {P : w_P} {pc : Nat} {lv : List (Option Value)} {st : List Value}
theorem g_eq {st' : List Value} {lv' : List (Option Value)} (e1 : st = st') (e2 : lv = lv') (kk : gW X k n z T L V P pc lv' st') : gW X k n z T L V P pc lv st := by
  subst e1 e2
  exact kk
theorem g_widen {k' n' : Nat} (h1 : k ≤ k') (h2 : n ≤ n') (kk : gW X k' n' z T L V P pc lv st) : gW X k n z T L V P pc lv st := fun H locs ls hw hS h => W.widen h1 h2 (kk H locs ls hw hS h)
theorem g_drop (is : List Nat) {lv' : List (Option Value)} (e : lvdrop 0 is lv = lv') (kk : gW X k n z T L V P pc lv' st) : gW X k n z T L V P pc lv st := by
  subst e
  exact fun H locs ls hw hS h => kk H locs ls hw hS ⟨by rw [lvdrop_len]; exact h.1, h.2.1, fun q hq => h.2.2 q (lvdrop_sub is lv 0 q hq)⟩
theorem g_iconst (O : Okc X cc own nL ret) {v : Int32} {j : Int} (d : decode cc pc = .ok (.iconst j, 1)) (hv : Int32.ofInt j = v) (kk : gW X k n z T L V P (pc + 1) lv (.int v :: st)) : gW X k n z T L V P pc lv st := fun H locs ls hw hS h => lv_iconst O.1 O.2.1 d hv (kk H locs ls hw hS h)
theorem g_bipush (O : Okc X cc own nL ret) {v : Int32} {j : Int} (d : decode cc pc = .ok (.bipush j, 2)) (hv : (Int8.ofInt j).toInt32 = v) (kk : gW X k n z T L V P (pc + 2) lv (.int v :: st)) : gW X k n z T L V P pc lv st := fun H locs ls hw hS h => lv_bipush O.1 O.2.1 d hv (kk H locs ls hw hS h)
theorem g_sipush (O : Okc X cc own nL ret) {v : Int32} {j : Int} (d : decode cc pc = .ok (.sipush j, 3)) (hv : (Int16.ofInt j).toInt32 = v) (kk : gW X k n z T L V P (pc + 3) lv (.int v :: st)) : gW X k n z T L V P pc lv st := fun H locs ls hw hS h => lv_sipush O.1 O.2.1 d hv (kk H locs ls hw hS h)
theorem g_ldc (O : Okc X cc own nL ret) {v : Int32} {j : Nat} (q : Cond.constant own j v ∈ lw_all) (d : decode cc pc = .ok (.ldc j, 2)) (kk : gW X k n z T L V P (pc + 2) lv (.int v :: st)) : gW X k n z T L V P pc lv st := fun H locs ls hw hS h => lv_ldc O.1 O.2.1 O.2.2.2.1 (O.2.2.2.2.1 _ q) d (kk H locs ls hw hS h)
theorem g_ldc2 (O : Okc X cc own nL ret) {v : Int64} {j : Nat} (q : Cond.constantLong own j v ∈ lw_all) (d : decode cc pc = .ok (.ldc2_w j, 3)) (kk : gW X k n z T L V P (pc + 3) lv (.long v :: st)) : gW X k n z T L V P pc lv st := fun H locs ls hw hS h => lv_ldc2 O.1 O.2.1 O.2.2.2.1 (O.2.2.2.2.1 _ q) d (kk H locs ls hw hS h)
theorem g_lconst (O : Okc X cc own nL ret) {v : Int64} {j : Fin 2} (d : decode cc pc = .ok (.lconst j, 1)) (hv : Int64.ofNat (j : Nat) = v) (kk : gW X k n z T L V P (pc + 1) lv (.long v :: st)) : gW X k n z T L V P pc lv st := fun H locs ls hw hS h => lv_lconst O.1 O.2.1 d hv (kk H locs ls hw hS h)
theorem g_iload (O : Okc X cc own nL ret) {i : Nat} {x : Int32} (d : decode cc pc = .ok (.iload i, 2)) (hl : lv[i]? = some (some (.int x))) (kk : gW X k n z T L V P (pc + 2) lv (.int x :: st)) : gW X k n z T L V P pc lv st := fun H locs ls hw hS h => lv_iload O.1 O.2.1 d (lvp_at h hl) (kk H locs ls hw hS h)
theorem g_iload_n (O : Okc X cc own nL ret) {j : Fin 4} {x : Int32} (d : decode cc pc = .ok (.iload_n j, 1)) (hl : lv[(j : Nat)]? = some (some (.int x))) (kk : gW X k n z T L V P (pc + 1) lv (.int x :: st)) : gW X k n z T L V P pc lv st := fun H locs ls hw hS h => lv_iload_n O.1 O.2.1 d rfl (lvp_at h hl) (kk H locs ls hw hS h)
theorem g_aload (O : Okc X cc own nL ret) {i : Nat} {x : Nat} (d : decode cc pc = .ok (.aload i, 2)) (hl : lv[i]? = some (some (.ref x))) (kk : gW X k n z T L V P (pc + 2) lv (.ref x :: st)) : gW X k n z T L V P pc lv st := fun H locs ls hw hS h => lv_aload O.1 O.2.1 d (lvp_at h hl) (kk H locs ls hw hS h)
theorem g_aload_n (O : Okc X cc own nL ret) {j : Fin 4} {x : Nat} (d : decode cc pc = .ok (.aload_n j, 1)) (hl : lv[(j : Nat)]? = some (some (.ref x))) (kk : gW X k n z T L V P (pc + 1) lv (.ref x :: st)) : gW X k n z T L V P pc lv st := fun H locs ls hw hS h => lv_aload_n O.1 O.2.1 d rfl (lvp_at h hl) (kk H locs ls hw hS h)
theorem g_lload (O : Okc X cc own nL ret) {i : Nat} {x : Int64} (d : decode cc pc = .ok (.lload i, 2)) (hl : lv[i]? = some (some (.long x))) (kk : gW X k n z T L V P (pc + 2) lv (.long x :: st)) : gW X k n z T L V P pc lv st := fun H locs ls hw hS h => lv_lload O.1 O.2.1 d (lvp_at h hl) (kk H locs ls hw hS h)
theorem g_lload_n (O : Okc X cc own nL ret) {j : Fin 4} {x : Int64} (d : decode cc pc = .ok (.lload_n j, 1)) (hl : lv[(j : Nat)]? = some (some (.long x))) (kk : gW X k n z T L V P (pc + 1) lv (.long x :: st)) : gW X k n z T L V P pc lv st := fun H locs ls hw hS h => lv_lload_n O.1 O.2.1 d rfl (lvp_at h hl) (kk H locs ls hw hS h)
theorem g_istore (O : Okc X cc own nL ret) {i : Nat} {x : Int32} (d : decode cc pc = .ok (.istore i, 2)) (hi : i < lv.length) (hn : lno lv i = true) {lv' : List (Option Value)} (e : lv.set i (some (.int x)) = lv') (kk : gW X k n z T L V P (pc + 2) lv' st) : gW X k n z T L V P pc lv (.int x :: st) := by
  subst e
  exact fun H locs ls hw hS h => lv_istore O.1 O.2.1 d h hi rfl (fun ls' h' => kk H locs ls' hw hS (lvp_set hi hn rfl h'))
theorem g_istore_n (O : Okc X cc own nL ret) {j : Fin 4} {x : Int32} (d : decode cc pc = .ok (.istore_n j, 1)) (hi : (j : Nat) < lv.length) (hn : lno lv (j : Nat) = true) {lv' : List (Option Value)} (e : lv.set (j : Nat) (some (.int x)) = lv') (kk : gW X k n z T L V P (pc + 1) lv' st) : gW X k n z T L V P pc lv (.int x :: st) := by
  subst e
  exact fun H locs ls hw hS h => lv_istore_n O.1 O.2.1 d rfl h hi rfl (fun ls' h' => kk H locs ls' hw hS (lvp_set hi hn rfl h'))
theorem g_astore (O : Okc X cc own nL ret) {i : Nat} {x : Nat} (d : decode cc pc = .ok (.astore i, 2)) (hi : i < lv.length) (hn : lno lv i = true) {lv' : List (Option Value)} (e : lv.set i (some (.ref x)) = lv') (kk : gW X k n z T L V P (pc + 2) lv' st) : gW X k n z T L V P pc lv (.ref x :: st) := by
  subst e
  exact fun H locs ls hw hS h => lv_astore O.1 O.2.1 d h hi rfl (fun ls' h' => kk H locs ls' hw hS (lvp_set hi hn rfl h'))
theorem g_astore_n (O : Okc X cc own nL ret) {j : Fin 4} {x : Nat} (d : decode cc pc = .ok (.astore_n j, 1)) (hi : (j : Nat) < lv.length) (hn : lno lv (j : Nat) = true) {lv' : List (Option Value)} (e : lv.set (j : Nat) (some (.ref x)) = lv') (kk : gW X k n z T L V P (pc + 1) lv' st) : gW X k n z T L V P pc lv (.ref x :: st) := by
  subst e
  exact fun H locs ls hw hS h => lv_astore_n O.1 O.2.1 d rfl h hi rfl (fun ls' h' => kk H locs ls' hw hS (lvp_set hi hn rfl h'))
theorem g_iadd (O : Okc X cc own nL ret) {x y : Int32} (d : decode cc pc = .ok (.iadd, 1)) (kk : gW X k n z T L V P (pc + 1) lv (.int (x + y) :: st)) : gW X k n z T L V P pc lv (.int y :: .int x :: st) := fun H locs ls hw hS h => lv_iadd O.1 O.2.1 d (kk H locs ls hw hS h)
theorem g_isub (O : Okc X cc own nL ret) {x y : Int32} (d : decode cc pc = .ok (.isub, 1)) (kk : gW X k n z T L V P (pc + 1) lv (.int (x - y) :: st)) : gW X k n z T L V P pc lv (.int y :: .int x :: st) := fun H locs ls hw hS h => lv_isub O.1 O.2.1 d (kk H locs ls hw hS h)
theorem g_imul (O : Okc X cc own nL ret) {x y : Int32} (d : decode cc pc = .ok (.imul, 1)) (kk : gW X k n z T L V P (pc + 1) lv (.int (x * y) :: st)) : gW X k n z T L V P pc lv (.int y :: .int x :: st) := fun H locs ls hw hS h => lv_imul O.1 O.2.1 d (kk H locs ls hw hS h)
theorem g_iand (O : Okc X cc own nL ret) {x y : Int32} (d : decode cc pc = .ok (.iand, 1)) (kk : gW X k n z T L V P (pc + 1) lv (.int (x &&& y) :: st)) : gW X k n z T L V P pc lv (.int y :: .int x :: st) := fun H locs ls hw hS h => lv_iand O.1 O.2.1 d (kk H locs ls hw hS h)
theorem g_ior (O : Okc X cc own nL ret) {x y : Int32} (d : decode cc pc = .ok (.ior, 1)) (kk : gW X k n z T L V P (pc + 1) lv (.int (x ||| y) :: st)) : gW X k n z T L V P pc lv (.int y :: .int x :: st) := fun H locs ls hw hS h => lv_ior O.1 O.2.1 d (kk H locs ls hw hS h)
theorem g_ixor (O : Okc X cc own nL ret) {x y : Int32} (d : decode cc pc = .ok (.ixor, 1)) (kk : gW X k n z T L V P (pc + 1) lv (.int (x ^^^ y) :: st)) : gW X k n z T L V P pc lv (.int y :: .int x :: st) := fun H locs ls hw hS h => lv_ixor O.1 O.2.1 d (kk H locs ls hw hS h)
theorem g_ishl (O : Okc X cc own nL ret) {x y : Int32} (d : decode cc pc = .ok (.ishl, 1)) (kk : gW X k n z T L V P (pc + 1) lv (.int (x <<< (y &&& 31)) :: st)) : gW X k n z T L V P pc lv (.int y :: .int x :: st) := fun H locs ls hw hS h => lv_ishl O.1 O.2.1 d (kk H locs ls hw hS h)
theorem g_ishr (O : Okc X cc own nL ret) {x y : Int32} (d : decode cc pc = .ok (.ishr, 1)) (kk : gW X k n z T L V P (pc + 1) lv (.int (x >>> (y &&& 31)) :: st)) : gW X k n z T L V P pc lv (.int y :: .int x :: st) := fun H locs ls hw hS h => lv_ishr O.1 O.2.1 d (kk H locs ls hw hS h)
theorem g_idiv (O : Okc X cc own nL ret) {x y : Int32} (hne : ¬ y = 0) (d : decode cc pc = .ok (.idiv, 1)) (kk : gW X k n z T L V P (pc + 1) lv (.int (x / y) :: st)) : gW X k n z T L V P pc lv (.int y :: .int x :: st) := fun H locs ls hw hS h => lv_idiv O.1 O.2.1 d hne (kk H locs ls hw hS h)
theorem g_irem (O : Okc X cc own nL ret) {x y : Int32} (hne : ¬ y = 0) (d : decode cc pc = .ok (.irem, 1)) (kk : gW X k n z T L V P (pc + 1) lv (.int (x - x / y * y) :: st)) : gW X k n z T L V P pc lv (.int y :: .int x :: st) := fun H locs ls hw hS h => lv_irem O.1 O.2.1 d hne (kk H locs ls hw hS h)
theorem g_ineg (O : Okc X cc own nL ret) {x : Int32} (d : decode cc pc = .ok (.ineg, 1)) (kk : gW X k n z T L V P (pc + 1) lv (.int (-x) :: st)) : gW X k n z T L V P pc lv (.int x :: st) := fun H locs ls hw hS h => lv_ineg O.1 O.2.1 d (kk H locs ls hw hS h)
theorem g_i2l (O : Okc X cc own nL ret) {x : Int32} (d : decode cc pc = .ok (.i2l, 1)) (kk : gW X k n z T L V P (pc + 1) lv (.long x.toInt64 :: st)) : gW X k n z T L V P pc lv (.int x :: st) := fun H locs ls hw hS h => lv_i2l O.1 O.2.1 d rfl (kk H locs ls hw hS h)
theorem g_i2c (O : Okc X cc own nL ret) {x : Int32} (d : decode cc pc = .ok (.i2c, 1)) (kk : gW X k n z T L V P (pc + 1) lv (.int (x.toUInt32 % 65536).toInt32 :: st)) : gW X k n z T L V P pc lv (.int x :: st) := fun H locs ls hw hS h => lv_i2c O.1 O.2.1 d rfl (kk H locs ls hw hS h)
theorem g_i2b (O : Okc X cc own nL ret) {x : Int32} (d : decode cc pc = .ok (.i2b, 1)) (kk : gW X k n z T L V P (pc + 1) lv (.int x.toInt8.toInt32 :: st)) : gW X k n z T L V P pc lv (.int x :: st) := fun H locs ls hw hS h => lv_i2b O.1 O.2.1 d rfl (kk H locs ls hw hS h)
theorem g_lcmp (O : Okc X cc own nL ret) {x y : Int64} (d : decode cc pc = .ok (.lcmp, 1)) (kk : gW X k n z T L V P (pc + 1) lv (.int (lg_cmp x y) :: st)) : gW X k n z T L V P pc lv (.long y :: .long x :: st) := fun H locs ls hw hS h => W.lcmp O.1 O.2.1 d (kk H locs ls hw hS h)
theorem g_dup (O : Okc X cc own nL ret) {v : Value} (d : decode cc pc = .ok (.dup, 1)) (c1 : v.category = 1) (kk : gW X k n z T L V P (pc + 1) lv (v :: v :: st)) : gW X k n z T L V P pc lv (v :: st) := fun H locs ls hw hS h => lv_dup O.1 O.2.1 d c1 (kk H locs ls hw hS h)
theorem g_pop (O : Okc X cc own nL ret) {v : Value} (d : decode cc pc = .ok (.pop, 1)) (c1 : v.category = 1) (kk : gW X k n z T L V P (pc + 1) lv st) : gW X k n z T L V P pc lv (v :: st) := fun H locs ls hw hS h => lv_pop O.1 O.2.1 d c1 (kk H locs ls hw hS h)
theorem g_dup_x1 (O : Okc X cc own nL ret) {v w : Value} (d : decode cc pc = .ok (.dup_x1, 1)) (c1 : v.category = 1) (c2 : w.category = 1) (kk : gW X k n z T L V P (pc + 1) lv (v :: w :: v :: st)) : gW X k n z T L V P pc lv (v :: w :: st) := fun H locs ls hw hS h => lv_dup_x1 O.1 O.2.1 d c1 c2 (kk H locs ls hw hS h)
theorem g_dup_x2 (O : Okc X cc own nL ret) {v w u : Value} (d : decode cc pc = .ok (.dup_x2, 1)) (c1 : v.category = 1) (c2 : w.category = 1) (c3 : u.category = 1) (kk : gW X k n z T L V P (pc + 1) lv (v :: w :: u :: v :: st)) : gW X k n z T L V P pc lv (v :: w :: u :: st) := fun H locs ls hw hS h => lv_dup_x2 O.1 O.2.1 d c1 c2 c3 (kk H locs ls hw hS h)
theorem g_dup2 (O : Okc X cc own nL ret) {v w : Value} (d : decode cc pc = .ok (.dup2, 1)) (c1 : v.category = 1) (c2 : w.category = 1) (kk : gW X k n z T L V P (pc + 1) lv (v :: w :: v :: w :: st)) : gW X k n z T L V P pc lv (v :: w :: st) := fun H locs ls hw hS h => lv_dup2_11 O.1 O.2.1 d c1 c2 (kk H locs ls hw hS h)
theorem g_goto (O : Okc X cc own nL ret) {off : Int} {tgt : Nat} (d : decode cc pc = .ok (.goto off, 3)) (ht : (pc : Int) + off = (tgt : Int)) (kk : gW X k n z T L V P tgt lv st) : gW X k n z T L V P pc lv st := fun H locs ls hw hS h => lv_goto O.1 O.2.1 d ht (kk H locs ls hw hS h)
theorem g_iinc (O : Okc X cc own nL ret) {i : Nat} {j : Int} {x v : Int32} (d : decode cc pc = .ok (.iinc i j, 3)) (hl : lv[i]? = some (some (.int x))) (hn : lno lv i = true) (hv : x + Int32.ofInt j = v) {lv' : List (Option Value)} (e : lv.set i (some (.int v)) = lv') (kk : gW X k n z T L V P (pc + 3) lv' st) : gW X k n z T L V P pc lv st := by
  subst e
  intro H locs ls hw hS h
  have hm : (i, Value.int x) ∈ lvp 0 lv := by
    have := lvp_mem lv 0 i _ hl
    rwa [Nat.zero_add] at this
  obtain ⟨q, hq⟩ := List.getElem?_of_mem hm
  have hi : i < lv.length := (List.getElem?_eq_some_iff.mp hl).1
  exact lv_iinc (k := q) O.1 O.2.1 d h hq hv hi rfl (fun ls' h' => kk H locs ls' hw hS (lvp_set hi hn rfl h'))
theorem g_icmp_eq (O : Okc X cc own nL ret) {x y : Int32} {A B : Prop} {off : Int} {tgt : Nat} (w : if x = y then A else B) (d : decode cc pc = .ok (.if_icmp .eq off, 3)) (ht : (pc : Int) + off = (tgt : Int)) (kt : A → gW X k n z T L V P tgt lv st) (kf : B → gW X k n z T L V P (pc + 3) lv st) : gW X k n z T L V P pc lv (.int y :: .int x :: st) := fun H locs ls hw hS h => lv_icmp_eq O.1 O.2.1 d ht (fun c => kt (by rw [if_pos c] at w; exact w) H locs ls hw hS h) (fun c => kf (by rw [if_neg c] at w; exact w) H locs ls hw hS h)
theorem g_if_eq (O : Okc X cc own nL ret) {x : Int32} {A B : Prop} {off : Int} {tgt : Nat} (w : if x = 0 then A else B) (d : decode cc pc = .ok (.ifCond .eq off, 3)) (ht : (pc : Int) + off = (tgt : Int)) (kt : A → gW X k n z T L V P tgt lv st) (kf : B → gW X k n z T L V P (pc + 3) lv st) : gW X k n z T L V P pc lv (.int x :: st) := fun H locs ls hw hS h => lv_if_eq O.1 O.2.1 d ht (fun c => kt (by rw [if_pos c] at w; exact w) H locs ls hw hS h) (fun c => kf (by rw [if_neg c] at w; exact w) H locs ls hw hS h)
theorem g_icmp_lt (O : Okc X cc own nL ret) {x y : Int32} {A B : Prop} {off : Int} {tgt : Nat} (w : if x < y then A else B) (d : decode cc pc = .ok (.if_icmp .lt off, 3)) (ht : (pc : Int) + off = (tgt : Int)) (kt : A → gW X k n z T L V P tgt lv st) (kf : B → gW X k n z T L V P (pc + 3) lv st) : gW X k n z T L V P pc lv (.int y :: .int x :: st) := fun H locs ls hw hS h => lv_icmp_lt O.1 O.2.1 d ht (fun c => kt (by rw [if_pos c] at w; exact w) H locs ls hw hS h) (fun c => kf (by rw [if_neg c] at w; exact w) H locs ls hw hS h)
theorem g_if_lt (O : Okc X cc own nL ret) {x : Int32} {A B : Prop} {off : Int} {tgt : Nat} (w : if x < 0 then A else B) (d : decode cc pc = .ok (.ifCond .lt off, 3)) (ht : (pc : Int) + off = (tgt : Int)) (kt : A → gW X k n z T L V P tgt lv st) (kf : B → gW X k n z T L V P (pc + 3) lv st) : gW X k n z T L V P pc lv (.int x :: st) := fun H locs ls hw hS h => lv_if_lt O.1 O.2.1 d ht (fun c => kt (by rw [if_pos c] at w; exact w) H locs ls hw hS h) (fun c => kf (by rw [if_neg c] at w; exact w) H locs ls hw hS h)
theorem g_icmp_ge (O : Okc X cc own nL ret) {x y : Int32} {A B : Prop} {off : Int} {tgt : Nat} (w : if y ≤ x then A else B) (d : decode cc pc = .ok (.if_icmp .ge off, 3)) (ht : (pc : Int) + off = (tgt : Int)) (kt : A → gW X k n z T L V P tgt lv st) (kf : B → gW X k n z T L V P (pc + 3) lv st) : gW X k n z T L V P pc lv (.int y :: .int x :: st) := fun H locs ls hw hS h => lv_icmp_ge O.1 O.2.1 d ht (fun c => kt (by rw [if_pos c] at w; exact w) H locs ls hw hS h) (fun c => kf (by rw [if_neg c] at w; exact w) H locs ls hw hS h)
theorem g_if_ge (O : Okc X cc own nL ret) {x : Int32} {A B : Prop} {off : Int} {tgt : Nat} (w : if 0 ≤ x then A else B) (d : decode cc pc = .ok (.ifCond .ge off, 3)) (ht : (pc : Int) + off = (tgt : Int)) (kt : A → gW X k n z T L V P tgt lv st) (kf : B → gW X k n z T L V P (pc + 3) lv st) : gW X k n z T L V P pc lv (.int x :: st) := fun H locs ls hw hS h => lv_if_ge O.1 O.2.1 d ht (fun c => kt (by rw [if_pos c] at w; exact w) H locs ls hw hS h) (fun c => kf (by rw [if_neg c] at w; exact w) H locs ls hw hS h)
theorem g_icmp_gt (O : Okc X cc own nL ret) {x y : Int32} {A B : Prop} {off : Int} {tgt : Nat} (w : if y < x then A else B) (d : decode cc pc = .ok (.if_icmp .gt off, 3)) (ht : (pc : Int) + off = (tgt : Int)) (kt : A → gW X k n z T L V P tgt lv st) (kf : B → gW X k n z T L V P (pc + 3) lv st) : gW X k n z T L V P pc lv (.int y :: .int x :: st) := fun H locs ls hw hS h => lv_icmp_gt O.1 O.2.1 d ht (fun c => kt (by rw [if_pos c] at w; exact w) H locs ls hw hS h) (fun c => kf (by rw [if_neg c] at w; exact w) H locs ls hw hS h)
theorem g_if_gt (O : Okc X cc own nL ret) {x : Int32} {A B : Prop} {off : Int} {tgt : Nat} (w : if 0 < x then A else B) (d : decode cc pc = .ok (.ifCond .gt off, 3)) (ht : (pc : Int) + off = (tgt : Int)) (kt : A → gW X k n z T L V P tgt lv st) (kf : B → gW X k n z T L V P (pc + 3) lv st) : gW X k n z T L V P pc lv (.int x :: st) := fun H locs ls hw hS h => lv_if_gt O.1 O.2.1 d ht (fun c => kt (by rw [if_pos c] at w; exact w) H locs ls hw hS h) (fun c => kf (by rw [if_neg c] at w; exact w) H locs ls hw hS h)
theorem g_icmp_le (O : Okc X cc own nL ret) {x y : Int32} {A B : Prop} {off : Int} {tgt : Nat} (w : if x ≤ y then A else B) (d : decode cc pc = .ok (.if_icmp .le off, 3)) (ht : (pc : Int) + off = (tgt : Int)) (kt : A → gW X k n z T L V P tgt lv st) (kf : B → gW X k n z T L V P (pc + 3) lv st) : gW X k n z T L V P pc lv (.int y :: .int x :: st) := fun H locs ls hw hS h => lv_icmp_le O.1 O.2.1 d ht (fun c => kt (by rw [if_pos c] at w; exact w) H locs ls hw hS h) (fun c => kf (by rw [if_neg c] at w; exact w) H locs ls hw hS h)
theorem g_if_le (O : Okc X cc own nL ret) {x : Int32} {A B : Prop} {off : Int} {tgt : Nat} (w : if x ≤ 0 then A else B) (d : decode cc pc = .ok (.ifCond .le off, 3)) (ht : (pc : Int) + off = (tgt : Int)) (kt : A → gW X k n z T L V P tgt lv st) (kf : B → gW X k n z T L V P (pc + 3) lv st) : gW X k n z T L V P pc lv (.int x :: st) := fun H locs ls hw hS h => lv_if_le O.1 O.2.1 d ht (fun c => kt (by rw [if_pos c] at w; exact w) H locs ls hw hS h) (fun c => kf (by rw [if_neg c] at w; exact w) H locs ls hw hS h)
theorem g_icmp_ne (O : Okc X cc own nL ret) {x y : Int32} {A B : Prop} {off : Int} {tgt : Nat} (w : if x = y then B else A) (d : decode cc pc = .ok (.if_icmp .ne off, 3)) (ht : (pc : Int) + off = (tgt : Int)) (kt : A → gW X k n z T L V P tgt lv st) (kf : B → gW X k n z T L V P (pc + 3) lv st) : gW X k n z T L V P pc lv (.int y :: .int x :: st) := fun H locs ls hw hS h => lv_icmp_ne O.1 O.2.1 d ht (fun c => kt (by rw [if_neg c] at w; exact w) H locs ls hw hS h) (fun c => kf (by rw [if_pos c] at w; exact w) H locs ls hw hS h)
theorem g_if_ne (O : Okc X cc own nL ret) {x : Int32} {A B : Prop} {off : Int} {tgt : Nat} (w : if x = 0 then B else A) (d : decode cc pc = .ok (.ifCond .ne off, 3)) (ht : (pc : Int) + off = (tgt : Int)) (kt : A → gW X k n z T L V P tgt lv st) (kf : B → gW X k n z T L V P (pc + 3) lv st) : gW X k n z T L V P pc lv (.int x :: st) := fun H locs ls hw hS h => lv_if_ne O.1 O.2.1 d ht (fun c => kt (by rw [if_neg c] at w; exact w) H locs ls hw hS h) (fun c => kf (by rw [if_pos c] at w; exact w) H locs ls hw hS h)
theorem g_tabIn (O : Okc X cc own nL ret) {dflt lo hi : Int} {offs : Array Int} {len : Nat} {x : Int32} {off : Int} {tgt : Nat} (d : decode cc pc = .ok (.tableswitch dflt lo hi offs, len)) (h1 : ¬ x.toInt < lo) (h2 : ¬ hi < x.toInt) (ho : offs[(x.toInt - lo).toNat]? = some off) (ht : (pc : Int) + off = (tgt : Int)) (kk : gW X k n z T L V P tgt lv st) : gW X k n z T L V P pc lv (.int x :: st) := fun H locs ls hw hS h => lv_tableIn O.1 O.2.1 d h1 h2 ho ht (kk H locs ls hw hS h)
theorem g_tabOut (O : Okc X cc own nL ret) {dflt lo hi : Int} {offs : Array Int} {len : Nat} {x : Int32} {tgt : Nat} (d : decode cc pc = .ok (.tableswitch dflt lo hi offs, len)) (h1 : x.toInt < lo ∨ hi < x.toInt) (ht : (pc : Int) + dflt = (tgt : Int)) (kk : gW X k n z T L V P tgt lv st) : gW X k n z T L V P pc lv (.int x :: st) := fun H locs ls hw hS h => lv_tableOut O.1 O.2.1 d h1 ht (kk H locs ls hw hS h)
theorem g_icmp_eq_t (O : Okc X cc own nL ret) {x y : Int32} {off : Int} {tgt : Nat} (c : x = y) (d : decode cc pc = .ok (.if_icmp .eq off, 3)) (ht : (pc : Int) + off = (tgt : Int)) (kt : gW X k n z T L V P tgt lv st) : gW X k n z T L V P pc lv (.int y :: .int x :: st) := fun H locs ls hw hS h => lv_icmp_eq O.1 O.2.1 d ht (fun _ => kt H locs ls hw hS h) (fun c2 => absurd c c2)
theorem g_icmp_eq_f (O : Okc X cc own nL ret) {x y : Int32} {off : Int} (c : ¬ x = y) (d : decode cc pc = .ok (.if_icmp .eq off, 3)) (tgt : Nat) (ht : (pc : Int) + off = (tgt : Int)) (kt : gW X k n z T L V P (pc + 3) lv st) : gW X k n z T L V P pc lv (.int y :: .int x :: st) := fun H locs ls hw hS h => lv_icmp_eq O.1 O.2.1 d ht (fun c2 => absurd c2 c) (fun _ => kt H locs ls hw hS h)
theorem g_if_eq_t (O : Okc X cc own nL ret) {x : Int32} {off : Int} {tgt : Nat} (c : x = 0) (d : decode cc pc = .ok (.ifCond .eq off, 3)) (ht : (pc : Int) + off = (tgt : Int)) (kt : gW X k n z T L V P tgt lv st) : gW X k n z T L V P pc lv (.int x :: st) := fun H locs ls hw hS h => lv_if_eq O.1 O.2.1 d ht (fun _ => kt H locs ls hw hS h) (fun c2 => absurd c c2)
theorem g_if_eq_f (O : Okc X cc own nL ret) {x : Int32} {off : Int} (c : ¬ x = 0) (d : decode cc pc = .ok (.ifCond .eq off, 3)) (tgt : Nat) (ht : (pc : Int) + off = (tgt : Int)) (kt : gW X k n z T L V P (pc + 3) lv st) : gW X k n z T L V P pc lv (.int x :: st) := fun H locs ls hw hS h => lv_if_eq O.1 O.2.1 d ht (fun c2 => absurd c2 c) (fun _ => kt H locs ls hw hS h)
theorem g_icmp_lt_t (O : Okc X cc own nL ret) {x y : Int32} {off : Int} {tgt : Nat} (c : x < y) (d : decode cc pc = .ok (.if_icmp .lt off, 3)) (ht : (pc : Int) + off = (tgt : Int)) (kt : gW X k n z T L V P tgt lv st) : gW X k n z T L V P pc lv (.int y :: .int x :: st) := fun H locs ls hw hS h => lv_icmp_lt O.1 O.2.1 d ht (fun _ => kt H locs ls hw hS h) (fun c2 => absurd c c2)
theorem g_icmp_lt_f (O : Okc X cc own nL ret) {x y : Int32} {off : Int} (c : ¬ x < y) (d : decode cc pc = .ok (.if_icmp .lt off, 3)) (tgt : Nat) (ht : (pc : Int) + off = (tgt : Int)) (kt : gW X k n z T L V P (pc + 3) lv st) : gW X k n z T L V P pc lv (.int y :: .int x :: st) := fun H locs ls hw hS h => lv_icmp_lt O.1 O.2.1 d ht (fun c2 => absurd c2 c) (fun _ => kt H locs ls hw hS h)
theorem g_if_lt_t (O : Okc X cc own nL ret) {x : Int32} {off : Int} {tgt : Nat} (c : x < 0) (d : decode cc pc = .ok (.ifCond .lt off, 3)) (ht : (pc : Int) + off = (tgt : Int)) (kt : gW X k n z T L V P tgt lv st) : gW X k n z T L V P pc lv (.int x :: st) := fun H locs ls hw hS h => lv_if_lt O.1 O.2.1 d ht (fun _ => kt H locs ls hw hS h) (fun c2 => absurd c c2)
theorem g_if_lt_f (O : Okc X cc own nL ret) {x : Int32} {off : Int} (c : ¬ x < 0) (d : decode cc pc = .ok (.ifCond .lt off, 3)) (tgt : Nat) (ht : (pc : Int) + off = (tgt : Int)) (kt : gW X k n z T L V P (pc + 3) lv st) : gW X k n z T L V P pc lv (.int x :: st) := fun H locs ls hw hS h => lv_if_lt O.1 O.2.1 d ht (fun c2 => absurd c2 c) (fun _ => kt H locs ls hw hS h)
theorem g_icmp_ge_t (O : Okc X cc own nL ret) {x y : Int32} {off : Int} {tgt : Nat} (c : y ≤ x) (d : decode cc pc = .ok (.if_icmp .ge off, 3)) (ht : (pc : Int) + off = (tgt : Int)) (kt : gW X k n z T L V P tgt lv st) : gW X k n z T L V P pc lv (.int y :: .int x :: st) := fun H locs ls hw hS h => lv_icmp_ge O.1 O.2.1 d ht (fun _ => kt H locs ls hw hS h) (fun c2 => absurd c c2)
theorem g_icmp_ge_f (O : Okc X cc own nL ret) {x y : Int32} {off : Int} (c : ¬ y ≤ x) (d : decode cc pc = .ok (.if_icmp .ge off, 3)) (tgt : Nat) (ht : (pc : Int) + off = (tgt : Int)) (kt : gW X k n z T L V P (pc + 3) lv st) : gW X k n z T L V P pc lv (.int y :: .int x :: st) := fun H locs ls hw hS h => lv_icmp_ge O.1 O.2.1 d ht (fun c2 => absurd c2 c) (fun _ => kt H locs ls hw hS h)
theorem g_if_ge_t (O : Okc X cc own nL ret) {x : Int32} {off : Int} {tgt : Nat} (c : 0 ≤ x) (d : decode cc pc = .ok (.ifCond .ge off, 3)) (ht : (pc : Int) + off = (tgt : Int)) (kt : gW X k n z T L V P tgt lv st) : gW X k n z T L V P pc lv (.int x :: st) := fun H locs ls hw hS h => lv_if_ge O.1 O.2.1 d ht (fun _ => kt H locs ls hw hS h) (fun c2 => absurd c c2)
theorem g_if_ge_f (O : Okc X cc own nL ret) {x : Int32} {off : Int} (c : ¬ 0 ≤ x) (d : decode cc pc = .ok (.ifCond .ge off, 3)) (tgt : Nat) (ht : (pc : Int) + off = (tgt : Int)) (kt : gW X k n z T L V P (pc + 3) lv st) : gW X k n z T L V P pc lv (.int x :: st) := fun H locs ls hw hS h => lv_if_ge O.1 O.2.1 d ht (fun c2 => absurd c2 c) (fun _ => kt H locs ls hw hS h)
theorem g_icmp_gt_t (O : Okc X cc own nL ret) {x y : Int32} {off : Int} {tgt : Nat} (c : y < x) (d : decode cc pc = .ok (.if_icmp .gt off, 3)) (ht : (pc : Int) + off = (tgt : Int)) (kt : gW X k n z T L V P tgt lv st) : gW X k n z T L V P pc lv (.int y :: .int x :: st) := fun H locs ls hw hS h => lv_icmp_gt O.1 O.2.1 d ht (fun _ => kt H locs ls hw hS h) (fun c2 => absurd c c2)
theorem g_icmp_gt_f (O : Okc X cc own nL ret) {x y : Int32} {off : Int} (c : ¬ y < x) (d : decode cc pc = .ok (.if_icmp .gt off, 3)) (tgt : Nat) (ht : (pc : Int) + off = (tgt : Int)) (kt : gW X k n z T L V P (pc + 3) lv st) : gW X k n z T L V P pc lv (.int y :: .int x :: st) := fun H locs ls hw hS h => lv_icmp_gt O.1 O.2.1 d ht (fun c2 => absurd c2 c) (fun _ => kt H locs ls hw hS h)
theorem g_if_gt_t (O : Okc X cc own nL ret) {x : Int32} {off : Int} {tgt : Nat} (c : 0 < x) (d : decode cc pc = .ok (.ifCond .gt off, 3)) (ht : (pc : Int) + off = (tgt : Int)) (kt : gW X k n z T L V P tgt lv st) : gW X k n z T L V P pc lv (.int x :: st) := fun H locs ls hw hS h => lv_if_gt O.1 O.2.1 d ht (fun _ => kt H locs ls hw hS h) (fun c2 => absurd c c2)
theorem g_if_gt_f (O : Okc X cc own nL ret) {x : Int32} {off : Int} (c : ¬ 0 < x) (d : decode cc pc = .ok (.ifCond .gt off, 3)) (tgt : Nat) (ht : (pc : Int) + off = (tgt : Int)) (kt : gW X k n z T L V P (pc + 3) lv st) : gW X k n z T L V P pc lv (.int x :: st) := fun H locs ls hw hS h => lv_if_gt O.1 O.2.1 d ht (fun c2 => absurd c2 c) (fun _ => kt H locs ls hw hS h)
theorem g_icmp_le_t (O : Okc X cc own nL ret) {x y : Int32} {off : Int} {tgt : Nat} (c : x ≤ y) (d : decode cc pc = .ok (.if_icmp .le off, 3)) (ht : (pc : Int) + off = (tgt : Int)) (kt : gW X k n z T L V P tgt lv st) : gW X k n z T L V P pc lv (.int y :: .int x :: st) := fun H locs ls hw hS h => lv_icmp_le O.1 O.2.1 d ht (fun _ => kt H locs ls hw hS h) (fun c2 => absurd c c2)
theorem g_icmp_le_f (O : Okc X cc own nL ret) {x y : Int32} {off : Int} (c : ¬ x ≤ y) (d : decode cc pc = .ok (.if_icmp .le off, 3)) (tgt : Nat) (ht : (pc : Int) + off = (tgt : Int)) (kt : gW X k n z T L V P (pc + 3) lv st) : gW X k n z T L V P pc lv (.int y :: .int x :: st) := fun H locs ls hw hS h => lv_icmp_le O.1 O.2.1 d ht (fun c2 => absurd c2 c) (fun _ => kt H locs ls hw hS h)
theorem g_if_le_t (O : Okc X cc own nL ret) {x : Int32} {off : Int} {tgt : Nat} (c : x ≤ 0) (d : decode cc pc = .ok (.ifCond .le off, 3)) (ht : (pc : Int) + off = (tgt : Int)) (kt : gW X k n z T L V P tgt lv st) : gW X k n z T L V P pc lv (.int x :: st) := fun H locs ls hw hS h => lv_if_le O.1 O.2.1 d ht (fun _ => kt H locs ls hw hS h) (fun c2 => absurd c c2)
theorem g_if_le_f (O : Okc X cc own nL ret) {x : Int32} {off : Int} (c : ¬ x ≤ 0) (d : decode cc pc = .ok (.ifCond .le off, 3)) (tgt : Nat) (ht : (pc : Int) + off = (tgt : Int)) (kt : gW X k n z T L V P (pc + 3) lv st) : gW X k n z T L V P pc lv (.int x :: st) := fun H locs ls hw hS h => lv_if_le O.1 O.2.1 d ht (fun c2 => absurd c2 c) (fun _ => kt H locs ls hw hS h)
theorem g_icmp_ne_t (O : Okc X cc own nL ret) {x y : Int32} {off : Int} {tgt : Nat} (c : ¬ x = y) (d : decode cc pc = .ok (.if_icmp .ne off, 3)) (ht : (pc : Int) + off = (tgt : Int)) (kt : gW X k n z T L V P tgt lv st) : gW X k n z T L V P pc lv (.int y :: .int x :: st) := fun H locs ls hw hS h => lv_icmp_ne O.1 O.2.1 d ht (fun _ => kt H locs ls hw hS h) (fun c2 => absurd c2 c)
theorem g_icmp_ne_f (O : Okc X cc own nL ret) {x y : Int32} {off : Int} (c : x = y) (d : decode cc pc = .ok (.if_icmp .ne off, 3)) (tgt : Nat) (ht : (pc : Int) + off = (tgt : Int)) (kt : gW X k n z T L V P (pc + 3) lv st) : gW X k n z T L V P pc lv (.int y :: .int x :: st) := fun H locs ls hw hS h => lv_icmp_ne O.1 O.2.1 d ht (fun c2 => absurd c c2) (fun _ => kt H locs ls hw hS h)
theorem g_if_ne_t (O : Okc X cc own nL ret) {x : Int32} {off : Int} {tgt : Nat} (c : ¬ x = 0) (d : decode cc pc = .ok (.ifCond .ne off, 3)) (ht : (pc : Int) + off = (tgt : Int)) (kt : gW X k n z T L V P tgt lv st) : gW X k n z T L V P pc lv (.int x :: st) := fun H locs ls hw hS h => lv_if_ne O.1 O.2.1 d ht (fun _ => kt H locs ls hw hS h) (fun c2 => absurd c2 c)
theorem g_if_ne_f (O : Okc X cc own nL ret) {x : Int32} {off : Int} (c : x = 0) (d : decode cc pc = .ok (.ifCond .ne off, 3)) (tgt : Nat) (ht : (pc : Int) + off = (tgt : Int)) (kt : gW X k n z T L V P (pc + 3) lv st) : gW X k n z T L V P pc lv (.int x :: st) := fun H locs ls hw hS h => lv_if_ne O.1 O.2.1 d ht (fun c2 => absurd c c2) (fun _ => kt H locs ls hw hS h)
theorem g_ldcw (O : Okc X cc own nL ret) {v : Int32} {j : Nat} (q : Cond.constant own j v ∈ lw_all) (d : decode cc pc = .ok (.ldc_w j, 3)) (kk : gW X k n z T L V P (pc + 3) lv (.int v :: st)) : gW X k n z T L V P pc lv st := fun H locs ls hw hS h => lv_ldcw O.1 O.2.1 O.2.2.2.1 (O.2.2.2.2.1 _ q) d (kk H locs ls hw hS h)
theorem g_tabE (O : Okc X cc own nL ret) {dflt lo hi : Int} {offs : Array Int} {len : Nat} {x c : Int32} {off : Int} {tgt : Nat} (e : x = c) (d : decode cc pc = .ok (.tableswitch dflt lo hi offs, len)) (h1 : ¬ c.toInt < lo) (h2 : ¬ hi < c.toInt) (ho : offs[(c.toInt - lo).toNat]? = some off) (ht : (pc : Int) + off = (tgt : Int)) (kk : gW X k n z T L V P tgt lv st) : gW X k n z T L V P pc lv (.int x :: st) := by
  subst e
  exact g_tabIn O d h1 h2 ho ht kk
theorem tab_out {x : Int32} {lo hi : Int} (h : ∀ j : Int, lo ≤ j → j ≤ hi → ¬ x = Int32.ofInt j) : x.toInt < lo ∨ hi < x.toInt := by
  by_cases h1 : x.toInt < lo
  · exact Or.inl h1
  · by_cases h2 : hi < x.toInt
    · exact Or.inr h2
    · exact absurd (Int32.ofInt_toInt x).symm (h x.toInt (by omega) (by omega))
theorem g_mmin (O : Okc X cc own nL ret) {R0 : Room} {idx : Nat} {x y : Int32} (q : Cond.methodLink own idx Lib.Math.min.name ∈ lw_all) (hRm : cxR X = R0) (hf : 1 ≤ R0.frames) (hl : (st.map fun v => v.category).sum + 13 ≤ R0.locals) (hk : k ≤ R0.cells ∧ n ≤ R0.slots) (hnl : lv.length = nL) (d : decode cc pc = .ok (.invokestatic idx, 3)) (kk : gW X k n z T L V P (pc + 3) lv (.int (if y < x then y else x) :: st)) : gW X k n z T L V P pc lv (.int y :: .int x :: st) := fun H locs ls hw hS h => va_mmin O.1 O.2.1 (by rw [O.2.2.1, h.1, hnl]) O.2.2.2.1 (O.2.2.2.2.1 _ q) (O.2.2.2.2.1 _ q293) (O.2.2.2.2.1 _ q120) (O.2.2.2.2.1 _ q294) (by rw [hRm]; exact hf) (by rw [hRm]; exact hl) (by rw [hRm]; exact hk.1) (by rw [hRm]; exact hk.2) d (kk H locs ls hw hS h)
theorem g_mmax (O : Okc X cc own nL ret) {R0 : Room} {idx : Nat} {x y : Int32} (q : Cond.methodLink own idx Lib.Math.max.name ∈ lw_all) (hRm : cxR X = R0) (hf : 1 ≤ R0.frames) (hl : (st.map fun v => v.category).sum + 13 ≤ R0.locals) (hk : k ≤ R0.cells ∧ n ≤ R0.slots) (hnl : lv.length = nL) (d : decode cc pc = .ok (.invokestatic idx, 3)) (kk : gW X k n z T L V P (pc + 3) lv (.int (if x < y then y else x) :: st)) : gW X k n z T L V P pc lv (.int y :: .int x :: st) := fun H locs ls hw hS h => va_mmax O.1 O.2.1 (by rw [O.2.2.1, h.1, hnl]) O.2.2.2.1 (O.2.2.2.2.1 _ q) (O.2.2.2.2.1 _ q275) (O.2.2.2.2.1 _ q120) (O.2.2.2.2.1 _ q276) (by rw [hRm]; exact hf) (by rw [hRm]; exact hl) (by rw [hRm]; exact hk.1) (by rw [hRm]; exact hk.2) d (kk H locs ls hw hS h)
/-- what is known of a class: its number, its words -/
def ckOk (ci : Nat) (C : String) (TT : u_T) (N : Nat) : Prop := acl[ci]? = some (C, TT, N) ∧ (∀ w ∈ u_ws C TT N, w ∈ lw_all) ∧ (∃ ty : Nat → FieldType, ∀ k, k < N → parseFieldDescriptor (TT k).2.2.1 = some (ty k)) ∧ (∀ a, a < N → ∀ b, b < N → a ≠ b → (TT a).2.1 ≠ (TT b).2.1)
theorem va_P1 {D : va_G} {cl : List vw_C} {q : Nat × va_E} {H : Heap} (h : va_at D cl q H) : va_P D cl [q] H := by
  intro k x hk
  cases k with
  | zero => cases hk; exact h
  | succ k => simp at hk
theorem atyK_at {cA : Nat → ClassId} {t : Nat} {ty : FieldType} (h : atyL[t]? = some ty) : (atyK cA)[t]? = some (cA t, ty) := by
  unfold atyL at h
  unfold atyK
  match t, h with
  | 0, h => cases h; rfl
  | 1, h => cases h; rfl
  | 2, h => cases h; rfl
  | 3, h => cases h; rfl
  | 4, h => cases h; rfl
  | 5, h => cases h; rfl
  | 6, h => cases h; rfl
  | t + 7, h => simp at h
theorem g_getV (O : Okc X cc own nL ret) {ci lay j idx a N : Nat} {C : String} {TT : u_T} {f : w_fk} (hck : ckOk ci C TT N) (hl : lay < 100) (hci : acn lay = ci) (hj : (alay lay)[j]? = some f) (hk : j < N) (ht : T a = lay + 1) (q : Cond.fieldLink own idx (TT j).1 (TT j).2.1 (TT j).2.2.1 ∈ lw_all) (d : decode cc pc = .ok (.getfield idx, 3)) (kk : gW X k n z T L V P (pc + 3) lv (fl_val (V a 0) (P a) a j f :: st)) : gW X k n z T L V P pc lv (.ref a :: st) := by
  intro H locs ls hw hS h
  subst hci
  have h1 := (hw.2.2.2.2.1 a lay ht hl).1
  have hv := o_fl_get (V1 := V a 0) (P1 := P a) (a := a) _ 0 _ _ hj
  rw [Nat.zero_add] at hv
  exact va_get O.1 O.2.1 O.2.2.2.2.1 hck.2.1 O.2.2.2.1 O.2.2.2.2.2.1.K (va_P1 h1) 0 rfl hck.1 j hk (O.2.2.2.2.1 _ q) (fun _ x => x) hv d (kk H locs ls hw hS h)
theorem g_putI (O : Okc X cc own nL ret) {ci lay j idx a N : Nat} {x : Int32} {C : String} {TT : u_T} {ty : FieldType} (hck : ckOk ci C TT N) (hl : lay < 100) (hci : acn lay = ci) (hj : (alay lay)[j]? = some fI) (hk : j < N) (ht : T a = lay + 1) (q : Cond.fieldLink own idx (TT j).1 (TT j).2.1 (TT j).2.2.1 ∈ lw_all) (hfin : (TT j).2.2.2 = false) (hd : parseFieldDescriptor (TT j).2.2.1 = some ty) (hn : narrow ty (.int x) = .int x) (hfit : fits ty (.int x) = true) (d : decode cc pc = .ok (.putfield idx, 3)) (kk : gW X k n z T L (up3 V a 0 j x) P (pc + 3) lv st) : gW X k n z T L V P pc lv (.int x :: .ref a :: st) := by
  intro H locs ls hw hS h
  subst hci
  have h1 := (hw.2.2.2.2.1 a lay ht hl).1
  obtain ⟨ty0, hty⟩ := hck.2.2.1
  refine fr_put O.1 O.2.1 O.2.2.2.2.1 hck.2.1 ty0 hty hck.2.2.2 O.2.2.2.1 O.2.2.2.2.2.1.K h1 hck.1 j hk (O.2.2.2.2.1 _ q) (fun _ x => x) hfin hd hn hfit (by rw [o_fl_len]; exact (List.getElem?_eq_some_iff.mp hj).1) d fun H1 i e1 e2 e3 => ?_
  exact kk H1 _ ls (hw.putI ht hl hj e1 e2 e3) (hS.put e2 e3 (hw.base (by rw [ht]; omega))) h
theorem g_aldB (O : Okc X cc own nL ret) {lay j off len a nn : Nat} {i : Int32} (hl : lay < 100) (hj : (alay lay)[j]? = some (fA off 0 len)) (ht : T a = lay + 1) (hi : nn < len ∧ len < 2147483648) (e : i = nI nn) (d : decode cc pc = .ok (.iaload, 1)) (kk : gW X k n z T L V P (pc + 1) lv (.int (V a (j + 1) nn) :: st)) : gW X k n z T L V P pc lv (.int i :: .ref (a + off) :: st) := by
  intro H locs ls hw hS h
  subst e
  have h1 := ((hw.2.2.2.2.1 a lay ht hl).2 j _ hj rfl).2
  refine va_iald O.1 O.2.1 O.2.2.2.2.2.1.K (va_P1 h1) 0 0 rfl (atyK_at rfl) (vp_in_nI hi.1 hi.2) d ?_
  rw [nI_clamp (Nat.lt_trans hi.1 hi.2)]
  exact kk H locs ls hw hS h
theorem g_astB (O : Okc X cc own nL ret) {lay j off len a nn : Nat} {i x : Int32} (hl : lay < 100) (hj : (alay lay)[j]? = some (fA off 0 len)) (ht : T a = lay + 1) (hi : nn < len ∧ len < 2147483648) (e : i = nI nn) (d : decode cc pc = .ok (.iastore, 1)) (kk : gW X k n z T L (up3 V a (j + 1) nn x) P (pc + 1) lv st) : gW X k n z T L V P pc lv (.int x :: .int i :: .ref (a + off) :: st) := by
  intro H locs ls hw hS h
  subst e
  have h1 := ((hw.2.2.2.2.1 a lay ht hl).2 j _ hj rfl)
  refine fr_iast O.1 O.2.1 h1.2 (O.2.2.2.2.2.1.K.2 0 _ (atyK_at rfl)).1 (vp_in_nI hi.1 hi.2) d fun H1 q e1 e2 e3 => ?_
  rw [nI_clamp (Nat.lt_trans hi.1 hi.2)] at e1
  exact kk H1 _ ls (hw.putA ht hl hj e1 e2 e3) (hS.put e2 e3 (hw.base (by show T (a + off) ≠ 0; rw [h1.1]; omega))) h
theorem g_alenB (O : Okc X cc own nL ret) {lay j off len ty a : Nat} {fty : FieldType} (hl : lay < 100) (hj : (alay lay)[j]? = some (fA off ty len)) (hty : atyL[ty]? = some fty) (ht : T a = lay + 1) (d : decode cc pc = .ok (.arraylength, 1)) (kk : gW X k n z T L V P (pc + 1) lv (.int (nI len) :: st)) : gW X k n z T L V P pc lv (.ref (a + off) :: st) := by
  intro H locs ls hw hS h
  have h1 := ((hw.2.2.2.2.1 a lay ht hl).2 j _ hj rfl).2
  exact va_alen O.1 O.2.1 O.2.2.2.2.2.1.K (va_P1 h1) 0 ty rfl (atyK_at hty) rfl d (kk H locs ls hw hS h)
/-- contracts: a method's end in a state of S, f of which is the world -/
abbrev wdW (E : w_E) (w : w_W) (H : Heap) : Prop := wd E w.1 w.2.1 w.2.2.1 w.2.2.2.1 w.2.2.2.2 H
end GR
def gMi {S : Type} (l : Launch) (y : MethodName) (ws : List Cond) (rm : Room) (mc ms : Nat) (E : w_E) (av : List Value) (w : w_W) (f : S → w_W) (post : Int32 → S → Prop) : Prop := Met l y ws rm (va_Pc av (fun U => kenv E U ∧ wdW E w U.heap)) (va_Qi post (fun u t => wdW E (f u) t.heap) (w_A E)) mc ms (w_A E)
def gMv {S : Type} (l : Launch) (y : MethodName) (ws : List Cond) (rm : Room) (mc ms : Nat) (E : w_E) (av : List Value) (w : w_W) (f : S → w_W) (post : S → Prop) : Prop := Met l y ws rm (va_Pc av (fun U => kenv E U ∧ wdW E w U.heap)) (va_Qv post (fun u t => wdW E (f u) t.heap) (w_A E)) mc ms (w_A E)
def gMr {S : Type} (l : Launch) (y : MethodName) (ws : List Cond) (rm : Room) (mc ms : Nat) (E : w_E) (av : List Value) (w : w_W) (f : S → w_W) (post : Option Nat → S → Prop) : Prop := Met l y ws rm (va_Pc av (fun U => kenv E U ∧ wdW E w U.heap)) (va_Qq post (fun u t => wdW E (f u) t.heap) (w_A E)) mc ms (w_A E)
def cxMQ (X : Cx) (Qc : Array Value → State → Outcome → State → Prop) (mc ms : Nat) : Prop := cxQ X = MQ (cxb X) Qc (cxa X) (cxs X) mc ms (w_A (cxE X))
theorem kenv.go {E : w_E} {s : State} {H : Heap} {locs : List Loc} {U : State} (h : kenv E s) (hS : va_S (w_A E) s.heap H locs) (hU : U.heap = H) (hW : s.WarmedH U.vm) : kenv E U := by
  obtain ⟨h0, h1, h2, h3⟩ := h
  refine ⟨h0, State.WarmedH.trans h1 hW, by rw [hU]; exact Nat.le_trans h2 hS.1, fun q hq => ?_⟩
  rw [hU, hS.2.1 q (Nat.lt_of_lt_of_le hq h2) (fun x => absurd x (Nat.not_le.mpr hq))]
  exact h3 q hq
theorem kenv.blind {E : w_E} {U : State} {g : JFrame} {mk : MethodId} {a : Array Value} (h : kenv E U) : kenv E (U.calling g mk a) := h
theorem g_start {S : Type} {l : Launch} {y : MethodName} {cc : ByteArray} {own : String} {nL mc ms : Nat} {ret : Option FieldType} {rm : Room} {E : w_E} {av : List Value} {w : w_W} {Qc : Array Value → State → Outcome → State → Prop} (hfl : l.flags = flags0) (hy : plainName y.cls = true) (ho : y.cls = own) (lv : List (Option Value)) (hlen : lv.length = nL) (hlv : ∀ q ∈ lvp 0 lv, q ∈ lv_args 0 av) (hav : (lg_sl av).length ≤ nL) 
    (body : ∀ X : Cx, cxL X = l → cxR X = rm → cxE X = E → Okc X cc own nL ret → cxMQ X Qc mc ms → gW X 0 0 w.1 w.2.1 w.2.2.1 w.2.2.2.1 w.2.2.2.2 0 lv []) : Met l y (ws_ y cc nL ret) rm (va_Pc av (fun U => kenv E U ∧ wdW E w U.heap)) Qc mc ms (w_A E) := by
  subst ho
  refine Met.ofW (cc := cc) (maxL := nL) (ret := ret) hy rfl ?_
  intro p e s m args below meth c s₁ B hml hv
  obtain ⟨rfl, hk, hw⟩ := hv
  have hts := atoms_spec (ws := ws_ y cc nL ret) B.pre
  have hts : ∀ w ∈ lw_all, w.before av.toArray s = true := fun w h => hts w (List.mem_cons_of_mem _ h)
  have hown : s.vm.findClass y.cls = some m.cls := findClass_of_methodNamed B.named
  have hlocks := B.notSynchronized
  have hl := lv_entry av (n := nL) hav
  rw [lg_entry_eq]
  generalize (lg_sl av ++ List.replicate (nL - (lg_sl av).length) Slot.unset).toArray = ls at hl ⊢
  have hb := body (p, l, e, rm, s, m, av.toArray, below, meth, c, E, MQ below Qc av.toArray s mc ms (w_A E)) rfl rfl rfl ⟨B.exec, B.bytes, hml, hown, hts, hk, B.returns, hlocks, hfl⟩ rfl
  exact hb s.heap [] ls hw va_S.rf ⟨by rw [hl.1, hlen], hl.2.1, fun q hq => hl.2.2 q (hlv q hq)⟩
section GE
variable {X : Cx} {cc : ByteArray} {own : String} {nL : Nat} {k n z : Nat} {T L : Nat → Nat} {V : w_V} {P : w_P} {pc : Nat} {lv : List (Option Value)} {st : List Value} {S : Type} {f : S → w_W}
theorem g_iret {ty : FieldType} {post : Int32 → S → Prop} {x : Int32} {u : S} (O : Okc X cc own nL (some ty)) (hQ : cxMQ X (va_Qi post (fun u t => wdW (cxE X) (f u) t.heap) (w_A (cxE X))) k n) (hn : narrow ty (.int x) = .int x) (hf : f u = (z, T, L, V, P)) (hp : post x u) (d : decode cc pc = .ok (.ireturn, 1)) : gW X k n z T L V P pc lv [.int x] := by
  intro H locs ls hw hS h
  unfold cxW
  rw [show cxQ X = _ from hQ]
  exact W.zret O.1 O.2.1 O.2.2.2.2.2.2.1 hn (fun t ht hW => ⟨⟨x, u, rfl, hp, by show wdW (cxE X) (f u) t.heap; rw [ht, hf]; exact hw⟩, hS.F ht⟩) hS.2.2 d O.2.2.2.2.2.2.2.1
theorem g_vret {post : S → Prop} {u : S} (O : Okc X cc own nL none) (hQ : cxMQ X (va_Qv post (fun u t => wdW (cxE X) (f u) t.heap) (w_A (cxE X))) k n) (hf : f u = (z, T, L, V, P)) (hp : post u) (d : decode cc pc = .ok (.return_, 1)) : gW X k n z T L V P pc lv [] := by
  intro H locs ls hw hS h
  unfold cxW
  rw [show cxQ X = _ from hQ]
  exact W.vret O.1 O.2.1 O.2.2.2.2.2.2.1 (fun t ht hW => ⟨⟨u, rfl, hp, by show wdW (cxE X) (f u) t.heap; rw [ht, hf]; exact hw⟩, hS.F ht⟩) hS.2.2 d O.2.2.2.2.2.2.2.1
theorem g_aret {ty : FieldType} {post : Option Nat → S → Prop} {r : Option Nat} {u : S} (O : Okc X cc own nL (some ty)) (hQ : cxMQ X (va_Qq post (fun u t => wdW (cxE X) (f u) t.heap) (w_A (cxE X))) k n) (hty : (∃ n, ty = .object n) ∨ ∃ t, ty = .array t) (hf : f u = (z, T, L, V, P)) (hp : post r u) (d : decode cc pc = .ok (.areturn, 1)) : gW X k n z T L V P pc lv [va_rf r] := by
  intro H locs ls hw hS h
  unfold cxW
  rw [show cxQ X = _ from hQ]
  exact W.aret O.1 O.2.1 O.2.2.2.2.2.2.1 hty (by cases r with | none => exact Or.inl rfl | some a => exact Or.inr ⟨a, rfl⟩) (fun t ht hW => ⟨⟨r, u, rfl, hp, by show wdW (cxE X) (f u) t.heap; rw [ht, hf]; exact hw⟩, hS.F ht⟩) hS.2.2 d O.2.2.2.2.2.2.2.1
theorem g_recv {ret : Option FieldType} {ci lay a N : Nat} {C : String} {TT : u_T} {H : Heap} (O : Okc X cc own nL ret) (hck : ckOk ci C TT N) (hl : lay < 100) (hci : acn lay = ci) (ht : T a = lay + 1) (hw : wd (cxE X) z T L V P H) : ∃ cell : Cell, H[a]? = some cell ∧ cell.vm.isStatics = false ∧ (cxs X).vm.findClass C = some cell.cls := by
  subst hci
  exact va_recv (q := (C, TT, N)) O.2.2.2.2.2.1.K (va_P1 (hw.2.2.2.2.1 a lay ht hl).1) (ci := acn lay) (q0 := 0) hck.1 rfl
theorem g_preS {ret : Option FieldType} {H : Heap} {locs : List Loc} {av : List Value} (O : Okc X cc own nL ret) (hw : wd (cxE X) z T L V P H) (hS : va_S (w_A (cxE X)) (cxs X).heap H locs) : PreS (cxs X) H (va_Pc av (fun U => kenv (cxE X) U ∧ wdW (cxE X) (z, T, L, V, P) U.heap)) av :=
  ⟨fun a U g mk q => q, fun U hU hW => ⟨rfl, O.2.2.2.2.2.1.go hS hU hW, by rw [hU]; exact hw⟩⟩
/-- calls: an own class's instance method, returning an int -/
theorem g_callVi {ret0 ret : Option FieldType} {y : MethodName} {bytes : ByteArray} {idx maxL nA mc ms ci lay b N : Nat} {C : String} {TT : u_T} {rm : Room} {As rest : List Value} {post : Int32 → S → Prop} (O : Okc X cc own nL ret0) (hM : gMi (cxL X) y (ws_ y bytes maxL ret) rm mc ms (cxE X) (.ref b :: As) (z, T, L, V, P) f post)
    (hG : GoodIn lw_all (wsV own idx C y (ws_ y bytes maxL ret))) (hrc : rm.cells = mc) (hrs : rm.slots = ms) (hd : y.cls = C ∧ y.cls ≠ "java/lang/invoke/MethodHandle" ∧ y.cls ≠ "java/lang/invoke/VarHandle" ∧ (parseMethodDescriptor y.desc).map (fun d => d.parameters.length) = some nA)
    (hR : rm.frames + 1 ≤ (cxR X).frames ∧ 8 + (maxL + 11) + rm.locals ≤ (cxR X).locals) (hck : ckOk ci C TT N) (hl : lay < 100) (hci : acn lay = ci) (ht : T b = lay + 1) (hn : As.length = nA) (hst : st = As.reverse ++ .ref b :: rest) (hnl : lv.length = nL) (hr : (rest.map fun v => v.category).sum ≤ 8) (d : decode cc pc = .ok (.invokevirtual idx, 3)) (hf : k + mc ≤ (cxR X).cells ∧ n + ms ≤ (cxR X).slots)
    (kk : ∀ (r : Int32) (u : S), post r u → gW X (k + mc) (n + ms) (f u).1 (f u).2.1 (f u).2.2.1 (f u).2.2.2.1 (f u).2.2.2.2 (pc + 3) lv (.int r :: rest)) : gW X k n z T L V P pc lv st := by
  intro H locs ls hw hS h
  exact va_calli (va_runV (As := As) (rest := rest) ⟨O.1, O.2.1, O.2.2.1, O.2.2.2.1, O.2.2.2.2.1⟩ hM (cwV nA O.2.2.2.2.1 hG rfl hrc hrs hd hR) ⟨fun a U g mk q => q, g_recv O hck hl hci ht hw, (g_preS O hw hS).2⟩ rfl hn (by rw [← hnl]; exact h.1) hst (lv_room hr) d hf) hS (fun q _ x => x) (fun q x => x) (fun r u t H1 locs1 e1 _ hp hB _ _ hS1 => kk r u hp H1 locs1 ls (by rw [← e1]; exact hB) hS1 h)
theorem g_callVv {ret0 ret : Option FieldType} {y : MethodName} {bytes : ByteArray} {idx maxL nA mc ms ci lay b N : Nat} {C : String} {TT : u_T} {rm : Room} {As rest : List Value} {post : S → Prop} (O : Okc X cc own nL ret0) (hM : gMv (cxL X) y (ws_ y bytes maxL ret) rm mc ms (cxE X) (.ref b :: As) (z, T, L, V, P) f post)
    (hG : GoodIn lw_all (wsV own idx C y (ws_ y bytes maxL ret))) (hrc : rm.cells = mc) (hrs : rm.slots = ms) (hd : y.cls = C ∧ y.cls ≠ "java/lang/invoke/MethodHandle" ∧ y.cls ≠ "java/lang/invoke/VarHandle" ∧ (parseMethodDescriptor y.desc).map (fun d => d.parameters.length) = some nA)
    (hR : rm.frames + 1 ≤ (cxR X).frames ∧ 8 + (maxL + 11) + rm.locals ≤ (cxR X).locals) (hck : ckOk ci C TT N) (hl : lay < 100) (hci : acn lay = ci) (ht : T b = lay + 1) (hn : As.length = nA) (hst : st = As.reverse ++ .ref b :: rest) (hnl : lv.length = nL) (hr : (rest.map fun v => v.category).sum ≤ 8) (d : decode cc pc = .ok (.invokevirtual idx, 3)) (hf : k + mc ≤ (cxR X).cells ∧ n + ms ≤ (cxR X).slots)
    (kk : ∀ (u : S), post u → gW X (k + mc) (n + ms) (f u).1 (f u).2.1 (f u).2.2.1 (f u).2.2.2.1 (f u).2.2.2.2 (pc + 3) lv rest) : gW X k n z T L V P pc lv st := by
  intro H locs ls hw hS h
  exact va_callv (va_runV (As := As) (rest := rest) ⟨O.1, O.2.1, O.2.2.1, O.2.2.2.1, O.2.2.2.2.1⟩ hM (cwV nA O.2.2.2.2.1 hG rfl hrc hrs hd hR) ⟨fun a U g mk q => q, g_recv O hck hl hci ht hw, (g_preS O hw hS).2⟩ rfl hn (by rw [← hnl]; exact h.1) hst (lv_room hr) d hf) hS (fun q _ x => x) (fun q x => x) (fun u t H1 locs1 e1 _ hp hB _ _ hS1 => kk u hp H1 locs1 ls (by rw [← e1]; exact hB) hS1 h)
theorem g_callSi {ret0 ret : Option FieldType} {y : MethodName} {bytes : ByteArray} {idx maxL nA mc ms : Nat} {rm : Room} {As rest : List Value} {post : Int32 → S → Prop} (O : Okc X cc own nL ret0) (hM : gMi (cxL X) y (ws_ y bytes maxL ret) rm mc ms (cxE X) As (z, T, L, V, P) f post)
    (hG : GoodIn lw_all (va_wsS own idx y (ws_ y bytes maxL ret))) (hrc : rm.cells = mc) (hrs : rm.slots = ms) (hd : y.cls ≠ "java/lang/invoke/MethodHandle" ∧ y.cls ≠ "java/lang/invoke/VarHandle" ∧ (parseMethodDescriptor y.desc).map (fun d => d.parameters.length) = some nA)
    (hR : rm.frames + 1 ≤ (cxR X).frames ∧ 8 + (maxL + 11) + rm.locals ≤ (cxR X).locals) (hn : As.length = nA) (hst : st = As.reverse ++ rest) (hnl : lv.length = nL) (hr : (rest.map fun v => v.category).sum ≤ 8) (d : decode cc pc = .ok (.invokestatic idx, 3)) (hf : k + mc ≤ (cxR X).cells ∧ n + ms ≤ (cxR X).slots)
    (kk : ∀ (r : Int32) (u : S), post r u → gW X (k + mc) (n + ms) (f u).1 (f u).2.1 (f u).2.2.1 (f u).2.2.2.1 (f u).2.2.2.2 (pc + 3) lv (.int r :: rest)) : gW X k n z T L V P pc lv st := by
  intro H locs ls hw hS h
  exact va_calli (va_runS (As := As) (rest := rest) ⟨O.1, O.2.1, O.2.2.1, O.2.2.2.1, O.2.2.2.2.1⟩ hM (va_cwS nA O.2.2.2.2.1 hG rfl hrc hrs hd hR) (g_preS O hw hS) rfl hn (by rw [← hnl]; exact h.1) hst (lv_room hr) d hf) hS (fun q _ x => x) (fun q x => x) (fun r u t H1 locs1 e1 _ hp hB _ _ hS1 => kk r u hp H1 locs1 ls (by rw [← e1]; exact hB) hS1 h)
theorem g_callSv {ret0 ret : Option FieldType} {y : MethodName} {bytes : ByteArray} {idx maxL nA mc ms : Nat} {rm : Room} {As rest : List Value} {post : S → Prop} (O : Okc X cc own nL ret0) (hM : gMv (cxL X) y (ws_ y bytes maxL ret) rm mc ms (cxE X) As (z, T, L, V, P) f post)
    (hG : GoodIn lw_all (va_wsS own idx y (ws_ y bytes maxL ret))) (hrc : rm.cells = mc) (hrs : rm.slots = ms) (hd : y.cls ≠ "java/lang/invoke/MethodHandle" ∧ y.cls ≠ "java/lang/invoke/VarHandle" ∧ (parseMethodDescriptor y.desc).map (fun d => d.parameters.length) = some nA)
    (hR : rm.frames + 1 ≤ (cxR X).frames ∧ 8 + (maxL + 11) + rm.locals ≤ (cxR X).locals) (hn : As.length = nA) (hst : st = As.reverse ++ rest) (hnl : lv.length = nL) (hr : (rest.map fun v => v.category).sum ≤ 8) (d : decode cc pc = .ok (.invokestatic idx, 3)) (hf : k + mc ≤ (cxR X).cells ∧ n + ms ≤ (cxR X).slots)
    (kk : ∀ (u : S), post u → gW X (k + mc) (n + ms) (f u).1 (f u).2.1 (f u).2.2.1 (f u).2.2.2.1 (f u).2.2.2.2 (pc + 3) lv rest) : gW X k n z T L V P pc lv st := by
  intro H locs ls hw hS h
  exact va_callv (va_runS (As := As) (rest := rest) ⟨O.1, O.2.1, O.2.2.1, O.2.2.2.1, O.2.2.2.2.1⟩ hM (va_cwS nA O.2.2.2.2.1 hG rfl hrc hrs hd hR) (g_preS O hw hS) rfl hn (by rw [← hnl]; exact h.1) hst (lv_room hr) d hf) hS (fun q _ x => x) (fun q x => x) (fun u t H1 locs1 e1 _ hp hB _ _ hS1 => kk u hp H1 locs1 ls (by rw [← e1]; exact hB) hS1 h)
end GE
