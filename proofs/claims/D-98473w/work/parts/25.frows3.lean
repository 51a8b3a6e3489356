/-! ROWS: clone of an array, class objects -/
set_option maxRecDepth 100000
section FC
variable {p : Program} {l : Launch} {e : Env} {R : Room} {s : State} {m : MethodId} {args : Array Value} {below : List Frame} {meth : Method} {c : Code} {H : Heap} {locs : List Loc} {cells slots : Nat} {Q : State → Prop}
variable {cc : ByteArray} {pc : Nat} {ls : Array Slot} {rest : List Value} {D : va_G} {cl : List vw_C} {a : Nat} {tys : List (ClassId × FieldType)}
theorem fr_clone (hexec : p.tables.exec = Jvm.exec) (hb : c.code = cc) (hml : c.maxLocals = ls.size) {own ad : String} {index : Nat} (hown : s.vm.findClass own = some m.cls)
    (hlink : (Cond.methodLink own index ⟨ad, "clone", "()Ljava/lang/Object;"⟩).before args s = true) (hsame : (Cond.sameMethod ad "java/lang/Object" "clone" "()Ljava/lang/Object;").before args s = true)
    (hnat : (Cond.native ⟨"java/lang/Object", "clone", "()Ljava/lang/Object;"⟩).before args s = true) (hinst : (Cond.instanceMethod ⟨"java/lang/Object", "clone", "()Ljava/lang/Object;"⟩).before args s = true)
    (hsel : (Cond.selects ad ⟨ad, "clone", "()Ljava/lang/Object;"⟩ ⟨"java/lang/Object", "clone", "()Ljava/lang/Object;"⟩).before args s = true) (hcl : va_Nw (.castable ad "java/lang/Cloneable") s)
    (hK : va_K D cl tys s) (t0 : Nat) {cA : ClassId} {x : vp_A} {ty : FieldType} {cl0 : Cell} (ha : H[a]? = some cl0) (hcl0 : cl0.cls = cA) (hsl0 : cl0.slots = (vp_cell cA x).slots) (hst0 : cl0.vm.isStatics = false) (hun0 : cl0.vm ≠ .unknown) (ht : tys[t0]? = some (cA, ty))
    (hnm : s.vm.findClass ad = some cA) (hfit : ∀ (i : Nat) (v : Value), (vp_cell cA x).slots[i]? = some v → fits ty v = true)
    (hframes : 1 ≤ R.frames) (hlocals : (rest.map fun v => v.category).sum + 14 ≤ R.locals) (hcells : cells + 1 ≤ R.cells) (hslots : slots + x.1 ≤ R.slots) (hdg : decode cc pc = .ok (.invokevirtual index, 3))
    (kk : ∀ (H1 : Heap), H1[H.size]? = some (vp_cell cA x) → H1.size = H.size + 1 → (∀ q : Nat, q < H.size → H1[q]? = H[q]?) → W p l e R s m args below meth c H1 locs (cells + 1) (slots + x.1) Q (F0 m (pc + 3) ls (.ref H.size :: rest))) : W p l e R s m args below meth c H locs cells slots Q (F0 m pc ls (.ref a :: rest)) := by
  have hsz : (vp_cell cA x).slots.size = x.1 := by
    obtain ⟨n, f | f | f | f | f⟩ := x <;> exact arrV_size _ _ _
  have hcellE : ({ cls := cl0.cls, slots := cl0.slots } : Cell) = vp_cell cA x := by
    rw [hcl0, hsl0]
    obtain ⟨n, f | f | f | f | f⟩ := x <;> rfl
  obtain ⟨c0, t0', f1, f2, f3⟩ := Cond.castable_spec (va_Nw.use (A := args) rfl hcl)
  cases hnm.symm.trans f1
  intro T hT X
  have hcellT : T.heap[a]? = some cl0 := by rw [hT]; exact ha
  obtain ⟨-, kA, hkA, comp, hkind⟩ := State.isArrayOf_alike X.warmed.alike ((hK.2 t0 _ ht).1 0 (fun _ => .null))
  obtain ⟨-, kS, hkS, compS, hkindS⟩ := (hK.2 t0 _ ht).1 0 (fun _ => .null)
  obtain ⟨vm', X', st⟩ := X.cloneArray hexec hown hlink hsame hnat hinst hsel (a := a) (cell := cl0) hcellT (fun k h => by rw [h] at hst0; cases hst0) hun0 (by rw [hcl0]; exact hnm) f2 (by rw [hcl0]; exact f3)
    (fun i v hv => by
      rw [hcl0]
      have hk' : T.vm.classes[cA]? = some kA := hkA
      simpa [State.fitsSlot, State.slotType?, hk', hkind] using hfit i v (by rw [← hsl0]; exact hv))
    (g := F0 m pc ls (.ref a :: rest)) rfl (by rw [hml]) rfl (by rw [hb]; exact hdg) hframes (by show 2 * 0 + _ + 14 ≤ _; omega) hcells (by rw [hsl0, hsz]; exact hslots) (hloader := by rw [hcl0]; exact Vm.clonesLoader_of_array hkS hkindS)
  rw [hcellE, hsl0, hsz] at X'
  generalize hH1 : H.push (vp_cell cA x) = H1
  have z1 : H1.size = H.size + 1 := by rw [← hH1, Array.size_push]
  have e1 : H1[H.size]? = some (vp_cell cA x) := by rw [← hH1, Array.getElem?_push_size]
  have o1 : ∀ q : Nat, q < H.size → H1[q]? = H[q]? := fun q hq => by rw [← hH1, Array.getElem?_push, if_neg (Nat.ne_of_lt hq)]
  obtain ⟨t, b1, b2⟩ := kk H1 e1 z1 o1 ((T.setVm vm').pushCell (vp_cell cA x)) (by rw [← hH1, ← hT]; rfl) X'
  refine ⟨t, st t ?_, b2⟩
  rw [hcellE, hT]
  exact b1
end FC
/-- a byte array's copy at o -/
def clQ (z : Nat) (T L : Nat → Nat) (V : w_V) (P : w_P) (a k n : Nat) (Q : Nat → Nat → (Nat → Nat) → (Nat → Nat) → w_V → w_P → Prop) : Prop := ∀ (o z1 : Nat) (T1 L1 : Nat → Nat) (V1 : w_V) (P1 : w_P), o = z → z1 = z + 1 → T1 = up1 T z 1001 → L1 = up1 L z n → V1 = up1 V z (fun _ => V a k) → P1 = up1 P z (fun _ => none) → Q o z1 T1 L1 V1 P1
/-- the copy of Value's constants at o -/
def cvQ (ad : Nat → Nat) (z : Nat) (T L : Nat → Nat) (V : w_V) (P : w_P) (Q : Nat → Nat → (Nat → Nat) → (Nat → Nat) → w_V → w_P → Prop) : Prop := ∀ (o z1 : Nat) (T1 L1 : Nat → Nat) (V1 : w_V) (P1 : w_P), o = z → z1 = z + 1 → T1 = up1 T z 2006 → L1 = up1 L z 5 → V1 = up1 V z (fun _ _ => 0) → P1 = up1 P z (fun i => some (ad i)) → Q o z1 T1 L1 V1 P1
section GC3
variable {X : Cx} {cc : ByteArray} {own : String} {nL : Nat} {ret : Option FieldType} {k n z : Nat} {T L : Nat → Nat} {V : w_V} {P : w_P} {pc : Nat} {lv : List (Option Value)} {st : List Value} {R0 : Room}
theorem gq_cloneB (O : Okc X cc own nL ret) (hRm : cxR X = R0) {idx d0 a kk0 len u U : Nat} (q : Cond.methodLink own idx ⟨"[B", "clone", "()Ljava/lang/Object;"⟩ ∈ lw_all) (h : hArr T L d0 a kk0 len 1) (hg : len < 2147483648) (hf : 1 ≤ R0.frames) (hl : (st.map fun v => v.category).sum + 14 ≤ R0.locals) (hnl : lv.length = nL) (d : decode cc pc = .ok (.invokevirtual idx, 3)) {Q : Nat → Nat → (Nat → Nat) → (Nat → Nat) → w_V → w_P → Prop} (hfit : ∀ i, i < len → fits .byte (.int (V a kk0 i)) = true) (hk : kOk R0 k n (u + U)) (hu : 1 ≤ u) (hN : len ≤ 32 * u) (w : clQ z T L V P a kk0 len Q)
    (kk : ∀ (o z1 : Nat) (T1 L1 : Nat → Nat) (V1 : w_V) (P1 : w_P), kOk R0 (k + 1) (n + len) U → hArr T1 L1 o o 0 len 1 → Q o z1 T1 L1 V1 P1 → gW X (k + 1) (n + len) z1 T1 L1 V1 P1 (pc + 3) lv (.ref o :: st)) : gW X k n z T L V P pc lv (.ref d0 :: st) := by
  intro H locs ls hw hS h0
  have hz := hw.1
  subst hz
  have hA := h.at hw
  have hRA : (cxs X).vm.findClass "[B" = some ((cxE X).2.2.2.1 1) := (O.2.2.2.2.2.1.K.2 1 _ (atyK_at (show atyL[1]? = some .byte from rfl))).2
  refine fr_clone O.1 O.2.1 (by rw [O.2.2.1, ← hnl]; exact h0.1.symm) O.2.2.2.1 (O.2.2.2.2.1 _ q) (O.2.2.2.2.1 _ q286) (O.2.2.2.2.1 _ q287) (O.2.2.2.2.1 _ q288) (O.2.2.2.2.1 _ q289) (O.2.2.2.2.2.1.nC q290) O.2.2.2.2.2.1.K 1 (cA := (cxE X).2.2.2.1 1) (x := (len, .inl (V a kk0))) (show H[d0]? = some (vp_cell _ _) from hA) rfl rfl rfl (fun h => by cases h) (atyK_at (show atyL[1]? = some .byte from rfl)) hRA (fun i v hv => ?_) (by rw [hRm]; exact hf) (by rw [hRm]; exact hl) (by rw [hRm]; have := hk.1; omega) (by rw [hRm]; have := hk.2; show n + len ≤ _; omega) d fun H1 e1 z1 o1 => ?_
  · have hi : i < len := by
      have := (Array.getElem?_eq_some_iff.mp hv).1
      rw [show (vp_cell ((cxE X).2.2.2.1 1) (len, .inl (V a kk0))).slots.size = len from arrV_size _ _ _] at this
      exact this
    have h9 : (vp_cell ((cxE X).2.2.2.1 1) (len, .inl (V a kk0))).slots[i]? = some (.int (V a kk0 i)) := arrV_read _ _ hi
    rw [hv] at h9
    rw [Option.some.inj h9]
    exact hfit i hi
  · have hnw : hArr (up1 T H.size 1001) (up1 L H.size len) H.size H.size 0 len 1 := ⟨by decide, Or.inr ⟨up1_s, rfl, up1_s.symm, rfl⟩⟩
    refine kk H.size _ _ _ _ _ ⟨by have := hk.1; omega, by have := hk.2; omega⟩ hnw (w _ _ _ _ _ _ rfl rfl rfl rfl rfl rfl) H1 locs ls (hw.ext z1 o1 (fun c hc _ => by omega) (fun ty ht _ => ?_) (fun ty ht _ => by omega) (fun ht => by omega) (by omega)) ⟨Nat.le_trans hS.1 (by omega), fun x h1 h2 => (o1 x (Nat.lt_of_lt_of_le h1 hS.1)).trans (hS.2.1 x h1 h2), hS.2.2⟩ h0
    have et : ty = 1 := by omega
    subst et
    exact e1
theorem gq_cloneV (O : Okc X cc own nL ret) (hRm : cxR X = R0) {idx U : Nat} (q : Cond.methodLink own idx ⟨"[LApartBench$Value;", "clone", "()Ljava/lang/Object;"⟩ ∈ lw_all) (hf : 1 ≤ R0.frames) (hl : (st.map fun v => v.category).sum + 14 ≤ R0.locals) (hnl : lv.length = nL) (d : decode cc pc = .ok (.invokevirtual idx, 3)) {Q : Nat → Nat → (Nat → Nat) → (Nat → Nat) → w_V → w_P → Prop} (hk : kOk R0 k n (1 + U)) (w : cvQ (cxE X).2.2.2.2 z T L V P Q)
    (kk : ∀ (o z1 : Nat) (T1 L1 : Nat → Nat) (V1 : w_V) (P1 : w_P), kOk R0 (k + 1) (n + 5) U → T1 o = 2006 → Q o z1 T1 L1 V1 P1 → gW X (k + 1) (n + 5) z1 T1 L1 V1 P1 (pc + 3) lv (.ref o :: st)) : gW X k n z T L V P pc lv (.ref ((cxE X).2.2.2.2 10) :: st) := by
  intro H locs ls hw hS h0
  have hz := hw.1
  subst hz
  have hke := O.2.2.2.2.2.1
  obtain ⟨-, -, -, -, hv5, hnA⟩ := hke.1.2.2.2.2.2.2
  obtain ⟨cl0, hv6, hc6, hs6, ht6, hu6⟩ := hv5
  have hlt : (cxE X).2.2.2.2 10 < (cxE X).1.heap.size := (Array.getElem?_eq_some_iff.mp hv6).1
  have hA : H[(cxE X).2.2.2.2 10]? = some cl0 := by
    rw [hS.2.1 _ (Nat.lt_of_lt_of_le hlt hke.2.2.1) (hnA 10 (by decide)), hke.2.2.2 _ hlt]
    exact hv6
  obtain ⟨kA2, comp2, g1, g2, g3, hRA⟩ := (hke.K.2 6 _ (atyK_at (show atyL[6]? = some (.object "ApartBench$Value") from rfl))).2
  refine fr_clone O.1 O.2.1 (by rw [O.2.2.1, ← hnl]; exact h0.1.symm) O.2.2.2.1 (O.2.2.2.2.1 _ q) (O.2.2.2.2.1 _ q514) (O.2.2.2.2.1 _ q287) (O.2.2.2.2.1 _ q288) (O.2.2.2.2.1 _ q515) (hke.nC q516) hke.K 6 (x := (5, .inr (.inr (.inr (.inr (fun i => some ((cxE X).2.2.2.2 i))))))) hA hc6 hs6 ht6 hu6 (atyK_at (show atyL[6]? = some (.object "ApartBench$Value") from rfl)) hRA (fun i v hv => ?_) (by rw [hRm]; exact hf) (by rw [hRm]; exact hl) (by rw [hRm]; have := hk.1; omega) (by rw [hRm]; have := hk.2; show n + 5 ≤ _; omega) d fun H1 e1 z1 o1 => ?_
  · have hi : i < 5 := by
      have := (Array.getElem?_eq_some_iff.mp hv).1
      rw [show (vp_cell ((cxE X).2.2.2.1 6) (5, .inr (.inr (.inr (.inr (fun i => some ((cxE X).2.2.2.2 i))))))).slots.size = 5 from arrV_size _ _ _] at this
      exact this
    have h9 : (vp_cell ((cxE X).2.2.2.1 6) (5, .inr (.inr (.inr (.inr (fun i => some ((cxE X).2.2.2.2 i))))))).slots[i]? = some (va_rf (some ((cxE X).2.2.2.2 i))) := arrV_read _ _ hi
    rw [hv] at h9
    rw [Option.some.inj h9]
    rfl
  · refine kk H.size _ _ _ _ _ ⟨by have := hk.1; omega, by have := hk.2; omega⟩ up1_s (w _ _ _ _ _ _ rfl rfl rfl rfl rfl rfl) H1 locs ls (hw.ext z1 o1 (fun c hc _ => by omega) (fun ty ht _ => by omega) (fun ty ht _ => ?_) (fun ht => by omega) (by omega)) ⟨Nat.le_trans hS.1 (by omega), fun x h1 h2 => (o1 x (Nat.lt_of_lt_of_le h1 hS.1)).trans (hS.2.1 x h1 h2), hS.2.2⟩ h0
    have et : ty = 6 := by omega
    subst et
    exact e1
theorem gq_cast (O : Okc X cc own nL ret) {idx ty a : Nat} {C nm : String} (hty : atyL[ty]? = some (.object C)) (hy : ty < 100) (hT : T a = 2000 + ty) (hnm : "[" ++ (FieldType.object C).toString = nm) (q : Cond.classLink own idx nm ∈ lw_all) (d : decode cc pc = .ok (.checkcast idx, 3)) (kk : gW X k n z T L V P (pc + 3) lv (.ref a :: st)) : gW X k n z T L V P pc lv (.ref a :: st) := by
  intro H locs ls hw hS h
  obtain ⟨kA2, comp2, g1, g2, g3, hRA⟩ := (O.2.2.2.2.2.1.K.2 ty _ (atyK_at hty)).2
  rw [hnm] at hRA
  exact va_castE O.1 O.2.1 O.2.2.2.1 (O.2.2.2.2.1 _ q) ⟨_, show H[a]? = some (vp_cell _ _) from hw.2.2.2.2.2.2.1 a ty hT hy, rfl, hRA⟩ d (kk H locs ls hw hS h)
theorem gq_ldcM (O : Okc X cc own nL ret) {idx : Nat} (q : Cond.classLink own idx "[Ljava/lang/Object;" ∈ lw_all) (d : decode cc pc = .ok (.ldc idx, 2)) (kk : gW X k n z T L V P (pc + 2) lv (.ref ((cxE X).2.2.2.2 20) :: st)) : gW X k n z T L V P pc lv st := by
  intro H locs ls hw hS h
  exact va_ldcM O.1 O.2.1 O.2.2.2.1 (O.2.2.2.2.1 _ q) (va_Mi.moved O.2.2.2.2.2.1.2.1.alike O.2.2.2.2.2.1.1.2.2.2.2.2.2.2.2.1) d (kk H locs ls hw hS h)
theorem gq_getC (O : Okc X cc own nL ret) (hRm : cxR X = R0) {idx a : Nat} (hT : T a = 2004) (q : Cond.methodLink own idx ⟨"java/lang/Object", "getClass", "()Ljava/lang/Class;"⟩ ∈ lw_all) (hf : 1 ≤ R0.frames) (hl : (st.map fun v => v.category).sum + 14 ≤ R0.locals) (hnl : lv.length = nL) (d : decode cc pc = .ok (.invokevirtual idx, 3)) (kk : gW X k n z T L V P (pc + 3) lv (.ref ((cxE X).2.2.2.2 20) :: st)) : gW X k n z T L V P pc lv (.ref a :: st) := by
  intro H locs ls hw hS h
  have hke := O.2.2.2.2.2.1
  obtain ⟨kA2, comp2, g1, g2, g3, hRA⟩ := (hke.K.2 4 _ (atyK_at (show atyL[4]? = some (.object "java/lang/Object") from rfl))).2
  exact va_getC O.1 O.2.1 (by rw [O.2.2.1, ← hnl]; exact h.1.symm) O.2.2.2.1 (O.2.2.2.2.1 _ q) (va_Nw.use rfl (hke.nD q2373)) (O.2.2.2.2.1 _ q2372) (O.2.2.2.2.1 _ q665) (O.2.2.2.2.1 _ q690) (va_Mi.moved hke.2.1.alike hke.1.2.2.2.2.2.2.2.2.1) ⟨_, show H[a]? = some (vp_cell _ _) from hw.2.2.2.2.2.2.1 a 4 hT (by decide), rfl, hRA⟩ (by rw [hRm]; exact hf) (by rw [hRm]; exact hl) d (kk H locs ls hw hS h)
end GC3
theorem g_rn0 {X : Cx} {k n z : Nat} {T L : Nat → Nat} {V : w_V} {P : w_P} {pc : Nat} {lv : List (Option Value)} {st rest : List Value} {a : Array Value} {post : Option Nat → Prop} (hr : gRun X k n z T L V P pc lv st rest 0 0 (va_Qq (fun x (_ : Unit) => post x) (fun u t => wdW (cxE X) (xW0 z T L V P u) t.heap) (w_A (cxE X)) a)) (kk : ∀ (r : Option Nat), post r → gW X k n z T L V P (pc + 3) lv (va_rf r :: rest)) : gW X k n z T L V P pc lv st := g_rq hr (fun r _ w => kk r w)
section AS
variable {X : Cx} {cc : ByteArray} {own : String} {nL : Nat} {ret : Option FieldType} {k n z : Nat} {T L : Nat → Nat} {V : w_V} {P : w_P} {pc : Nat} {lv : List (Option Value)} {st : List Value}
theorem g_astore_nq (O : Okc X cc own nL ret) {j : Fin 4} {x : Option Nat} (d : decode cc pc = .ok (.astore_n j, 1)) (hi : (j : Nat) < lv.length) (hn : lno lv (j : Nat) = true) {lv' : List (Option Value)} (e : lv.set (j : Nat) (some (va_rf x)) = lv') (kk : gW X k n z T L V P (pc + 1) lv' st) : gW X k n z T L V P pc lv (va_rf x :: st) := by
  subst e
  cases x with
  | none => exact fun H locs ls hw hS h => lv_astore_nN O.1 O.2.1 d rfl h hi rfl (fun ls' h' => kk H locs ls' hw hS (lvp_set hi hn rfl h'))
  | some b => exact g_astore_n O d hi hn rfl kk
end AS
