/-! ROWS of any class: fields, arrays, references -/
set_option maxRecDepth 100000
section FX
variable {p : Program} {l : Launch} {e : Env} {R : Room} {s : State} {m : MethodId} {args : Array Value} {below : List Frame} {meth : Method} {c : Code} {H : Heap} {locs : List Loc} {cells slots : Nat} {Q : State → Prop}
variable {cc : ByteArray} {pc : Nat} {ls : Array Slot} {rest : List Value} {D : va_G} {cl : List vw_C} {a : Nat} {tys : List (ClassId × FieldType)}
theorem arr_upd {cA : ClassId} {n j : Nat} {f : Nat → Int32} {x : Int32} {H1 : Heap} (e : H1[a]? = some ((vp_cell cA (n, .inl f)).setSlot j (.int x))) : va_at D cl (a, .inl (cA, n, .inl (upd f j x))) H1 := by
  show H1[a]? = some (vp_cell _ _)
  rw [e]
  rw [vp_cell_i, vp_cell_i, arrV_store]
  congr 2
  funext q
  by_cases hq : q = j
  · subst hq
    simp [updV, upd]
  · simp [updV, upd, hq]
theorem fr_bast (hexec : p.tables.exec = Jvm.exec) (hb : c.code = cc) {cA : ClassId} {n : Nat} {f : Nat → Int32} (ha : va_at D cl (a, .inl (cA, n, .inl f)) H) (ht : ArrOfT s cA .byte) {i x : Int32} (hin : vp_in i n) (hdg : decode cc pc = .ok (.bastore, 1))
    (kk : ∀ (H1 : Heap) (j : Nat), va_at D cl (a, .inl (cA, n, .inl (upd f i.toNatClampNeg (vp_nar .byte x)))) H1 → H1.size = H.size → (∀ q : Nat, q ≠ a → H1[q]? = H[q]?) → W p l e R s m args below meth c H1 (locs ++ [⟨a, j⟩]) cells slots Q (F0 m (pc + 1) ls rest)) : W p l e R s m args below meth c H locs cells slots Q (F0 m pc ls (.int x :: .int i :: .ref a :: rest)) := by
  refine W.bast hexec hb (show H[a]? = some (vp_cell cA (n, .inl f)) from ha) (ht n (fun j => .int (f j))) (fun q => by cases q) (by show ¬ (i < 0 ∨ (arrV _ _ _).slots.size ≤ _); rw [arrV_size]; exact hin) rfl rfl hdg fun H1 e z oq => ?_
  exact kk H1 _ (arr_upd e) z oq
theorem fr_zast (hexec : p.tables.exec = Jvm.exec) (hb : c.code = cc) {cA : ClassId} {n : Nat} {f : Nat → Int32} (ha : va_at D cl (a, .inl (cA, n, .inl f)) H) (ht : ArrOfT s cA .boolean) {i x : Int32} (hin : vp_in i n) (hdg : decode cc pc = .ok (.bastore, 1))
    (kk : ∀ (H1 : Heap) (j : Nat), va_at D cl (a, .inl (cA, n, .inl (upd f i.toNatClampNeg (vp_nar .boolean x)))) H1 → H1.size = H.size → (∀ q : Nat, q ≠ a → H1[q]? = H[q]?) → W p l e R s m args below meth c H1 (locs ++ [⟨a, j⟩]) cells slots Q (F0 m (pc + 1) ls rest)) : W p l e R s m args below meth c H locs cells slots Q (F0 m pc ls (.int x :: .int i :: .ref a :: rest)) := by
  refine W.zast hexec hb (show H[a]? = some (vp_cell cA (n, .inl f)) from ha) (ht n (fun j => .int (f j))) (fun q => by cases q) (by show ¬ (i < 0 ∨ (arrV _ _ _).slots.size ≤ _); rw [arrV_size]; exact hin) rfl rfl hdg fun H1 e z oq => ?_
  exact kk H1 _ (arr_upd e) z oq
theorem fr_copyi (hexec : p.tables.exec = Jvm.exec) (hb : c.code = cc) (hml : c.maxLocals = ls.size) {own : String} {index : Nat} (hown : s.vm.findClass own = some m.cls) (hlink : (Cond.methodLink own index arraycopyName).before args s = true) (hnat : (Cond.native arraycopyName).before args s = true) (hstat : (Cond.static arraycopyName).before args s = true) (hini : (Cond.initialized "java/lang/System").before args s = true)
    {a0 : Nat} {c0 c1 : ClassId} {n0 n1 : Nat} {f g : Nat → Int32} {ty : FieldType} (hc0 : va_at D cl (a0, .inl (c0, n0, .inl f)) H) (hc1 : va_at D cl (a, .inl (c1, n1, .inl g)) H) (ht0 : ArrOfT s c0 ty) (ht1 : ArrOfT s c1 ty) (hprim : refKind ty = false)
    {sp dp n : Int32} (h1 : ¬ sp < 0) (h2 : ¬ dp < 0) (h3 : ¬ n < 0) (h4 : sp.toNatClampNeg + n.toNatClampNeg ≤ n0) (h5 : dp.toNatClampNeg + n.toNatClampNeg ≤ n1) (hfit : ∀ i, i < n.toNatClampNeg → fits ty (.int (f (sp.toNatClampNeg + i))) = true)
    (hframes : 1 ≤ R.frames) (hlocals : (rest.map fun v => v.category).sum + (nativeFrameWords "java/lang/System" "arraycopy" 5 + 11) ≤ R.locals) (hdg : decode cc pc = .ok (.invokestatic index, 3))
    (kk : ∀ (H1 : Heap) (L : List Loc), va_at D cl (a, .inl (c1, n1, .inl (va_cpy f g sp.toNatClampNeg dp.toNatClampNeg n.toNatClampNeg))) H1 → H1.size = H.size → (∀ q : Nat, q ≠ a → H1[q]? = H[q]?) → (∀ q ∈ L, q.base = a) → W p l e R s m args below meth c H1 (locs ++ L) cells slots Q (F0 m (pc + 3) ls rest)) : W p l e R s m args below meth c H locs cells slots Q (F0 m pc ls (.int n :: .int dp :: .ref a :: .int sp :: .ref a0 :: rest)) := by
  have nn : ∀ z : Int32, ¬ z < 0 → z.toInt = (z.toNatClampNeg : Int) := by
    intro z hz
    have hz0 : (0 : Int) ≤ z.toInt := by
      have := Int32.not_lt.mp hz
      simpa using Int32.le_iff_toInt_le.mp this
    show z.toInt = ((z.toInt.toNat : Nat) : Int)
    omega
  intro T hT X
  have hc0 : H[a0]? = some (vp_cell c0 (n0, .inl f)) := hc0
  have hc1 : H[a]? = some (vp_cell c1 (n1, .inl g)) := hc1
  obtain ⟨-, k0, hk0, cm0, hkk0⟩ := ht0 n0 (fun j => .int (f j))
  obtain ⟨-, k1, hk1, cm1, hkk1⟩ := ht1 n1 (fun j => .int (g j))
  obtain ⟨vm', X', step⟩ := X.arraycopy hexec hown hlink hnat hstat hini (src := a0) (dst := a) (cs := vp_cell c0 (n0, .inl f)) (cd := vp_cell c1 (n1, .inl g)) (srcPos := sp) (destPos := dp) (n := n) (by rw [hT]; exact hc0) (by rw [hT]; exact hc1)
    (fun _ h => by cases h) (fun _ h => by cases h) (fun h => by cases h) (fun h => by cases h) hk0 hk1 hkk0 hkk1 (by simp [hprim]) h1 h2 h3
    (by rw [nn sp h1, nn n h3]; show ¬ _ > ((arrV c0 n0 (fun j => .int (f j))).slots.size : Int); rw [arrV_size]; omega)
    (by rw [nn dp h2, nn n h3]; show ¬ _ > ((arrV c1 n1 (fun j => .int (g j))).slots.size : Int); rw [arrV_size]; omega)
    (fun vm₁ _ i hi => by
      have e : (vp_cell c0 (n0, .inl f)).slots.getD (sp.toNatClampNeg + i) .null = .int (f (sp.toNatClampNeg + i)) := by
        show (arrV c0 n0 (fun j => .int (f j))).slots.getD _ _ = _
        rw [Array.getD_eq_getD_getElem?, arrV_read _ _ (by omega)]
        rfl
      refine ⟨?_, ?_⟩
      · rw [e]
        exact hfit i hi
      · rw [e]
        exact trivial)
    (g := F0 m pc ls (.int n :: .int dp :: .ref a :: .int sp :: .ref a0 :: rest)) rfl (by rw [hml]) (rest := rest) rfl (by rw [hb]; exact hdg) hframes (by show 2 * 0 + _ + _ ≤ _; omega)
  have e1 : copied (vp_cell c0 (n0, .inl f)) (vp_cell c1 (n1, .inl g)) sp dp n = vp_cell c1 (n1, .inl (va_cpy f g sp.toNatClampNeg dp.toNatClampNeg n.toNatClampNeg)) := va_copied (fun z => .int z) c0 c1 f g h4
  rw [e1] at X' step
  have hl : a < H.size := (Array.getElem?_eq_some_iff.mp hc1).1
  have hheap : ((T.setVm vm').setCell a (vp_cell c1 (n1, .inl (va_cpy f g sp.toNatClampNeg dp.toNatClampNeg n.toNatClampNeg)))).heap = H.setIfInBounds a (vp_cell c1 (n1, .inl (va_cpy f g sp.toNatClampNeg dp.toNatClampNeg n.toNatClampNeg))) := by rw [← hT]; rfl
  have oq : ∀ q : Nat, q ≠ a → (H.setIfInBounds a (vp_cell c1 (n1, .inl (va_cpy f g sp.toNatClampNeg dp.toNatClampNeg n.toNatClampNeg))))[q]? = H[q]? := fun q hq => by simp [Array.getElem?_setIfInBounds, Ne.symm hq]
  obtain ⟨t, a1, b1⟩ := kk _ _ (show (H.setIfInBounds a _)[a]? = some _ by simp [Array.getElem?_setIfInBounds, hl]) (by simp) oq (fun q hq => by
      obtain ⟨z, -, hz⟩ := List.mem_map.mp hq
      rw [← hz]) _ hheap X'
  exact ⟨t, step t a1, b1⟩
end FX
theorem va_S.putL {A : Nat → Prop} {H0 H H1 : Heap} {locs L : List Loc} {a : Nat} (h : va_S A H0 H locs) (z : H1.size = H.size) (oq : ∀ q : Nat, q ≠ a → H1[q]? = H[q]?) (ha : A a) (hL : ∀ q ∈ L, q.base = a) : va_S A H0 H1 (locs ++ L) := by
  refine ⟨by rw [z]; exact h.1, fun q h1 h2 => ?_, fun q hq => ?_⟩
  · rw [oq q (fun e => h2 (by rw [e]; exact ha))]
    exact h.2.1 q h1 h2
  · rcases List.mem_append.mp hq with h1 | h1
    · exact h.2.2 q h1
    · rw [hL q h1]
      exact ha
theorem kenv.nF {E : w_E} {U : State} {A : Array Value} {a b n d h : String} {i : Nat} (q : Cond.fieldLinkNest a i b n d h ∈ lw_tbl) (hk : kenv E U) : (Cond.fieldLinkNest a i b n d h).before A U = true := va_Nw.use rfl (va_Nw.warmF hk.2.1 (va_Nw.of rfl (hk.1.2.1 _ q)))
theorem kenv.nM {E : w_E} {U : State} {a h : String} {i : Nat} {x : MethodName} (q : Cond.methodLinkNest a i x h ∈ lw_tbl) (hk : kenv E U) : va_Nw (.methodLinkNest a i x h) U := va_Nw.warmM hk.2.1 (va_Nw.of rfl (hk.1.2.1 _ q))
theorem kenv.nC {E : w_E} {U : State} {C C2 : String} (q : Cond.castable C C2 ∈ lw_tbl) (hk : kenv E U) : va_Nw (.castable C C2) U := va_Nw.warmC hk.2.1 (va_Nw.of rfl (hk.1.2.1 _ q))
section GX
variable {X : Cx} {cc : ByteArray} {own : String} {nL : Nat} {ret : Option FieldType} {k n z : Nat} {T L : Nat → Nat} {V : w_V} {P : w_P} {pc : Nat} {lv : List (Option Value)} {st : List Value} {R0 : Room}
theorem g_getVN (O : Okc X cc own nL ret) {ci lay j idx a N : Nat} {C host : String} {TT : u_T} {f : w_fk} (hck : ckOk ci C TT N) (hl : lay < 100) (hci : acn lay = ci) (hj : (alay lay)[j]? = some f) (hk : j < N) (ht : T a = lay + 1) (q : Cond.fieldLinkNest own idx (TT j).1 (TT j).2.1 (TT j).2.2.1 host ∈ lw_tbl) (d : decode cc pc = .ok (.getfield idx, 3)) (kk : gW X k n z T L V P (pc + 3) lv (fl_val (V a 0) (P a) a j f :: st)) : gW X k n z T L V P pc lv (.ref a :: st) := by
  intro H locs ls hw hS h
  subst hci
  have h1 := (hw.2.2.2.2.1 a lay ht hl).1
  have hv := o_fl_get (V1 := V a 0) (P1 := P a) (a := a) _ 0 _ _ hj
  rw [Nat.zero_add] at hv
  exact va_getN O.1 O.2.1 O.2.2.2.2.1 hck.2.1 O.2.2.2.1 O.2.2.2.2.2.1.K (va_P1 h1) 0 rfl hck.1 j hk (O.2.2.2.2.2.1.nF q) (fun _ x => x) hv d (kk H locs ls hw hS h)
theorem gx_getI (O : Okc X cc own nL ret) {ci lay j idx a N : Nat} {C : String} {TT : u_T} (hck : ckOk ci C TT N) (hl : lay < 100) (hci : acn lay = ci) (hj : (alay lay)[j]? = some fI)  (hk : j < N) (ht : T a = lay + 1) (q : Cond.fieldLink own idx (TT j).1 (TT j).2.1 (TT j).2.2.1 ∈ lw_all) (d : decode cc pc = .ok (.getfield idx, 3)) (kk : gW X k n z T L V P (pc + 3) lv (.int (V a 0 j) :: st)) : gW X k n z T L V P pc lv (.ref a :: st) := g_getV O hck hl hci hj hk ht q d kk
theorem gx_getA (O : Okc X cc own nL ret) {ci lay j idx a N : Nat} {C : String} {TT : u_T} (hck : ckOk ci C TT N) (hl : lay < 100) (hci : acn lay = ci) {off ty len : Nat} (hj : (alay lay)[j]? = some (fA off ty len))  (hk : j < N) (ht : T a = lay + 1) (q : Cond.fieldLink own idx (TT j).1 (TT j).2.1 (TT j).2.2.1 ∈ lw_all) (d : decode cc pc = .ok (.getfield idx, 3)) (kk : gW X k n z T L V P (pc + 3) lv (.ref (a + off) :: st)) : gW X k n z T L V P pc lv (.ref a :: st) := g_getV O hck hl hci hj hk ht q d kk
theorem gx_getR (O : Okc X cc own nL ret) {ci lay j idx a N : Nat} {C : String} {TT : u_T} (hck : ckOk ci C TT N) (hl : lay < 100) (hci : acn lay = ci) (hj : (alay lay)[j]? = some fR) {b : Nat} (hP : P a j = some b) (hk : j < N) (ht : T a = lay + 1) (q : Cond.fieldLink own idx (TT j).1 (TT j).2.1 (TT j).2.2.1 ∈ lw_all) (d : decode cc pc = .ok (.getfield idx, 3)) (kk : gW X k n z T L V P (pc + 3) lv (.ref b :: st)) : gW X k n z T L V P pc lv (.ref a :: st) := by
  refine g_getV O hck hl hci hj hk ht q d ?_
  show gW X k n z T L V P (pc + 3) lv (va_rf (P a j) :: st)
  rw [hP]
  exact kk
theorem gx_getQ (O : Okc X cc own nL ret) {ci lay j idx a N : Nat} {C : String} {TT : u_T} (hck : ckOk ci C TT N) (hl : lay < 100) (hci : acn lay = ci) (hj : (alay lay)[j]? = some fR) (hk : j < N) (ht : T a = lay + 1) (q : Cond.fieldLink own idx (TT j).1 (TT j).2.1 (TT j).2.2.1 ∈ lw_all) (d : decode cc pc = .ok (.getfield idx, 3)) (kk : gW X k n z T L V P (pc + 3) lv (va_rf (P a j) :: st)) : gW X k n z T L V P pc lv (.ref a :: st) := g_getV O hck hl hci hj hk ht q d kk
theorem gx_putI (O : Okc X cc own nL ret) {ci lay j idx a N : Nat} {C : String} {TT : u_T} (hck : ckOk ci C TT N) (hl : lay < 100) (hci : acn lay = ci) (hj : (alay lay)[j]? = some fI) (hk : j < N) (ht : T a = lay + 1) (q : Cond.fieldLink own idx (TT j).1 (TT j).2.1 (TT j).2.2.1 ∈ lw_all) (hfin : (TT j).2.2.2 = false) {ty : FieldType} {x : Int32} (hd : parseFieldDescriptor (TT j).2.2.1 = some ty) (hn : narrow ty (.int x) = .int x) (hfit : fits ty (.int x) = true) (d : decode cc pc = .ok (.putfield idx, 3)) (kk : gW X k n z T L (up3 V a 0 j x) P (pc + 3) lv st) : gW X k n z T L V P pc lv (.int x :: .ref a :: st) := by
  intro H locs ls hw hS h
  subst hci
  have h1 := (hw.2.2.2.2.1 a lay ht hl).1
  obtain ⟨ty0, hty⟩ := hck.2.2.1
  refine fr_put O.1 O.2.1 O.2.2.2.2.1 hck.2.1 ty0 hty hck.2.2.2 O.2.2.2.1 O.2.2.2.2.2.1.K h1 hck.1 j hk (O.2.2.2.2.1 _ q) (fun _ x => x) hfin hd hn hfit (by rw [o_fl_len]; exact (List.getElem?_eq_some_iff.mp hj).1) d fun H1 i e1 e2 e3 => ?_
  exact kk H1 _ ls (hw.putI ht hl hj e1 e2 e3) (hS.put e2 e3 (hw.base (by rw [ht]; omega))) h
theorem gx_putR (O : Okc X cc own nL ret) {ci lay j idx a N : Nat} {C : String} {TT : u_T} (hck : ckOk ci C TT N) (hl : lay < 100) (hci : acn lay = ci) (hj : (alay lay)[j]? = some fR) (hk : j < N) (ht : T a = lay + 1) (q : Cond.fieldLink own idx (TT j).1 (TT j).2.1 (TT j).2.2.1 ∈ lw_all) (hfin : (TT j).2.2.2 = false) {ty : FieldType} {x : Option Nat} (hd : parseFieldDescriptor (TT j).2.2.1 = some ty) (hn : narrow ty (va_rf x) = va_rf x) (hfit : fits ty (va_rf x) = true) (d : decode cc pc = .ok (.putfield idx, 3)) (kk : gW X k n z T L V (up2 P a j x) (pc + 3) lv st) : gW X k n z T L V P pc lv (va_rf x :: .ref a :: st) := by
  intro H locs ls hw hS h
  subst hci
  have h1 := (hw.2.2.2.2.1 a lay ht hl).1
  obtain ⟨ty0, hty⟩ := hck.2.2.1
  refine fr_put O.1 O.2.1 O.2.2.2.2.1 hck.2.1 ty0 hty hck.2.2.2 O.2.2.2.1 O.2.2.2.2.2.1.K h1 hck.1 j hk (O.2.2.2.2.1 _ q) (fun _ x => x) hfin hd hn hfit (by rw [o_fl_len]; exact (List.getElem?_eq_some_iff.mp hj).1) d fun H1 i e1 e2 e3 => ?_
  exact kk H1 _ ls (hw.putR ht hl hj e1 e2 e3) (hS.put e2 e3 (hw.base (by rw [ht]; omega))) h
theorem gx_getIN (O : Okc X cc own nL ret) {ci lay j idx a N : Nat} {C host : String} {TT : u_T} (hck : ckOk ci C TT N) (hl : lay < 100) (hci : acn lay = ci) (hj : (alay lay)[j]? = some fI)  (hk : j < N) (ht : T a = lay + 1) (q : Cond.fieldLinkNest own idx (TT j).1 (TT j).2.1 (TT j).2.2.1 host ∈ lw_tbl) (d : decode cc pc = .ok (.getfield idx, 3)) (kk : gW X k n z T L V P (pc + 3) lv (.int (V a 0 j) :: st)) : gW X k n z T L V P pc lv (.ref a :: st) := g_getVN O hck hl hci hj hk ht q d kk
theorem gx_getAN (O : Okc X cc own nL ret) {ci lay j idx a N : Nat} {C host : String} {TT : u_T} (hck : ckOk ci C TT N) (hl : lay < 100) (hci : acn lay = ci) {off ty len : Nat} (hj : (alay lay)[j]? = some (fA off ty len))  (hk : j < N) (ht : T a = lay + 1) (q : Cond.fieldLinkNest own idx (TT j).1 (TT j).2.1 (TT j).2.2.1 host ∈ lw_tbl) (d : decode cc pc = .ok (.getfield idx, 3)) (kk : gW X k n z T L V P (pc + 3) lv (.ref (a + off) :: st)) : gW X k n z T L V P pc lv (.ref a :: st) := g_getVN O hck hl hci hj hk ht q d kk
theorem gx_getRN (O : Okc X cc own nL ret) {ci lay j idx a N : Nat} {C host : String} {TT : u_T} (hck : ckOk ci C TT N) (hl : lay < 100) (hci : acn lay = ci) (hj : (alay lay)[j]? = some fR) {b : Nat} (hP : P a j = some b) (hk : j < N) (ht : T a = lay + 1) (q : Cond.fieldLinkNest own idx (TT j).1 (TT j).2.1 (TT j).2.2.1 host ∈ lw_tbl) (d : decode cc pc = .ok (.getfield idx, 3)) (kk : gW X k n z T L V P (pc + 3) lv (.ref b :: st)) : gW X k n z T L V P pc lv (.ref a :: st) := by
  refine g_getVN O hck hl hci hj hk ht q d ?_
  show gW X k n z T L V P (pc + 3) lv (va_rf (P a j) :: st)
  rw [hP]
  exact kk
theorem gx_getQN (O : Okc X cc own nL ret) {ci lay j idx a N : Nat} {C host : String} {TT : u_T} (hck : ckOk ci C TT N) (hl : lay < 100) (hci : acn lay = ci) (hj : (alay lay)[j]? = some fR) (hk : j < N) (ht : T a = lay + 1) (q : Cond.fieldLinkNest own idx (TT j).1 (TT j).2.1 (TT j).2.2.1 host ∈ lw_tbl) (d : decode cc pc = .ok (.getfield idx, 3)) (kk : gW X k n z T L V P (pc + 3) lv (va_rf (P a j) :: st)) : gW X k n z T L V P pc lv (.ref a :: st) := g_getVN O hck hl hci hj hk ht q d kk
theorem gx_putIN (O : Okc X cc own nL ret) {ci lay j idx a N : Nat} {C host : String} {TT : u_T} (hck : ckOk ci C TT N) (hl : lay < 100) (hci : acn lay = ci) (hj : (alay lay)[j]? = some fI) (hk : j < N) (ht : T a = lay + 1) (q : Cond.fieldLinkNest own idx (TT j).1 (TT j).2.1 (TT j).2.2.1 host ∈ lw_tbl) (hfin : (TT j).2.2.2 = false) {ty : FieldType} {x : Int32} (hd : parseFieldDescriptor (TT j).2.2.1 = some ty) (hn : narrow ty (.int x) = .int x) (hfit : fits ty (.int x) = true) (d : decode cc pc = .ok (.putfield idx, 3)) (kk : gW X k n z T L (up3 V a 0 j x) P (pc + 3) lv st) : gW X k n z T L V P pc lv (.int x :: .ref a :: st) := by
  intro H locs ls hw hS h
  subst hci
  have h1 := (hw.2.2.2.2.1 a lay ht hl).1
  obtain ⟨ty0, hty⟩ := hck.2.2.1
  refine fr_putN O.1 O.2.1 O.2.2.2.2.1 hck.2.1 ty0 hty hck.2.2.2 O.2.2.2.1 O.2.2.2.2.2.1.K h1 hck.1 j hk (O.2.2.2.2.2.1.nF q) (fun _ x => x) hfin hd hn hfit (by rw [o_fl_len]; exact (List.getElem?_eq_some_iff.mp hj).1) d fun H1 i e1 e2 e3 => ?_
  exact kk H1 _ ls (hw.putI ht hl hj e1 e2 e3) (hS.put e2 e3 (hw.base (by rw [ht]; omega))) h
theorem gx_putRN (O : Okc X cc own nL ret) {ci lay j idx a N : Nat} {C host : String} {TT : u_T} (hck : ckOk ci C TT N) (hl : lay < 100) (hci : acn lay = ci) (hj : (alay lay)[j]? = some fR) (hk : j < N) (ht : T a = lay + 1) (q : Cond.fieldLinkNest own idx (TT j).1 (TT j).2.1 (TT j).2.2.1 host ∈ lw_tbl) (hfin : (TT j).2.2.2 = false) {ty : FieldType} {x : Option Nat} (hd : parseFieldDescriptor (TT j).2.2.1 = some ty) (hn : narrow ty (va_rf x) = va_rf x) (hfit : fits ty (va_rf x) = true) (d : decode cc pc = .ok (.putfield idx, 3)) (kk : gW X k n z T L V (up2 P a j x) (pc + 3) lv st) : gW X k n z T L V P pc lv (va_rf x :: .ref a :: st) := by
  intro H locs ls hw hS h
  subst hci
  have h1 := (hw.2.2.2.2.1 a lay ht hl).1
  obtain ⟨ty0, hty⟩ := hck.2.2.1
  refine fr_putN O.1 O.2.1 O.2.2.2.2.1 hck.2.1 ty0 hty hck.2.2.2 O.2.2.2.1 O.2.2.2.2.2.1.K h1 hck.1 j hk (O.2.2.2.2.2.1.nF q) (fun _ x => x) hfin hd hn hfit (by rw [o_fl_len]; exact (List.getElem?_eq_some_iff.mp hj).1) d fun H1 i e1 e2 e3 => ?_
  exact kk H1 _ ls (hw.putR ht hl hj e1 e2 e3) (hS.put e2 e3 (hw.base (by rw [ht]; omega))) h
theorem ha_own {a lay j off ty len : Nat} (hl : lay < 100) (ht : T a = lay + 1) (hj : (alay lay)[j]? = some (fA off ty len)) (hy : ty < 100) : hArr T L (a + off) a (j + 1) len ty := ⟨hy, Or.inl ⟨lay, j, off, hl, ht, hj, rfl, rfl⟩⟩
theorem ha_self {a ty : Nat} (ht : T a = 1000 + ty) (hy : ty < 100) : hArr T L a a 0 (L a) ty := ⟨hy, Or.inr ⟨ht, rfl, rfl, rfl⟩⟩
theorem gx_iald (O : Okc X cc own nL ret) {ad a kk0 len nn : Nat} {i : Int32} (ha : hArr T L ad a kk0 len 0) (hi : nn < len) (h2 : len < 2147483648) (e : i = nI nn) (d : decode cc pc = .ok (.iaload, 1)) (kk : gW X k n z T L V P (pc + 1) lv (.int (V a kk0 nn) :: st)) : gW X k n z T L V P pc lv (.int i :: .ref ad :: st) := by
  intro H locs ls hw hS h
  subst e
  refine va_iald O.1 O.2.1 O.2.2.2.2.2.1.K (va_P1 (ha.at hw)) 0 0 rfl (atyK_at rfl) (vp_in_nI hi h2) d ?_
  rw [nI_clamp (Nat.lt_trans hi h2)]
  exact kk H locs ls hw hS h
theorem gx_iast (O : Okc X cc own nL ret) {ad a kk0 len nn : Nat} {i x : Int32} (ha : hArr T L ad a kk0 len 0) (hi : nn < len) (h2 : len < 2147483648) (e : i = nI nn) (d : decode cc pc = .ok (.iastore, 1)) (kk : gW X k n z T L (up3 V a kk0 nn x) P (pc + 1) lv st) : gW X k n z T L V P pc lv (.int x :: .int i :: .ref ad :: st) := by
  intro H locs ls hw hS h
  subst e
  refine fr_iast O.1 O.2.1 (ha.at hw) (O.2.2.2.2.2.1.K.2 0 _ (atyK_at rfl)).1 (vp_in_nI hi h2) d fun H1 q e1 e2 e3 => ?_
  rw [nI_clamp (Nat.lt_trans hi h2)] at e1
  refine kk H1 _ ls ?_ (hS.put e2 e3 (ha.base hw)) h
  unfold up3
  rw [s2_up]
  exact hw.setH ha e1 e2 e3
theorem gx_bald (O : Okc X cc own nL ret) {ad a kk0 len nn : Nat} {i : Int32} (ha : hArr T L ad a kk0 len 1) (hi : nn < len) (h2 : len < 2147483648) (e : i = nI nn) (d : decode cc pc = .ok (.baload, 1)) (kk : gW X k n z T L V P (pc + 1) lv (.int (V a kk0 nn) :: st)) : gW X k n z T L V P pc lv (.int i :: .ref ad :: st) := by
  intro H locs ls hw hS h
  subst e
  refine va_bald O.1 O.2.1 O.2.2.2.2.2.1.K (va_P1 (ha.at hw)) 0 1 rfl (atyK_at rfl) (vp_in_nI hi h2) d ?_
  rw [nI_clamp (Nat.lt_trans hi h2)]
  exact kk H locs ls hw hS h
theorem gx_bast (O : Okc X cc own nL ret) {ad a kk0 len nn : Nat} {i x : Int32} (ha : hArr T L ad a kk0 len 1) (hi : nn < len) (h2 : len < 2147483648) (e : i = nI nn) (d : decode cc pc = .ok (.bastore, 1)) (kk : gW X k n z T L (up3 V a kk0 nn (vp_nar .byte x)) P (pc + 1) lv st) : gW X k n z T L V P pc lv (.int x :: .int i :: .ref ad :: st) := by
  intro H locs ls hw hS h
  subst e
  refine fr_bast O.1 O.2.1 (ha.at hw) (O.2.2.2.2.2.1.K.2 1 _ (atyK_at rfl)).1 (vp_in_nI hi h2) d fun H1 q e1 e2 e3 => ?_
  rw [nI_clamp (Nat.lt_trans hi h2)] at e1
  refine kk H1 _ ls ?_ (hS.put e2 e3 (ha.base hw)) h
  unfold up3
  rw [s2_up]
  exact hw.setH ha e1 e2 e3
theorem gx_zald (O : Okc X cc own nL ret) {ad a kk0 len nn : Nat} {i : Int32} (ha : hArr T L ad a kk0 len 2) (hi : nn < len) (h2 : len < 2147483648) (e : i = nI nn) (d : decode cc pc = .ok (.baload, 1)) (kk : gW X k n z T L V P (pc + 1) lv (.int (V a kk0 nn) :: st)) : gW X k n z T L V P pc lv (.int i :: .ref ad :: st) := by
  intro H locs ls hw hS h
  subst e
  refine va_zald O.1 O.2.1 O.2.2.2.2.2.1.K (va_P1 (ha.at hw)) 0 2 rfl (atyK_at rfl) (vp_in_nI hi h2) d ?_
  rw [nI_clamp (Nat.lt_trans hi h2)]
  exact kk H locs ls hw hS h
theorem gx_zast (O : Okc X cc own nL ret) {ad a kk0 len nn : Nat} {i x : Int32} (ha : hArr T L ad a kk0 len 2) (hi : nn < len) (h2 : len < 2147483648) (e : i = nI nn) (d : decode cc pc = .ok (.bastore, 1)) (kk : gW X k n z T L (up3 V a kk0 nn (vp_nar .boolean x)) P (pc + 1) lv st) : gW X k n z T L V P pc lv (.int x :: .int i :: .ref ad :: st) := by
  intro H locs ls hw hS h
  subst e
  refine fr_zast O.1 O.2.1 (ha.at hw) (O.2.2.2.2.2.1.K.2 2 _ (atyK_at rfl)).1 (vp_in_nI hi h2) d fun H1 q e1 e2 e3 => ?_
  rw [nI_clamp (Nat.lt_trans hi h2)] at e1
  refine kk H1 _ ls ?_ (hS.put e2 e3 (ha.base hw)) h
  unfold up3
  rw [s2_up]
  exact hw.setH ha e1 e2 e3
theorem gx_alen (O : Okc X cc own nL ret) {ad a kk0 len ty : Nat} {fty : FieldType} (ha : hArr T L ad a kk0 len ty) (hty : atyL[ty]? = some fty) (d : decode cc pc = .ok (.arraylength, 1)) (kk : gW X k n z T L V P (pc + 1) lv (.int (nI len) :: st)) : gW X k n z T L V P pc lv (.ref ad :: st) := by
  intro H locs ls hw hS h
  exact va_alen O.1 O.2.1 O.2.2.2.2.2.1.K (va_P1 (ha.at hw)) 0 ty rfl (atyK_at hty) rfl d (kk H locs ls hw hS h)
theorem gx_alenR (O : Okc X cc own nL ret) {a ty : Nat} {fty : FieldType} (ha : T a = 2000 + ty) (hy : ty < 100) (hty : atyL[ty]? = some fty) (d : decode cc pc = .ok (.arraylength, 1)) (kk : gW X k n z T L V P (pc + 1) lv (.int (nI (L a)) :: st)) : gW X k n z T L V P pc lv (.ref a :: st) := by
  intro H locs ls hw hS h
  exact va_alen O.1 O.2.1 O.2.2.2.2.2.1.K (va_P1 (hw.2.2.2.2.2.2.1 a ty ha hy)) 0 ty rfl (atyK_at hty) rfl d (kk H locs ls hw hS h)
theorem gx_aald (O : Okc X cc own nL ret) {a ty nn : Nat} {C : String} {i : Int32} {b : Nat} (ha : T a = 2000 + ty) (hy : ty < 100) (hty : atyL[ty]? = some (.object C)) (hi : nn < L a) (h2 : L a < 2147483648) (e : i = nI nn) (hb : P a nn = some b) (d : decode cc pc = .ok (.aaload, 1)) (kk : gW X k n z T L V P (pc + 1) lv (.ref b :: st)) : gW X k n z T L V P pc lv (.int i :: .ref a :: st) := by
  intro H locs ls hw hS h
  subst e
  refine va_aldq O.1 O.2.1 O.2.2.2.2.2.1.K (va_P1 (hw.2.2.2.2.2.2.1 a ty ha hy)) 0 ty rfl (atyK_at hty) (vp_in_nI hi h2) d ?_
  rw [nI_clamp (Nat.lt_trans hi h2), hb]
  exact kk H locs ls hw hS h
theorem gx_copy (O : Okc X cc own nL ret) {idx s0 a0 k0 n0 d0 a1 k1 n1 ty sp dp nn : Nat} {fty : FieldType} {x y w : Int32} (hRm : cxR X = R0) (q : Cond.methodLink own idx arraycopyName ∈ lw_all) (h0 : hArr T L s0 a0 k0 n0 ty) (h1 : hArr T L d0 a1 k1 n1 ty) (hty : atyL[ty]? = some fty) (hpr : refKind fty = false) (ex : x = nI sp) (ey : y = nI dp) (ew : w = nI nn) (h4 : sp + nn ≤ n0) (h5 : dp + nn ≤ n1) (hb0 : n0 < 2147483648) (hb1 : n1 < 2147483648) (hfit : ∀ i, i < nn → fits fty (.int (V a0 k0 (sp + i))) = true) (hf : 1 ≤ R0.frames) (hl : (st.map fun v => v.category).sum + (nativeFrameWords "java/lang/System" "arraycopy" 5 + 11) ≤ R0.locals) (hnl : lv.length = nL) (d : decode cc pc = .ok (.invokestatic idx, 3))
    (kk : gW X k n z T L (up1 V a1 (up1 (V a1) k1 (va_cpy (V a0 k0) (V a1 k1) sp dp nn))) P (pc + 3) lv st) : gW X k n z T L V P pc lv (.int w :: .int y :: .ref d0 :: .int x :: .ref s0 :: st) := by
  intro H locs ls hw hS h
  subst ex ey ew
  have e1 : (nI sp).toNatClampNeg = sp := nI_clamp (by omega)
  have e2 : (nI dp).toNatClampNeg = dp := nI_clamp (by omega)
  have e3 : (nI nn).toNatClampNeg = nn := nI_clamp (by omega)
  refine fr_copyi O.1 O.2.1 (by rw [O.2.2.1, h.1, hnl]) O.2.2.2.1 (O.2.2.2.2.1 _ q) (O.2.2.2.2.1 _ q297) (O.2.2.2.2.1 _ q296) (O.2.2.2.2.1 _ q122) (h0.at hw) (h1.at hw) (O.2.2.2.2.2.1.K.2 ty _ (atyK_at hty)).1 (O.2.2.2.2.2.1.K.2 ty _ (atyK_at hty)).1 hpr (nI_pos (by omega)) (nI_pos (by omega)) (nI_pos (by omega)) (by rw [e1, e3]; exact h4) (by rw [e2, e3]; exact h5) (by rw [e1, e3]; exact hfit) (by rw [hRm]; exact hf) (by rw [hRm]; exact hl) d (fun H1 LL g1 g2 g3 g4 => ?_)
  rw [e1, e2, e3] at g1
  exact kk H1 _ ls (hw.setH h1 g1 g2 g3) (hS.putL g2 g3 (h1.base hw) g4) h
theorem gx_cast (O : Okc X cc own nL ret) {ci lay a idx N : Nat} {C nm : String} {TT : u_T} (hck : ckOk ci C TT N) (hl : lay < 100) (hci : acn lay = ci) (ht : T a = lay + 1) (q : Cond.classLink own idx nm ∈ lw_all) (hc : Cond.castable C nm ∈ lw_tbl) (d : decode cc pc = .ok (.checkcast idx, 3)) (kk : gW X k n z T L V P (pc + 3) lv (.ref a :: st)) : gW X k n z T L V P pc lv (.ref a :: st) := by
  intro H locs ls hw hS h
  exact va_castY O.1 O.2.1 O.2.2.2.1 (O.2.2.2.2.1 _ q) (O.2.2.2.2.2.1.nC hc) (g_recv O hck hl hci ht hw) d (kk H locs ls hw hS h)
theorem gx_castE (O : Okc X cc own nL ret) {ci lay a idx N : Nat} {C : String} {TT : u_T} (hck : ckOk ci C TT N) (hl : lay < 100) (hci : acn lay = ci) (ht : T a = lay + 1) (q : Cond.classLink own idx C ∈ lw_all) (d : decode cc pc = .ok (.checkcast idx, 3)) (kk : gW X k n z T L V P (pc + 3) lv (.ref a :: st)) : gW X k n z T L V P pc lv (.ref a :: st) := by
  intro H locs ls hw hS h
  exact va_castE O.1 O.2.1 O.2.2.2.1 (O.2.2.2.2.1 _ q) (g_recv O hck hl hci ht hw) d (kk H locs ls hw hS h)
theorem gx_castA (O : Okc X cc own nL ret) {ad a kk0 len ty idx : Nat} {fty : FieldType} {nm : String} (ha : hArr T L ad a kk0 len ty) (hty : atyL[ty]? = some fty) (hnm : "[" ++ fty.toString = nm) (hno : ∀ C, fty ≠ .object C) (q : Cond.classLink own idx nm ∈ lw_all) (d : decode cc pc = .ok (.checkcast idx, 3)) (kk : gW X k n z T L V P (pc + 3) lv (.ref ad :: st)) : gW X k n z T L V P pc lv (.ref ad :: st) := by
  intro H locs ls hw hS h
  have hr := (O.2.2.2.2.2.1.K.2 ty _ (atyK_at hty)).2
  refine va_castA O.1 O.2.1 O.2.2.2.1 (O.2.2.2.2.1 _ q) (va_P1 (ha.at hw)) 0 rfl ?_ d (kk H locs ls hw hS h)
  rw [← hnm]
  cases fty with
  | object C => exact absurd rfl (hno C)
  | _ => exact hr
theorem gx_getst (O : Okc X cc own nL ret) {idx i : Nat} {q : String × String × String} (hi : cstL[i]? = some q) (hlk : Cond.fieldLink own idx q.1 q.2.1 q.2.2 ∈ lw_all) (d : decode cc pc = .ok (.getstatic idx, 3)) (kk : gW X k n z T L V P (pc + 3) lv (.ref ((cxE X).2.2.2.2 i) :: st)) : gW X k n z T L V P pc lv st := by
  intro H locs ls hw hS h
  have h0 := O.2.2.2.2.2.1
  have hZ : va_Z q.1 q.2.1 q.2.2 (.ref ((cxE X).2.2.2.2 i)) (w_A (cxE X)) (cxs X) (cxs X).heap := va_Z.kept (va_Z.moved h0.2.1.alike (h0.1.2.2.2.1 i q hi)) (fun a h1 h2 => h0.2.2.2 a h1)
  exact va_gets O.1 O.2.1 hZ hS O.2.2.2.1 (O.2.2.2.2.1 _ hlk) (fun _ x => x) d (kk H locs ls hw hS h)
theorem gx_acmp_eq (O : Okc X cc own nL ret) {x y : Nat} {A B : Prop} {off : Int} {tgt : Nat} (w : if x = y then A else B) (d : decode cc pc = .ok (.if_acmp .eq off, 3)) (ht : (pc : Int) + off = (tgt : Int)) (kt : A → gW X k n z T L V P tgt lv st) (kf : B → gW X k n z T L V P (pc + 3) lv st) : gW X k n z T L V P pc lv (.ref y :: .ref x :: st) := fun H locs ls hw hS h => lv_acmp_eq (rx := some x) (ry := some y) O.1 O.2.1 d ht (fun c => kt (by rw [if_pos (Option.some.inj c)] at w; exact w) H locs ls hw hS h) (fun c => kf (by rw [if_neg (fun e => c (by rw [e]))] at w; exact w) H locs ls hw hS h)
theorem gx_acmp_ne (O : Okc X cc own nL ret) {x y : Nat} {A B : Prop} {off : Int} {tgt : Nat} (w : if x = y then B else A) (d : decode cc pc = .ok (.if_acmp .ne off, 3)) (ht : (pc : Int) + off = (tgt : Int)) (kt : A → gW X k n z T L V P tgt lv st) (kf : B → gW X k n z T L V P (pc + 3) lv st) : gW X k n z T L V P pc lv (.ref y :: .ref x :: st) := fun H locs ls hw hS h => lv_acmp_ne (rx := some x) (ry := some y) O.1 O.2.1 d ht (fun c => kt (by rw [if_neg (fun e => c (by rw [e]))] at w; exact w) H locs ls hw hS h) (fun c => kf (by rw [if_pos (Option.some.inj c)] at w; exact w) H locs ls hw hS h)
end GX
section FR
variable {p : Program} {l : Launch} {e : Env} {R : Room} {s : State} {m : MethodId} {args : Array Value} {below : List Frame} {meth : Method} {c : Code} {H : Heap} {locs : List Loc} {cells slots : Nat} {Q : State → Prop}
variable {cc : ByteArray} {pc : Nat} {ls : Array Slot} {rest : List Value} {D : va_G} {cl : List vw_C} {a : Nat} {tys : List (ClassId × FieldType)}
theorem ref_upd {cA : ClassId} {n j : Nat} {f : Nat → Option Nat} {x : Option Nat} {H1 : Heap} (e : H1[a]? = some ((vp_cell cA (n, .inr (.inr (.inr (.inr f))))).setSlot j (va_rf x))) : va_at D cl (a, .inl (cA, n, .inr (.inr (.inr (.inr (up1 f j x)))))) H1 := by
  show H1[a]? = some (vp_cell _ _)
  rw [e]
  rw [vp_cell_q, vp_cell_q, arrV_store]
  congr 2
  funext q
  by_cases hq : q = j
  · subst hq
    simp [updV, up1]
  · simp [updV, up1, hq]
theorem fr_astq (hexec : p.tables.exec = Jvm.exec) (hb : c.code = cc) (hK : va_K D cl tys s) (t0 : Nat) {E : String} {cA : ClassId} {n v : Nat} {f : Nat → Option Nat} (ha : va_at D cl (a, .inl (cA, n, .inr (.inr (.inr (.inr f))))) H) (ht : tys[t0]? = some (cA, .object E)) (hr : va_Any E s H v) {i : Int32} (hin : vp_in i n) (hdg : decode cc pc = .ok (.aastore, 1))
    (kk : ∀ (H1 : Heap) (j : Nat), va_at D cl (a, .inl (cA, n, .inr (.inr (.inr (.inr (up1 f i.toNatClampNeg (some v))))))) H1 → H1.size = H.size → (∀ q : Nat, q ≠ a → H1[q]? = H[q]?) → W p l e R s m args below meth c H1 (locs ++ [⟨a, j⟩]) cells slots Q (F0 m (pc + 1) ls rest)) : W p l e R s m args below meth c H locs cells slots Q (F0 m pc ls (.ref v :: .int i :: .ref a :: rest)) := by
  have hlt : i.toNatClampNeg < n := Nat.not_le.mp fun q => hin (Or.inr q)
  have h0 : ¬ i < 0 := fun q => hin (Or.inl q)
  obtain ⟨cellV, g1, g3, ⟨kC, hkC⟩, hasg⟩ := hr
  obtain ⟨kA, comp, k1, k2, k3, -⟩ := (hK.2 t0 _ ht).2
  obtain ⟨kE, hkE, -⟩ := Vm.findClass_spec k3
  refine W.aast hexec hb (show H[a]? = some (vp_cell cA (n, .inr (.inr (.inr (.inr f))))) from ha) (fun q h => by cases h) (fun h => by cases h) k1 k2 rfl hkE ⟨h0, by show _ < (arrV _ _ _).slots.size; rw [arrV_size]; exact hlt⟩ g1 (fun q h => by rw [h] at g3; cases g3) hkC (hasg _ k3) rfl rfl hdg fun H1 e z oq => ?_
  exact kk H1 _ (ref_upd e) z oq
theorem fr_astqN (hexec : p.tables.exec = Jvm.exec) (hb : c.code = cc) (hK : va_K D cl tys s) (t0 : Nat) {E : String} {cA : ClassId} {n : Nat} {f : Nat → Option Nat} (ha : va_at D cl (a, .inl (cA, n, .inr (.inr (.inr (.inr f))))) H) (ht : tys[t0]? = some (cA, .object E)) {i : Int32} (hin : vp_in i n) (hdg : decode cc pc = .ok (.aastore, 1))
    (kk : ∀ (H1 : Heap) (j : Nat), va_at D cl (a, .inl (cA, n, .inr (.inr (.inr (.inr (up1 f i.toNatClampNeg none)))))) H1 → H1.size = H.size → (∀ q : Nat, q ≠ a → H1[q]? = H[q]?) → W p l e R s m args below meth c H1 (locs ++ [⟨a, j⟩]) cells slots Q (F0 m (pc + 1) ls rest)) : W p l e R s m args below meth c H locs cells slots Q (F0 m pc ls (.null :: .int i :: .ref a :: rest)) := by
  refine va_WaastN (C := E) hexec hb (show H[a]? = some (vp_cell cA (n, .inr (.inr (.inr (.inr f))))) from ha) ((hK.2 t0 _ ht).1 n (fun j => va_rf (f j))) (fun h => by cases h) (by show ¬ (i < 0 ∨ (arrV _ _ _).slots.size ≤ _); rw [arrV_size]; exact hin) rfl rfl hdg fun H1 e z oq => ?_
  exact kk H1 _ (ref_upd (x := none) e) z oq
theorem fr_copyq (hexec : p.tables.exec = Jvm.exec) (hb : c.code = cc) (hml : c.maxLocals = ls.size) {own : String} {index : Nat} (hown : s.vm.findClass own = some m.cls) (hlink : (Cond.methodLink own index arraycopyName).before args s = true) (hnat : (Cond.native arraycopyName).before args s = true) (hstat : (Cond.static arraycopyName).before args s = true) (hini : (Cond.initialized "java/lang/System").before args s = true)
    (hK : va_K D cl tys s) (t0 t1 : Nat) {a0 : Nat} {c0 c1 : ClassId} {n0 n1 : Nat} {f g : Nat → Option Nat} {E0 E1 : String} (ha0 : va_at D cl (a0, .inl (c0, n0, .inr (.inr (.inr (.inr f))))) H) (ha1 : va_at D cl (a, .inl (c1, n1, .inr (.inr (.inr (.inr g))))) H) (ht0 : tys[t0]? = some (c0, .object E0)) (ht1 : tys[t1]? = some (c1, .object E1))
    {sp dp n : Int32} (h1 : ¬ sp < 0) (h2 : ¬ dp < 0) (h3 : ¬ n < 0) (h4 : sp.toNatClampNeg + n.toNatClampNeg ≤ n0) (h5 : dp.toNatClampNeg + n.toNatClampNeg ≤ n1) (hel : ∀ i : Nat, i < n.toNatClampNeg → ∀ y : Nat, f (sp.toNatClampNeg + i) = some y → va_Any E1 s H y)
    (hframes : 1 ≤ R.frames) (hlocals : (rest.map fun v => v.category).sum + (nativeFrameWords "java/lang/System" "arraycopy" 5 + 11) ≤ R.locals) (hdg : decode cc pc = .ok (.invokestatic index, 3))
    (kk : ∀ (H1 : Heap) (LL : List Loc), va_at D cl (a, .inl (c1, n1, .inr (.inr (.inr (.inr (va_cpy f g sp.toNatClampNeg dp.toNatClampNeg n.toNatClampNeg)))))) H1 → H1.size = H.size → (∀ q : Nat, q ≠ a → H1[q]? = H[q]?) → (∀ q ∈ LL, q.base = a) → W p l e R s m args below meth c H1 (locs ++ LL) cells slots Q (F0 m (pc + 3) ls rest)) : W p l e R s m args below meth c H locs cells slots Q (F0 m pc ls (.int n :: .int dp :: .ref a :: .int sp :: .ref a0 :: rest)) := by
  have nn : ∀ z : Int32, ¬ z < 0 → z.toInt = (z.toNatClampNeg : Int) := by
    intro z hz
    have hz0 : (0 : Int) ≤ z.toInt := by
      have := Int32.not_lt.mp hz
      simpa using Int32.le_iff_toInt_le.mp this
    show z.toInt = ((z.toInt.toNat : Nat) : Int)
    omega
  intro T hT X
  have hc0 : H[a0]? = some (vp_cell c0 (n0, .inr (.inr (.inr (.inr f))))) := ha0
  have hc1 : H[a]? = some (vp_cell c1 (n1, .inr (.inr (.inr (.inr g))))) := ha1
  obtain ⟨-, k0, hk0, cm0, hkk0⟩ := (hK.2 t0 _ ht0).1 n0 (fun j => va_rf (f j))
  obtain ⟨-, k1, hk1, cm1, hkk1⟩ := (hK.2 t1 _ ht1).1 n1 (fun j => va_rf (g j))
  obtain ⟨vm', X', step⟩ := X.arraycopy hexec hown hlink hnat hstat hini (src := a0) (dst := a) (cs := vp_cell c0 (n0, .inr (.inr (.inr (.inr f))))) (cd := vp_cell c1 (n1, .inr (.inr (.inr (.inr g))))) (srcPos := sp) (destPos := dp) (n := n) (by rw [hT]; exact hc0) (by rw [hT]; exact hc1)
    (fun _ h => by cases h) (fun _ h => by cases h) (fun h => by cases h) (fun h => by cases h) hk0 hk1 hkk0 hkk1 rfl h1 h2 h3
    (by rw [nn sp h1, nn n h3]; show ¬ _ > ((arrV c0 n0 (fun j => va_rf (f j))).slots.size : Int); rw [arrV_size]; omega)
    (by rw [nn dp h2, nn n h3]; show ¬ _ > ((arrV c1 n1 (fun j => va_rf (g j))).slots.size : Int); rw [arrV_size]; omega)
    (fun vm₁ hal i hi => by
      have e : (vp_cell c0 (n0, .inr (.inr (.inr (.inr f))))).slots.getD (sp.toNatClampNeg + i) .null = va_rf (f (sp.toNatClampNeg + i)) := by
        show (arrV c0 n0 (fun j => va_rf (f j))).slots.getD _ _ = _
        rw [Array.getD_eq_getD_getElem?, arrV_read _ _ (by omega)]
        rfl
      rw [e]
      cases hy : f (sp.toNatClampNeg + i) with
      | none => exact ⟨rfl, trivial⟩
      | some y =>
        obtain ⟨cellV, g1, g2, ⟨kC, hkC⟩, hasg⟩ := hel i hi y hy
        obtain ⟨kA, comp, r1, r2, r3, -⟩ := (hK.2 t1 _ ht1).2
        cases hk1.symm.trans r1
        cases hkk1.symm.trans r2
        obtain ⟨kE, hkE, -⟩ := Vm.findClass_spec r3
        obtain ⟨kC', hkC', -⟩ := hal.2.2 _ _ hkC
        obtain ⟨kE', hkE', -⟩ := hal.2.2 _ _ hkE
        refine ⟨rfl, cellV, (show T.heap[y]? = some cellV by rw [hT]; exact g1), (fun q h => by rw [h] at g2; cases g2), ⟨kC', hkC'⟩, ?_, ?_⟩
        · exact ⟨kE', hkE'⟩
        · show vm₁.assignable _ _ = true
          rw [hal.assignable]
          exact hasg _ r3)
    (g := F0 m pc ls (.int n :: .int dp :: .ref a :: .int sp :: .ref a0 :: rest)) rfl (by rw [hml]) (rest := rest) rfl (by rw [hb]; exact hdg) hframes (by show 2 * 0 + _ + _ ≤ _; omega)
  have e1 : copied (vp_cell c0 (n0, .inr (.inr (.inr (.inr f))))) (vp_cell c1 (n1, .inr (.inr (.inr (.inr g))))) sp dp n = vp_cell c1 (n1, .inr (.inr (.inr (.inr (va_cpy f g sp.toNatClampNeg dp.toNatClampNeg n.toNatClampNeg))))) := by
    rw [vp_cell_q, vp_cell_q, vp_cell_q]
    exact va_copied (fun z => va_rf z) c0 c1 f g h4
  rw [e1] at X' step
  have hl : a < H.size := (Array.getElem?_eq_some_iff.mp hc1).1
  have hheap : ((T.setVm vm').setCell a (vp_cell c1 (n1, .inr (.inr (.inr (.inr (va_cpy f g sp.toNatClampNeg dp.toNatClampNeg n.toNatClampNeg))))))).heap = H.setIfInBounds a (vp_cell c1 (n1, .inr (.inr (.inr (.inr (va_cpy f g sp.toNatClampNeg dp.toNatClampNeg n.toNatClampNeg)))))) := by rw [← hT]; rfl
  have oq : ∀ q : Nat, q ≠ a → (H.setIfInBounds a (vp_cell c1 (n1, .inr (.inr (.inr (.inr (va_cpy f g sp.toNatClampNeg dp.toNatClampNeg n.toNatClampNeg)))))))[q]? = H[q]? := fun q hq => by simp [Array.getElem?_setIfInBounds, Ne.symm hq]
  obtain ⟨t, a1, b1⟩ := kk _ _ (show (H.setIfInBounds a _)[a]? = some _ by simp [Array.getElem?_setIfInBounds, hl]) (by simp) oq (fun q hq => by
      obtain ⟨z, -, hz⟩ := List.mem_map.mp hq
      rw [← hz]) _ hheap X'
  exact ⟨t, step t a1, b1⟩
end FR
/-- what may lie in a list: a state, a judge, an array of ints -/
def oT (T : Nat → Nat) (v : Nat) : Prop := T v = 6 ∨ T v = 13 ∨ T v = 14 ∨ T v = 15 ∨ T v = 1000
section GR
variable {X : Cx} {cc : ByteArray} {own : String} {nL : Nat} {ret : Option FieldType} {k n z : Nat} {T L : Nat → Nat} {V : w_V} {P : w_P} {pc : Nat} {lv : List (Option Value)} {st : List Value} {R0 : Room}
theorem gx_getIs (O : Okc X cc own nL ret) {ci lay j idx a N : Nat} {C ref : String} {TT : u_T} (hck : ckOk ci C TT N) (hl : lay < 100) (hci : acn lay = ci) (hj : (alay lay)[j]? = some fI) (hk : j < N) (ht : T a = lay + 1) (q : Cond.fieldLink own idx ref (TT j).2.1 (TT j).2.2.1 ∈ lw_all) (qs : Cond.sameField ref (TT j).1 (TT j).2.1 (TT j).2.2.1 ∈ lw_all) (d : decode cc pc = .ok (.getfield idx, 3)) (kk : gW X k n z T L V P (pc + 3) lv (.int (V a 0 j) :: st)) : gW X k n z T L V P pc lv (.ref a :: st) := by
  intro H locs ls hw hS h
  subst hci
  have h1 := (hw.2.2.2.2.1 a lay ht hl).1
  have hv := o_fl_get (V1 := V a 0) (P1 := P a) (a := a) _ 0 _ _ hj
  rw [Nat.zero_add] at hv
  exact va_get O.1 O.2.1 O.2.2.2.2.1 hck.2.1 O.2.2.2.1 O.2.2.2.2.2.1.K (va_P1 h1) 0 rfl hck.1 j hk (O.2.2.2.2.1 _ q) (fun x hx => u_same (O.2.2.2.2.1 _ qs) x hx) hv d (kk H locs ls hw hS h)
theorem gx_putIs (O : Okc X cc own nL ret) {ci lay j idx a N : Nat} {C ref : String} {TT : u_T} (hck : ckOk ci C TT N) (hl : lay < 100) (hci : acn lay = ci) (hj : (alay lay)[j]? = some fI) (hk : j < N) (ht : T a = lay + 1) (q : Cond.fieldLink own idx ref (TT j).2.1 (TT j).2.2.1 ∈ lw_all) (qs : Cond.sameField ref (TT j).1 (TT j).2.1 (TT j).2.2.1 ∈ lw_all) (hfin : (TT j).2.2.2 = false) {ty : FieldType} {x : Int32} (hd : parseFieldDescriptor (TT j).2.2.1 = some ty) (hn : narrow ty (.int x) = .int x) (hfit : fits ty (.int x) = true) (d : decode cc pc = .ok (.putfield idx, 3)) (kk : gW X k n z T L (up3 V a 0 j x) P (pc + 3) lv st) : gW X k n z T L V P pc lv (.int x :: .ref a :: st) := by
  intro H locs ls hw hS h
  subst hci
  have h1 := (hw.2.2.2.2.1 a lay ht hl).1
  obtain ⟨ty0, hty⟩ := hck.2.2.1
  refine fr_put O.1 O.2.1 O.2.2.2.2.1 hck.2.1 ty0 hty hck.2.2.2 O.2.2.2.1 O.2.2.2.2.2.1.K h1 hck.1 j hk (O.2.2.2.2.1 _ q) (fun x hx => u_same (O.2.2.2.2.1 _ qs) x hx) hfin hd hn hfit (by rw [o_fl_len]; exact (List.getElem?_eq_some_iff.mp hj).1) d fun H1 i e1 e2 e3 => ?_
  exact kk H1 _ ls (hw.putI ht hl hj e1 e2 e3) (hS.put e2 e3 (hw.base (by rw [ht]; omega))) h
theorem g_iushr (O : Okc X cc own nL ret) {x y : Int32} (d : decode cc pc = .ok (.iushr, 1)) (kk : gW X k n z T L V P (pc + 1) lv (.int (x.toUInt32 >>> (y.toUInt32 &&& Int32.toUInt32 31)).toInt32 :: st)) : gW X k n z T L V P pc lv (.int y :: .int x :: st) := fun H locs ls hw hS h => lv_iushr O.1 O.2.1 d rfl (kk H locs ls hw hS h)
theorem any_c (O : Okc X cc own nL ret) {lay v N : Nat} {C : String} {TT : u_T} {H : Heap} (hc : acl[acn lay]? = some (C, TT, N)) (hq : Cond.castable C "java/lang/Object" ∈ lw_tbl) (hl : lay < 100) (ht : T v = lay + 1) (hw : wd (cxE X) z T L V P H) : va_Any "java/lang/Object" (cxs X) H v :=
  va_rAny (q0 := 0) O.2.2.2.2.2.1.K (va_P1 (hw.2.2.2.2.1 v lay ht hl).1) rfl hc (fun comp c0 h1 h2 => vb_asgC (O.2.2.2.2.2.1.nC hq) comp c0 h1 h2)
theorem gx_any (O : Okc X cc own nL ret) {v : Nat} {H : Heap} (h : oT T v) (hw : wd (cxE X) z T L V P H) : va_Any "java/lang/Object" (cxs X) H v := by
  rcases h with h | h | h | h | h
  · exact any_c (lay := 5) O rfl q2356 (by decide) h hw
  · exact any_c (lay := 12) O rfl q2368 (by decide) h hw
  · exact any_c (lay := 13) O rfl q2366 (by decide) h hw
  · exact any_c (lay := 14) O rfl q2367 (by decide) h hw
  · have h1 := hw.2.2.2.2.2.1 v 0 h (by decide)
    have h2 : (cxs X).vm.findClass "[I" = some ((cxE X).2.2.2.1 0) := (O.2.2.2.2.2.1.K.2 0 _ (atyK_at (show atyL[0]? = some .int from rfl))).2
    obtain ⟨kC, hkC, -⟩ := Vm.findClass_spec h2
    refine ⟨_, h1, rfl, ⟨kC, hkC⟩, fun comp h3 => vb_asgC (O.2.2.2.2.2.1.nC q2375) comp _ h3 h2⟩
theorem gx_aast (O : Okc X cc own nL ret) {a nn v : Nat} {i : Int32} (ha : T a = 2004) (hi : nn < L a) (h2 : L a < 2147483648) (e : i = nI nn) (hv : oT T v) (d : decode cc pc = .ok (.aastore, 1)) (kk : gW X k n z T L V (up2 P a nn (some v)) (pc + 1) lv st) : gW X k n z T L V P pc lv (.ref v :: .int i :: .ref a :: st) := by
  intro H locs ls hw hS h
  subst e
  refine fr_astq O.1 O.2.1 O.2.2.2.2.2.1.K 4 (hw.2.2.2.2.2.2.1 a 4 ha (by decide)) (atyK_at (show atyL[4]? = some (.object "java/lang/Object") from rfl)) (gx_any O hv hw) (vp_in_nI hi h2) d (fun H1 j g1 g2 g3 => ?_)
  rw [nI_clamp (Nat.lt_trans hi h2)] at g1
  exact kk H1 _ ls (hw.setR (ty := 4) ha (by decide) g1 g2 g3) (hS.put g2 g3 (hw.base (by rw [ha]; decide))) h
theorem gx_aastN (O : Okc X cc own nL ret) {a nn : Nat} {i : Int32} (ha : T a = 2004) (hi : nn < L a) (h2 : L a < 2147483648) (e : i = nI nn) (d : decode cc pc = .ok (.aastore, 1)) (kk : gW X k n z T L V (up2 P a nn none) (pc + 1) lv st) : gW X k n z T L V P pc lv (.null :: .int i :: .ref a :: st) := by
  intro H locs ls hw hS h
  subst e
  refine fr_astqN O.1 O.2.1 O.2.2.2.2.2.1.K 4 (hw.2.2.2.2.2.2.1 a 4 ha (by decide)) (atyK_at (show atyL[4]? = some (.object "java/lang/Object") from rfl)) (vp_in_nI hi h2) d (fun H1 j g1 g2 g3 => ?_)
  rw [nI_clamp (Nat.lt_trans hi h2)] at g1
  exact kk H1 _ ls (hw.setR (ty := 4) ha (by decide) g1 g2 g3) (hS.put g2 g3 (hw.base (by rw [ha]; decide))) h
theorem gx_copyR (O : Okc X cc own nL ret) {idx a0 a1 sp dp nn : Nat} {x y w : Int32} (hRm : cxR X = R0) (q : Cond.methodLink own idx arraycopyName ∈ lw_all) (h0 : T a0 = 2004) (h1 : T a1 = 2004) (ex : x = nI sp) (ey : y = nI dp) (ew : w = nI nn) (h4 : sp + nn ≤ L a0) (h5 : dp + nn ≤ L a1) (hb0 : L a0 < 2147483648) (hb1 : L a1 < 2147483648) (hel : ∀ i v, i < nn → P a0 (sp + i) = some v → oT T v) (hf : 1 ≤ R0.frames) (hl : (st.map fun v => v.category).sum + (nativeFrameWords "java/lang/System" "arraycopy" 5 + 11) ≤ R0.locals) (hnl : lv.length = nL) (d : decode cc pc = .ok (.invokestatic idx, 3))
    (kk : gW X k n z T L V (up1 P a1 (va_cpy (P a0) (P a1) sp dp nn)) (pc + 3) lv st) : gW X k n z T L V P pc lv (.int w :: .int y :: .ref a1 :: .int x :: .ref a0 :: st) := by
  intro H locs ls hw hS h
  subst ex ey ew
  have e1 : (nI sp).toNatClampNeg = sp := nI_clamp (by omega)
  have e2 : (nI dp).toNatClampNeg = dp := nI_clamp (by omega)
  have e3 : (nI nn).toNatClampNeg = nn := nI_clamp (by omega)
  refine fr_copyq O.1 O.2.1 (by rw [O.2.2.1, h.1, hnl]) O.2.2.2.1 (O.2.2.2.2.1 _ q) (O.2.2.2.2.1 _ q297) (O.2.2.2.2.1 _ q296) (O.2.2.2.2.1 _ q122) O.2.2.2.2.2.1.K 4 4 (hw.2.2.2.2.2.2.1 a0 4 h0 (by decide)) (hw.2.2.2.2.2.2.1 a1 4 h1 (by decide)) (atyK_at (show atyL[4]? = some (.object "java/lang/Object") from rfl)) (atyK_at (show atyL[4]? = some (.object "java/lang/Object") from rfl)) (nI_pos (by omega)) (nI_pos (by omega)) (nI_pos (by omega)) (by rw [e1, e3]; exact h4) (by rw [e2, e3]; exact h5) (fun i hi y hy => gx_any O (hel i y (by rw [e3] at hi; exact hi) (by rw [e1] at hy; exact hy)) hw) (by rw [hRm]; exact hf) (by rw [hRm]; exact hl) d (fun H1 LL g1 g2 g3 g4 => ?_)
  rw [e1, e2, e3] at g1
  exact kk H1 _ ls (hw.setR (ty := 4) h1 (by decide) g1 g2 g3) (hS.putL g2 g3 (hw.base (by rw [h1]; decide)) g4) h
end GR
