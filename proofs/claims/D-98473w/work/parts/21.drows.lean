/-! ROWS: constructors; texts; what the JDK's code needs; the law's longs and its script -/
set_option maxRecDepth 100000
section FF
variable {p : Program} {l : Launch} {e : Env} {R : Room} {s : State} {m : MethodId} {args : Array Value} {below : List Frame} {meth : Method} {c : Code} {H : Heap} {locs : List Loc} {cells slots : Nat} {Q : State → Prop}
variable {cc : ByteArray} {pc : Nat} {ls : Array Slot} {rest : List Value} {D : va_G} {cl : List vw_C} {a : Nat} {tys : List (ClassId × FieldType)}
theorem fr_putF (hexec : p.tables.exec = Jvm.exec) (hb : c.code = cc) {own ref C : String} {T : u_T} {N ci index : Nat} {Ts : List Cond} (hts : ∀ w ∈ Ts, w.before args s = true) (hin : ∀ w ∈ u_ws C T N, w ∈ Ts) (ty0 : Nat → FieldType) (hty : ∀ k, k < N → parseFieldDescriptor (T k).2.2.1 = some (ty0 k)) (hnm : ∀ a, a < N → ∀ b, b < N → a ≠ b → (T a).2.1 ≠ (T b).2.1) (hown : s.vm.findClass own = some m.cls) (hK : va_K D cl tys s) {fs : List Value} (hP : va_at D cl (a, .inr (ci, fs)) H) (hc : cl[ci]? = some (C, T, N)) (k : Nat) (hk : k < N) (hlink : (Cond.fieldLink own index ref (T k).2.1 (T k).2.2.1).before args s = true) (hsame : ∀ x, s.fieldFound? (T k).1 (T k).2.1 (T k).2.2.1 = some x → s.fieldFound? ref (T k).2.1 (T k).2.2.1 = some x) (hfin : (T k).2.2.2 = true) (hin2 : meth.name = "<init>") (hdecl : (T k).1 = own) {ty : FieldType} {v : Value} (hd : parseFieldDescriptor (T k).2.2.1 = some ty) (hn : narrow ty v = v) (hfit : fits ty v = true) (hl : k < fs.length)
    (hdg : decode cc pc = .ok (.putfield index, 3)) (kk : ∀ (H1 : Heap) (i : Nat), va_at D cl (a, .inr (ci, fs.set k v)) H1 → H1.size = H.size → (∀ q : Nat, q ≠ a → H1[q]? = H[q]?) → W p l e R s m args below meth c H1 (locs ++ [⟨a, i⟩]) cells slots Q (F0 m (pc + 3) ls rest)) : W p l e R s m args below meth c H locs cells slots Q (F0 m pc ls (v :: .ref a :: rest)) := by
  have hap := va_apart (own := own) hts hin ty0 hty hnm hK hc
  obtain ⟨r, h1, cell, q1, q2, q3, q4⟩ := hP
  have hr : r = (C, T, N) := Option.some.inj (h1.symm.trans hc)
  subst hr
  obtain ⟨hS, hfc, kC, hkC, hkind⟩ := hK.1 ci _ hc
  obtain ⟨cf, kf, fi, f, hi, hsl⟩ := hS k hk
  have hlay := hts _ (hin _ (u_in_lay hk))
  unfold u_lay at hlay
  rw [if_pos hfin] at hlay
  have hst := (u_facts hfc hkC (u_lays hts hin hk) hi).1
  have hcf : m.cls = cf := by
    obtain ⟨_, _, c', _, _, _, -, -, hf', -, -, -, hown2, -⟩ := Cond.laysFinal_spec hlay
    have e1 : c' = cf := by have := hi.symm.trans hf'; simp at this; exact this.1.symm
    rw [hdecl] at hown2
    rw [← e1]; exact Option.some.inj (hown.symm.trans hown2)
  have h6 := u_fits hfc hkC hkind (Or.inr hlay) hi hd hn hfit
  refine W.putFinK hexec hb hown hlink (hsame _ hi) hst hcf hin2 (by rw [q2]; exact h6) q1 q3 (by rw [hsl]; exact k2_hasslot (q4 k hk)) rfl rfl hdg fun H' e1 e2 e3 => ?_
  rw [hsl] at e1 ⊢
  exact kk H' _ ⟨_, hc, t_OB.to (V := updV (vp_V fs) k v) ⟨_, e1, q2, q3, t_set q4 hap hk v⟩ (fun j _ => vp_updV_set hl v j)⟩ e2 e3
end FF
theorem nar_rf {ty : FieldType} (h : (∃ n, ty = .object n) ∨ ∃ t, ty = .array t) (x : Option Nat) : narrow ty (va_rf x) = va_rf x ∧ fits ty (va_rf x) = true := by
  rcases h with ⟨n, rfl⟩ | ⟨t, rfl⟩ <;> cases x <;> exact ⟨rfl, rfl⟩
section GD
variable {X : Cx} {cc : ByteArray} {own : String} {nL : Nat} {ret : Option FieldType} {k n z : Nat} {T L : Nat → Nat} {V : w_V} {P : w_P} {pc : Nat} {lv : List (Option Value)} {st rest : List Value} {R0 : Room}
theorem gx_putIF (O : Okc X cc own nL ret) (hI : (cxM X).name = "<init>") {ci lay j idx a N : Nat} {C : String} {TT : u_T} (hck : ckOk ci C TT N) (hl : lay < 100) (hci : acn lay = ci) (hj : (alay lay)[j]? = some fI) (hk : j < N) (ht : T a = lay + 1) (q : Cond.fieldLink own idx (TT j).1 (TT j).2.1 (TT j).2.2.1 ∈ lw_all) (hfin : (TT j).2.2.2 = true) (hdc : (TT j).1 = own) {ty : FieldType} {x : Int32} (hd : parseFieldDescriptor (TT j).2.2.1 = some ty) (hn : narrow ty (.int x) = .int x) (hfit : fits ty (.int x) = true) (d : decode cc pc = .ok (.putfield idx, 3)) (kk : gW X k n z T L (up3 V a 0 j x) P (pc + 3) lv st) : gW X k n z T L V P pc lv (.int x :: .ref a :: st) := by
  intro H locs ls hw hS h
  subst hci
  have h1 := (hw.2.2.2.2.1 a lay ht hl).1
  obtain ⟨ty0, hty⟩ := hck.2.2.1
  refine fr_putF O.1 O.2.1 O.2.2.2.2.1 hck.2.1 ty0 hty hck.2.2.2 O.2.2.2.1 O.2.2.2.2.2.1.K h1 hck.1 j hk (O.2.2.2.2.1 _ q) (fun _ x => x) hfin hI hdc hd hn hfit (by rw [o_fl_len]; exact (List.getElem?_eq_some_iff.mp hj).1) d fun H1 i e1 e2 e3 => ?_
  exact kk H1 _ ls (hw.putI ht hl hj e1 e2 e3) (hS.put e2 e3 (hw.base (by rw [ht]; omega))) h
theorem gx_putRF (O : Okc X cc own nL ret) (hI : (cxM X).name = "<init>") {ci lay j idx a N : Nat} {C : String} {TT : u_T} (hck : ckOk ci C TT N) (hl : lay < 100) (hci : acn lay = ci) (hj : (alay lay)[j]? = some fR) (hk : j < N) (ht : T a = lay + 1) (q : Cond.fieldLink own idx (TT j).1 (TT j).2.1 (TT j).2.2.1 ∈ lw_all) (hfin : (TT j).2.2.2 = true) (hdc : (TT j).1 = own) {ty : FieldType} {x : Option Nat} (hd : parseFieldDescriptor (TT j).2.2.1 = some ty) (hty : (∃ n, ty = .object n) ∨ ∃ t, ty = .array t) (d : decode cc pc = .ok (.putfield idx, 3)) (kk : gW X k n z T L V (up2 P a j x) (pc + 3) lv st) : gW X k n z T L V P pc lv (va_rf x :: .ref a :: st) := by
  intro H locs ls hw hS h
  subst hci
  have h1 := (hw.2.2.2.2.1 a lay ht hl).1
  obtain ⟨ty0, hty0⟩ := hck.2.2.1
  refine fr_putF O.1 O.2.1 O.2.2.2.2.1 hck.2.1 ty0 hty0 hck.2.2.2 O.2.2.2.1 O.2.2.2.2.2.1.K h1 hck.1 j hk (O.2.2.2.2.1 _ q) (fun _ x => x) hfin hI hdc hd (nar_rf hty x).1 (nar_rf hty x).2 (by rw [o_fl_len]; exact (List.getElem?_eq_some_iff.mp hj).1) d fun H1 i e1 e2 e3 => ?_
  exact kk H1 _ ls (hw.putR ht hl hj e1 e2 e3) (hS.put e2 e3 (hw.base (by rw [ht]; omega))) h
theorem gj_putIF (O : Okc X cc RX16 nL ret) (hI : (cxM X).name = "<init>") {j idx a : Nat} {x : Int32} (hj : j = 0 ∨ j = 1) (ht : jT T a) (q : Cond.fieldLink RX16 idx (TX16 j).1 (TX16 j).2.1 (TX16 j).2.2.1 ∈ lw_all) (d : decode cc pc = .ok (.putfield idx, 3)) (kk : gW X k n z T L (up3 V a 0 j x) P (pc + 3) lv st) : gW X k n z T L V P pc lv (.int x :: .ref a :: st) := by
  rcases hj with rfl | rfl <;> rcases ht with h | h | h
  · exact gx_putIF (lay := 12) (ty := .int) O hI ck12 (by decide) rfl rfl (by decide) h q rfl rfl rfl rfl rfl d kk
  · exact gx_putIF (lay := 13) (ty := .int) O hI ck13 (by decide) rfl rfl (by decide) h q rfl rfl rfl rfl rfl d kk
  · exact gx_putIF (lay := 14) (ty := .int) O hI ck14 (by decide) rfl rfl (by decide) h q rfl rfl rfl rfl rfl d kk
  · exact gx_putIF (lay := 12) (ty := .int) O hI ck12 (by decide) rfl rfl (by decide) h q rfl rfl rfl rfl rfl d kk
  · exact gx_putIF (lay := 13) (ty := .int) O hI ck13 (by decide) rfl rfl (by decide) h q rfl rfl rfl rfl rfl d kk
  · exact gx_putIF (lay := 14) (ty := .int) O hI ck14 (by decide) rfl rfl (by decide) h q rfl rfl rfl rfl rfl d kk
theorem gj_putRF (O : Okc X cc RX16 nL ret) (hI : (cxM X).name = "<init>") {idx a b : Nat} (ht : jT T a) (q : Cond.fieldLink RX16 idx (TX16 2).1 (TX16 2).2.1 (TX16 2).2.2.1 ∈ lw_all) (d : decode cc pc = .ok (.putfield idx, 3)) (kk : gW X k n z T L V (up2 P a 2 (some b)) (pc + 3) lv st) : gW X k n z T L V P pc lv (.ref b :: .ref a :: st) := by
  rcases ht with h | h | h
  · exact gx_putRF (lay := 12) (ty := .array .int) (x := some b) O hI ck12 (by decide) rfl rfl (by decide) h q rfl rfl rfl (Or.inr ⟨_, rfl⟩) d kk
  · exact gx_putRF (lay := 13) (ty := .array .int) (x := some b) O hI ck13 (by decide) rfl rfl (by decide) h q rfl rfl rfl (Or.inr ⟨_, rfl⟩) d kk
  · exact gx_putRF (lay := 14) (ty := .array .int) (x := some b) O hI ck14 (by decide) rfl rfl (by decide) h q rfl rfl rfl (Or.inr ⟨_, rfl⟩) d kk
theorem gc_objInit (O : Okc X cc own nL ret) (hRm : cxR X = R0) {a idx : Nat} (q : Cond.methodLink own idx Lib.objectInit ∈ lw_all) (hf : 1 ≤ R0.frames) (hl : (st.map fun v => v.category).sum + 12 ≤ R0.locals) (hnl : lv.length = nL) (d : decode cc pc = .ok (.invokespecial idx, 3)) (kk : gW X k n z T L V P (pc + 3) lv st) : gW X k n z T L V P pc lv (.ref a :: st) := by
  intro H locs ls hw hS h
  refine W.objInit O.1 O.2.1 O.2.2.2.1 (O.2.2.2.2.1 _ q) (O.2.2.2.2.1 _ q153) (O.2.2.2.2.1 _ q154) rfl (by rw [O.2.2.1, ← hnl]; exact h.1) rfl d (by rw [hRm]; exact hf) (by rw [hRm]; show 2 * 0 + _ + 12 ≤ _; omega) ?_
  exact kk H locs ls hw hS h
section RI
variable {ret0 : Option FieldType} {y : MethodName} {bytes : ByteArray} {idx maxL nA b mc ms : Nat} {rm : Room} {As : List Value} {Qc : Array Value → State → Outcome → State → Prop} {xp : w_X}
theorem gr_I (O : Okc X cc own nL ret0) (hRm : cxR X = R0) (hM : Met (cxL X) y (ws_ y bytes maxL none) rm (va_Pc (.ref b :: As) (fun U => kenv (cxE X) U ∧ wdW (cxE X) (z, T, L, V, P) U.heap)) Qc mc ms (w_A (cxE X)))
    (hG : GoodIn lw_all (ws_ y bytes maxL none)) (q : Cond.methodLink own idx y ∈ lw_all) (qi : Cond.instanceMethod y ∈ lw_all) (qn : Cond.initialized y.cls ∈ lw_all) (hy : y.name = "<init>") (hrc : rm.cells = mc) (hrs : rm.slots = ms) (hd : y.cls ≠ "java/lang/invoke/MethodHandle" ∧ y.cls ≠ "java/lang/invoke/VarHandle" ∧ (parseMethodDescriptor y.desc).map (fun d => d.parameters.length) = some nA)
    (hR : rm.frames + 1 ≤ R0.frames ∧ 8 + (maxL + 11) + rm.locals ≤ R0.locals) (hn : As.length = nA) (hst : st = As.reverse ++ .ref b :: rest) (hnl : lv.length = nL) (hr : (rest.map fun v => v.category).sum ≤ 8) (d : decode cc pc = .ok (.invokespecial idx, 3)) (hf : k + mc ≤ R0.cells ∧ n + ms ≤ R0.slots) : gRun X k n z T L V P pc lv st rest mc ms (Qc (Value.ref b :: As).toArray) := by
  intro H locs ls hw hS h
  rw [← hRm] at hR hf
  exact va_runI (As := As) (rest := rest) ⟨O.1, O.2.1, O.2.2.1, O.2.2.2.1, O.2.2.2.2.1⟩ hM (cwI nA O.2.2.2.2.1 hG rfl hrc hrs (O.2.2.2.2.1 _ qn) (O.2.2.2.2.1 _ q) (O.2.2.2.2.1 _ qi) hy hd hR) (g_preS O hw hS) rfl hn (by rw [← hnl]; exact h.1) hst (lv_room hr) d hf
theorem grx_I (O : Okc X cc own nL ret0) (hRm : cxR X = R0) (hM : vx_Met (cxL X) y (ws_ y bytes maxL none) rm (va_Pc (.ref b :: As) (fun U => kenv (cxE X) U ∧ wdW (cxE X) (z, T, L, V, P) U.heap)) Qc (xcX (cxE X) xp) mc ms (w_A (cxE X)))
    (hG : GoodIn lw_all (ws_ y bytes maxL none)) (q : Cond.methodLink own idx y ∈ lw_all) (qi : Cond.instanceMethod y ∈ lw_all) (qn : Cond.initialized y.cls ∈ lw_all) (hy : y.name = "<init>") (hrc : rm.cells = mc) (hrs : rm.slots = ms) (hd : y.cls ≠ "java/lang/invoke/MethodHandle" ∧ y.cls ≠ "java/lang/invoke/VarHandle" ∧ (parseMethodDescriptor y.desc).map (fun d => d.parameters.length) = some nA)
    (hR : rm.frames + 1 ≤ R0.frames ∧ 8 + (maxL + 11) + rm.locals ≤ R0.locals) (hn : As.length = nA) (hst : st = As.reverse ++ .ref b :: rest) (hnl : lv.length = nL) (hr : (rest.map fun v => v.category).sum ≤ 8) (d : decode cc pc = .ok (.invokespecial idx, 3)) (hf : k + mc ≤ R0.cells ∧ n + ms ≤ R0.slots) : gRunX X k n z T L V P pc lv st rest mc ms (Qc (Value.ref b :: As).toArray) xp := by
  intro H locs ls hw hS h
  rw [← hRm] at hR hf
  exact vx_runI (As := As) (rest := rest) ⟨O.1, O.2.1, O.2.2.1, O.2.2.2.1, O.2.2.2.2.1⟩ hM (cwI nA O.2.2.2.2.1 hG rfl hrc hrs (O.2.2.2.2.1 _ qn) (O.2.2.2.2.1 _ q) (O.2.2.2.2.1 _ qi) hy hd hR) (g_preS O hw hS) rfl hn (by rw [← hnl]; exact h.1) hst (lv_room hr) d hf
end RI
end GD
