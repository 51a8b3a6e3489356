/-! CALLS: gRun, a call that comes back (by the kind of the call); g_ri, g_rv, g_rq: what goes on behind it (by the kind of its answer) -/
set_option maxRecDepth 100000
def gRun (X : Cx) (k n z : Nat) (T L : Nat → Nat) (V : w_V) (P : w_P) (pc : Nat) (lv : List (Option Value)) (st rest : List Value) (mc ms : Nat) (Qa : State → Outcome → State → Prop) : Prop :=
  ∀ (H : Heap) (locs : List Loc) (ls : Array Slot), wd (cxE X) z T L V P H → va_S (w_A (cxE X)) (cxs X).heap H locs → lv_has ls lv.length (lvp 0 lv) →
    va_Run (cxP X) (cxL X) (cxe X) (cxR X) (cxs X) (cxm X) (cxa X) (cxb X) (cxM X) (cxc X) H locs k n mc ms (F0 (cxm X) pc ls st) rest Qa (w_A (cxE X))
theorem kenv.nD {E : w_E} {U : State} {x : MethodName} (q : Cond.declares x ∈ lw_tbl) (hk : kenv E U) : va_Nw (.declares x) U := va_Nw.warmD hk.2.1 (va_Nw.of rfl (hk.1.2.1 _ q))
theorem lw_U {own : String} {idx : Nat} {C owner : String} {x y : MethodName} {b : ByteArray} {L : Nat} {r : Option FieldType} (h1 : Cond.methodLink own idx x ∈ lw_all) (h2 : Cond.sameMethod x.cls owner x.name x.desc ∈ lw_all) (h3 : Cond.selects C x y ∈ lw_all) (h4 : Cond.instanceMethod y ∈ lw_all) (h5 : Cond.initialized y.cls ∈ lw_all) (h6 : Cond.code y b L r ∈ lw_all) : GoodIn lw_all (va_wsU own idx C owner x y (ws_ y b L r)) := by
  refine lw_app (fun w hw => ?_) (lw_meth h6)
  simp only [List.mem_cons, List.not_mem_nil, or_false] at hw
  rcases hw with rfl | rfl | rfl | rfl | rfl
  · exact h1
  · exact h2
  · exact h3
  · exact h4
  · exact h5
theorem lw_O {own : String} {idx : Nat} {C owner : String} {x y : MethodName} {b : ByteArray} {L : Nat} {r : Option FieldType} (h1 : Cond.methodLink own idx x ∈ lw_all) (h2 : Cond.sameMethod x.cls owner x.name x.desc ∈ lw_all) (h0 : Cond.instanceMethod ⟨owner, x.name, x.desc⟩ ∈ lw_all) (h3 : Cond.selects C x y ∈ lw_all) (h4 : Cond.instanceMethod y ∈ lw_all) (h5 : Cond.initialized y.cls ∈ lw_all) (h6 : Cond.code y b L r ∈ lw_all) : GoodIn lw_all (va_wsO own idx C owner x y (ws_ y b L r)) := by
  refine lw_app (fun w hw => ?_) (lw_meth h6)
  simp only [List.mem_cons, List.not_mem_nil, or_false] at hw
  rcases hw with rfl | rfl | rfl | rfl | rfl | rfl
  · exact h1
  · exact h2
  · exact h0
  · exact h3
  · exact h4
  · exact h5
theorem lw_SU {own : String} {idx : Nat} {y : MethodName} {b : ByteArray} {L : Nat} {r : Option FieldType} (h1 : Cond.methodLink own idx y ∈ lw_all) (h2 : Cond.sameMethod y.cls y.cls y.name y.desc ∈ lw_all) (h3 : Cond.superclass own y.cls ∈ lw_all) (h4 : Cond.instanceMethod y ∈ lw_all) (h5 : Cond.initialized y.cls ∈ lw_all) (h6 : Cond.code y b L r ∈ lw_all) : GoodIn lw_all (va_wsSU own idx y (ws_ y b L r)) := by
  refine lw_app (fun w hw => ?_) (lw_meth h6)
  simp only [List.mem_cons, List.not_mem_nil, or_false] at hw
  rcases hw with rfl | rfl | rfl | rfl | rfl
  · exact h1
  · exact h2
  · exact h3
  · exact h4
  · exact h5
section RUN
variable {X : Cx} {cc : ByteArray} {own : String} {nL : Nat} {k n z : Nat} {T L : Nat → Nat} {V : w_V} {P : w_P} {pc : Nat} {lv : List (Option Value)} {st rest : List Value} {mc ms : Nat} {S : Type} {f : S → w_W} {a : Array Value}
theorem g_ri {post : Int32 → S → Prop} (hr : gRun X k n z T L V P pc lv st rest mc ms (va_Qi post (fun u t => wdW (cxE X) (f u) t.heap) (w_A (cxE X)) a)) (kk : ∀ (r : Int32) (u : S), post r u → gW X (k + mc) (n + ms) (f u).1 (f u).2.1 (f u).2.2.1 (f u).2.2.2.1 (f u).2.2.2.2 (pc + 3) lv (.int r :: rest)) : gW X k n z T L V P pc lv st := by
  intro H locs ls hw hS h
  exact va_calli (hr H locs ls hw hS h) hS (fun q _ x => x) (fun q x => x) (fun r u t H1 locs1 e1 _ hp hB _ _ hS1 => kk r u hp H1 locs1 ls (by rw [← e1]; exact hB) hS1 h)
theorem g_rv {post : S → Prop} (hr : gRun X k n z T L V P pc lv st rest mc ms (va_Qv post (fun u t => wdW (cxE X) (f u) t.heap) (w_A (cxE X)) a)) (kk : ∀ (u : S), post u → gW X (k + mc) (n + ms) (f u).1 (f u).2.1 (f u).2.2.1 (f u).2.2.2.1 (f u).2.2.2.2 (pc + 3) lv rest) : gW X k n z T L V P pc lv st := by
  intro H locs ls hw hS h
  exact va_callv (hr H locs ls hw hS h) hS (fun q _ x => x) (fun q x => x) (fun u t H1 locs1 e1 _ hp hB _ _ hS1 => kk u hp H1 locs1 ls (by rw [← e1]; exact hB) hS1 h)
theorem g_rq {post : Option Nat → S → Prop} (hr : gRun X k n z T L V P pc lv st rest mc ms (va_Qq post (fun u t => wdW (cxE X) (f u) t.heap) (w_A (cxE X)) a)) (kk : ∀ (r : Option Nat) (u : S), post r u → gW X (k + mc) (n + ms) (f u).1 (f u).2.1 (f u).2.2.1 (f u).2.2.2.1 (f u).2.2.2.2 (pc + 3) lv (va_rf r :: rest)) : gW X k n z T L V P pc lv st := by
  intro H locs ls hw hS h
  exact va_callq (hr H locs ls hw hS h) hS (fun q _ x => x) (fun q x => x) (fun r u t H1 locs1 e1 _ hp hB _ _ hS1 => kk r u hp H1 locs1 ls (by rw [← e1]; exact hB) hS1 h)
/-- an own method of the receiver's class -/
theorem gr_V {ret0 ret : Option FieldType} {y : MethodName} {bytes : ByteArray} {idx maxL nA ci lay b N : Nat} {C : String} {TT : u_T} {rm R0 : Room} {As : List Value} {Qc : Array Value → State → Outcome → State → Prop} (O : Okc X cc own nL ret0) (hRm : cxR X = R0) (hM : Met (cxL X) y (ws_ y bytes maxL ret) rm (va_Pc (.ref b :: As) (fun U => kenv (cxE X) U ∧ wdW (cxE X) (z, T, L, V, P) U.heap)) Qc mc ms (w_A (cxE X)))
    (hG : GoodIn lw_all (wsV own idx C y (ws_ y bytes maxL ret))) (hrc : rm.cells = mc) (hrs : rm.slots = ms) (hd : y.cls = C ∧ y.cls ≠ "java/lang/invoke/MethodHandle" ∧ y.cls ≠ "java/lang/invoke/VarHandle" ∧ (parseMethodDescriptor y.desc).map (fun d => d.parameters.length) = some nA)
    (hR : rm.frames + 1 ≤ R0.frames ∧ 8 + (maxL + 11) + rm.locals ≤ R0.locals) (hck : ckOk ci C TT N) (hl : lay < 100) (hci : acn lay = ci) (ht : T b = lay + 1) (hn : As.length = nA) (hst : st = As.reverse ++ .ref b :: rest) (hnl : lv.length = nL) (hr : (rest.map fun v => v.category).sum ≤ 8) (d : decode cc pc = .ok (.invokevirtual idx, 3)) (hf : k + mc ≤ R0.cells ∧ n + ms ≤ R0.slots) : gRun X k n z T L V P pc lv st rest mc ms (Qc (Value.ref b :: As).toArray) := by
  intro H locs ls hw hS h
  rw [← hRm] at hR hf
  exact va_runV (As := As) (rest := rest) ⟨O.1, O.2.1, O.2.2.1, O.2.2.2.1, O.2.2.2.2.1⟩ hM (cwV nA O.2.2.2.2.1 hG rfl hrc hrs hd hR) ⟨fun a U g mk q => q, g_recv O hck hl hci ht hw, (g_preS O hw hS).2⟩ rfl hn (by rw [← hnl]; exact h.1) hst (lv_room hr) d hf
/-- a method y found by the receiver's class C, the link naming x; y stands in a class above C, or in C -/
theorem gr_U {ret0 ret : Option FieldType} {x y : MethodName} {bytes : ByteArray} {idx maxL nA ci lay b N : Nat} {C owner : String} {TT : u_T} {rm R0 : Room} {As : List Value} {Qc : Array Value → State → Outcome → State → Prop} (O : Okc X cc own nL ret0) (hRm : cxR X = R0) (hM : Met (cxL X) y (ws_ y bytes maxL ret) rm (va_Pc (.ref b :: As) (fun U => kenv (cxE X) U ∧ wdW (cxE X) (z, T, L, V, P) U.heap)) Qc mc ms (w_A (cxE X)))
    (hG : GoodIn lw_all (va_wsU own idx C owner x y (ws_ y bytes maxL ret))) (hrc : rm.cells = mc) (hrs : rm.slots = ms) (hyx : y = ⟨owner, x.name, x.desc⟩) (hd : owner ≠ "java/lang/invoke/MethodHandle" ∧ owner ≠ "java/lang/invoke/VarHandle" ∧ (parseMethodDescriptor x.desc).map (fun d => d.parameters.length) = some nA)
    (hR : rm.frames + 1 ≤ R0.frames ∧ 8 + (maxL + 11) + rm.locals ≤ R0.locals) (hck : ckOk ci C TT N) (hl : lay < 100) (hci : acn lay = ci) (ht : T b = lay + 1) (hn : As.length = nA) (hst : st = As.reverse ++ .ref b :: rest) (hnl : lv.length = nL) (hr : (rest.map fun v => v.category).sum ≤ 8) (d : decode cc pc = .ok (.invokevirtual idx, 3)) (hf : k + mc ≤ R0.cells ∧ n + ms ≤ R0.slots) : gRun X k n z T L V P pc lv st rest mc ms (Qc (Value.ref b :: As).toArray) := by
  intro H locs ls hw hS h
  rw [← hRm] at hR hf
  exact va_runU (As := As) (rest := rest) ⟨O.1, O.2.1, O.2.2.1, O.2.2.2.1, O.2.2.2.2.1⟩ hM (va_cwU nA O.2.2.2.2.1 hG rfl hrc hrs hyx hd hR) ⟨fun a U g mk q => q, g_recv O hck hl hci ht hw, (g_preS O hw hS).2⟩ rfl hn (by rw [← hnl]; exact h.1) hst (lv_room hr) d hf
/-- a method y of the receiver's class C that stands for x of the class above -/
theorem gr_O {ret0 ret r0 : Option FieldType} {x y : MethodName} {bytes b0 : ByteArray} {idx maxL m0 nA ci lay b N : Nat} {C owner : String} {TT : u_T} {rm R0 : Room} {As : List Value} {Qc : Array Value → State → Outcome → State → Prop} (O : Okc X cc own nL ret0) (hRm : cxR X = R0) (hM : Met (cxL X) y (ws_ y bytes maxL ret) rm (va_Pc (.ref b :: As) (fun U => kenv (cxE X) U ∧ wdW (cxE X) (z, T, L, V, P) U.heap)) Qc mc ms (w_A (cxE X)))
    (hG : GoodIn lw_all (va_wsO own idx C owner x y (ws_ y bytes maxL ret))) (hrc : rm.cells = mc) (hrs : rm.slots = ms) (h0 : Cond.code ⟨owner, x.name, x.desc⟩ b0 m0 r0 ∈ lw_all) (hd : owner ≠ "java/lang/invoke/MethodHandle" ∧ owner ≠ "java/lang/invoke/VarHandle" ∧ (parseMethodDescriptor x.desc).map (fun d => d.parameters.length) = some nA)
    (hR : rm.frames + 1 ≤ R0.frames ∧ 8 + (maxL + 11) + rm.locals ≤ R0.locals) (hck : ckOk ci C TT N) (hl : lay < 100) (hci : acn lay = ci) (ht : T b = lay + 1) (hn : As.length = nA) (hst : st = As.reverse ++ .ref b :: rest) (hnl : lv.length = nL) (hr : (rest.map fun v => v.category).sum ≤ 8) (d : decode cc pc = .ok (.invokevirtual idx, 3)) (hf : k + mc ≤ R0.cells ∧ n + ms ≤ R0.slots) : gRun X k n z T L V P pc lv st rest mc ms (Qc (Value.ref b :: As).toArray) := by
  intro H locs ls hw hS h
  rw [← hRm] at hR hf
  exact va_runU (As := As) (rest := rest) ⟨O.1, O.2.1, O.2.2.1, O.2.2.2.1, O.2.2.2.2.1⟩ hM (va_cwO nA O.2.2.2.2.1 hG rfl hrc hrs h0 hd hR) ⟨fun a U g mk q => q, g_recv O hck hl hci ht hw, (g_preS O hw hS).2⟩ rfl hn (by rw [← hnl]; exact h.1) hst (lv_room hr) d hf
theorem gr_S {ret0 ret : Option FieldType} {y : MethodName} {bytes : ByteArray} {idx maxL nA : Nat} {rm R0 : Room} {As : List Value} {Qc : Array Value → State → Outcome → State → Prop} (O : Okc X cc own nL ret0) (hRm : cxR X = R0) (hM : Met (cxL X) y (ws_ y bytes maxL ret) rm (va_Pc As (fun U => kenv (cxE X) U ∧ wdW (cxE X) (z, T, L, V, P) U.heap)) Qc mc ms (w_A (cxE X)))
    (hG : GoodIn lw_all (va_wsS own idx y (ws_ y bytes maxL ret))) (hrc : rm.cells = mc) (hrs : rm.slots = ms) (hd : y.cls ≠ "java/lang/invoke/MethodHandle" ∧ y.cls ≠ "java/lang/invoke/VarHandle" ∧ (parseMethodDescriptor y.desc).map (fun d => d.parameters.length) = some nA)
    (hR : rm.frames + 1 ≤ R0.frames ∧ 8 + (maxL + 11) + rm.locals ≤ R0.locals) (hn : As.length = nA) (hst : st = As.reverse ++ rest) (hnl : lv.length = nL) (hr : (rest.map fun v => v.category).sum ≤ 8) (d : decode cc pc = .ok (.invokestatic idx, 3)) (hf : k + mc ≤ R0.cells ∧ n + ms ≤ R0.slots) : gRun X k n z T L V P pc lv st rest mc ms (Qc As.toArray) := by
  intro H locs ls hw hS h
  rw [← hRm] at hR hf
  exact va_runS (As := As) (rest := rest) ⟨O.1, O.2.1, O.2.2.1, O.2.2.2.1, O.2.2.2.2.1⟩ hM (va_cwS nA O.2.2.2.2.1 hG rfl hrc hrs hd hR) (g_preS O hw hS) rfl hn (by rw [← hnl]; exact h.1) hst (lv_room hr) d hf
/-- super.y(..): own's class above declares y; the receiver is of the class C -/
theorem gr_SU {ret0 ret : Option FieldType} {y : MethodName} {bytes : ByteArray} {idx maxL nA ci lay b N : Nat} {C : String} {TT : u_T} {rm R0 : Room} {As : List Value} {Qc : Array Value → State → Outcome → State → Prop} (O : Okc X cc own nL ret0) (hRm : cxR X = R0) (hM : Met (cxL X) y (ws_ y bytes maxL ret) rm (va_Pc (.ref b :: As) (fun U => kenv (cxE X) U ∧ wdW (cxE X) (z, T, L, V, P) U.heap)) Qc mc ms (w_A (cxE X)))
    (hG : GoodIn lw_all (va_wsSU own idx y (ws_ y bytes maxL ret))) (hrc : rm.cells = mc) (hrs : rm.slots = ms) (hd : y.name ≠ "<init>" ∧ (parseMethodDescriptor y.desc).map (fun d => d.parameters.length) = some nA)
    (hR : rm.frames + 1 ≤ R0.frames ∧ 8 + (maxL + 11) + rm.locals ≤ R0.locals) (hck : ckOk ci C TT N) (hl : lay < 100) (hci : acn lay = ci) (ht : T b = lay + 1) (hn : As.length = nA) (hst : st = As.reverse ++ .ref b :: rest) (hnl : lv.length = nL) (hr : (rest.map fun v => v.category).sum ≤ 8) (d : decode cc pc = .ok (.invokespecial idx, 3)) (hf : k + mc ≤ R0.cells ∧ n + ms ≤ R0.slots) : gRun X k n z T L V P pc lv st rest mc ms (Qc (Value.ref b :: As).toArray) := by
  intro H locs ls hw hS h
  rw [← hRm] at hR hf
  have hat : ClassAt (cxs X) C _ := (O.2.2.2.2.2.1.K.1 ci _ hck.1).2
  exact va_runSU (As := As) (rest := rest) hat ⟨O.1, O.2.1, O.2.2.1, O.2.2.2.1, O.2.2.2.2.1⟩ hM (va_cwSU nA O.2.2.2.2.1 hG rfl hrc hrs hd hR) ⟨fun a U g mk q => q, g_recv O hck hl hci ht hw, (g_preS O hw hS).2⟩ rfl hn (by rw [← hnl]; exact h.1) hst (lv_room hr) d hf
/-- the abstract x of the class above, y of the receiver's class C -/
theorem gr_A {ret0 ret : Option FieldType} {x y : MethodName} {bytes : ByteArray} {idx maxL nA ci lay b N : Nat} {C owner : String} {TT : u_T} {rm R0 : Room} {As : List Value} {Qc : Array Value → State → Outcome → State → Prop} (O : Okc X cc own nL ret0) (hRm : cxR X = R0) (hM : Met (cxL X) y (ws_ y bytes maxL ret) rm (va_Pc (.ref b :: As) (fun U => kenv (cxE X) U ∧ wdW (cxE X) (z, T, L, V, P) U.heap)) Qc mc ms (w_A (cxE X)))
    (hG : GoodIn lw_all (va_wsU own idx C owner x y (ws_ y bytes maxL ret))) (hrc : rm.cells = mc) (hrs : rm.slots = ms) (hz : Cond.declares ⟨owner, x.name, x.desc⟩ ∈ lw_tbl) (hd : owner ≠ "java/lang/invoke/MethodHandle" ∧ owner ≠ "java/lang/invoke/VarHandle" ∧ (parseMethodDescriptor x.desc).map (fun d => d.parameters.length) = some nA)
    (hR : rm.frames + 1 ≤ R0.frames ∧ 8 + (maxL + 11) + rm.locals ≤ R0.locals) (hck : ckOk ci C TT N) (hl : lay < 100) (hci : acn lay = ci) (ht : T b = lay + 1) (hn : As.length = nA) (hst : st = As.reverse ++ .ref b :: rest) (hnl : lv.length = nL) (hr : (rest.map fun v => v.category).sum ≤ 8) (d : decode cc pc = .ok (.invokevirtual idx, 3)) (hf : k + mc ≤ R0.cells ∧ n + ms ≤ R0.slots) : gRun X k n z T L V P pc lv st rest mc ms (Qc (Value.ref b :: As).toArray) := by
  intro H locs ls hw hS h
  rw [← hRm] at hR hf
  exact va_runU (As := As) (rest := rest) ⟨O.1, O.2.1, O.2.2.1, O.2.2.2.1, O.2.2.2.2.1⟩ hM (va_cwA nA O.2.2.2.2.1 hG rfl hrc hrs (O.2.2.2.2.2.1.nD hz) hd hR) ⟨fun a U g mk q => q, g_recv O hck hl hci ht hw, (g_preS O hw hS).2⟩ rfl hn (by rw [← hnl]; exact h.1) hst (lv_room hr) d hf
end RUN
abbrev xW0 (z : Nat) (T L : Nat → Nat) (V : w_V) (P : w_P) : Unit → w_W := fun _ => (z, T, L, V, P)
abbrev xW1 (z : Nat) (T L : Nat → Nat) (P : w_P) : w_V → w_W := fun V => (z, T, L, V, P)
abbrev xW2 (z : Nat) (T L : Nat → Nat) : w_V × w_P → w_W := fun u => (z, T, L, u.1, u.2)
theorem ck1 : ckOk 1 RX1 TX1 11 := ⟨rfl, in_X1, ⟨tyX1, tyX1_ok⟩, nmX1⟩
theorem ck2 : ckOk 2 RX2 TX2 10 := ⟨rfl, in_X2, ⟨tyX2, tyX2_ok⟩, nmX2⟩
theorem ck3 : ckOk 3 RX3 TX3 1 := ⟨rfl, in_X3, ⟨tyX3, tyX3_ok⟩, nmX3⟩
theorem ck4 : ckOk 4 RX5 TX5 8 := ⟨rfl, in_X5, ⟨tyX5, tyX5_ok⟩, nmX5⟩
theorem ck5 : ckOk 5 RX6 TX6 12 := ⟨rfl, in_X6, ⟨tyX6, tyX6_ok⟩, nmX6⟩
theorem ck6 : ckOk 6 RX7 TX7 11 := ⟨rfl, in_X7, ⟨tyX7, tyX7_ok⟩, nmX7⟩
theorem ck7 : ckOk 7 RX9 TX9 9 := ⟨rfl, in_X9, ⟨tyX9, tyX9_ok⟩, nmX9⟩
theorem ck8 : ckOk 8 RX12 TX12 1 := ⟨rfl, in_X12, ⟨tyX12, tyX12_ok⟩, nmX12⟩
theorem ck9 : ckOk 9 RX13 TX13 1 := ⟨rfl, in_X13, ⟨tyX13, tyX13_ok⟩, nmX13⟩
theorem ck10 : ckOk 10 RX14 TX14 3 := ⟨rfl, in_X14, ⟨tyX14, tyX14_ok⟩, nmX14⟩
theorem ck11 : ckOk 11 RX15 TX15 1 := ⟨rfl, in_X15, ⟨tyX15, tyX15_ok⟩, nmX15⟩
theorem ck12 : ckOk 12 RX16 TX16 3 := ⟨rfl, in_X16, ⟨tyX16, tyX16_ok⟩, nmX16⟩
theorem ck13 : ckOk 13 RX17 TX17 3 := ⟨rfl, in_X17, ⟨tyX17, tyX17_ok⟩, nmX17⟩
theorem ck14 : ckOk 14 RX18 TX18 3 := ⟨rfl, in_X18, ⟨tyX18, tyX18_ok⟩, nmX18⟩
theorem ck15 : ckOk 15 RJ2 TJ2 3 := ⟨rfl, in_J2, ⟨tyJ2, tyJ2_ok⟩, nmJ2⟩
theorem ck16 : ckOk 16 RX10 TF10 2 := ⟨rfl, lw_in (u_ws RX10 TF10 2) [1049, 1051] (by decide +kernel) (by decide +kernel), ⟨fun _ => .int, by decide +kernel⟩, by decide +kernel⟩
theorem ck17 : ckOk 17 RJ9 TJ9 4 := ⟨rfl, in_J9, ⟨tyJ9, tyJ9_ok⟩, nmJ9⟩
theorem ck18 : ckOk 18 RJ8 TJ8 4 := ⟨rfl, in_J8, ⟨tyJ8, tyJ8_ok⟩, nmJ8⟩
section RW
variable {X : Cx} {cc : ByteArray} {own : String} {nL : Nat} {k n z : Nat} {T L : Nat → Nat} {V : w_V} {P : w_P} {pc : Nat} {lv : List (Option Value)} {st rest : List Value} {a : Array Value}
theorem g_ri0 {post : Int32 → Prop} (hr : gRun X k n z T L V P pc lv st rest 0 0 (va_Qi (fun x (_ : Unit) => post x) (fun u t => wdW (cxE X) (xW0 z T L V P u) t.heap) (w_A (cxE X)) a)) (kk : ∀ (r : Int32), post r → gW X k n z T L V P (pc + 3) lv (.int r :: rest)) : gW X k n z T L V P pc lv st := g_ri hr (fun r _ w => kk r w)
theorem g_ri1 {post : Int32 → w_V → Prop} (hr : gRun X k n z T L V P pc lv st rest 0 0 (va_Qi post (fun u t => wdW (cxE X) (xW1 z T L P u) t.heap) (w_A (cxE X)) a)) (kk : ∀ (r : Int32) (V2 : w_V), post r V2 → gW X k n z T L V2 P (pc + 3) lv (.int r :: rest)) : gW X k n z T L V P pc lv st := g_ri hr (fun r u w => kk r u w)
theorem g_ri2 {post : Int32 → w_V → w_P → Prop} (hr : gRun X k n z T L V P pc lv st rest 0 0 (va_Qi (fun x (u : w_V × w_P) => post x u.1 u.2) (fun u t => wdW (cxE X) (xW2 z T L u) t.heap) (w_A (cxE X)) a)) (kk : ∀ (r : Int32) (V2 : w_V) (P2 : w_P), post r V2 P2 → gW X k n z T L V2 P2 (pc + 3) lv (.int r :: rest)) : gW X k n z T L V P pc lv st := g_ri hr (fun r u w => kk r u.1 u.2 w)
theorem g_rv0 {post : Prop} (hr : gRun X k n z T L V P pc lv st rest 0 0 (va_Qv (fun (_ : Unit) => post) (fun u t => wdW (cxE X) (xW0 z T L V P u) t.heap) (w_A (cxE X)) a)) (kk : post → gW X k n z T L V P (pc + 3) lv rest) : gW X k n z T L V P pc lv st := g_rv hr (fun _ w => kk w)
theorem g_rv1 {post : w_V → Prop} (hr : gRun X k n z T L V P pc lv st rest 0 0 (va_Qv post (fun u t => wdW (cxE X) (xW1 z T L P u) t.heap) (w_A (cxE X)) a)) (kk : ∀ (V2 : w_V), post V2 → gW X k n z T L V2 P (pc + 3) lv rest) : gW X k n z T L V P pc lv st := g_rv hr (fun u w => kk u w)
theorem g_rv2 {post : w_V → w_P → Prop} (hr : gRun X k n z T L V P pc lv st rest 0 0 (va_Qv (fun (u : w_V × w_P) => post u.1 u.2) (fun u t => wdW (cxE X) (xW2 z T L u) t.heap) (w_A (cxE X)) a)) (kk : ∀ (V2 : w_V) (P2 : w_P), post V2 P2 → gW X k n z T L V2 P2 (pc + 3) lv rest) : gW X k n z T L V P pc lv st := g_rv hr (fun u w => kk u.1 u.2 w)
/-- a reference that isn't null -/
def qN (post : Nat → Prop) : Option Nat → Prop := fun r => ∃ b, r = some b ∧ post b
theorem g_rq0 {post : Nat → Prop} (hr : gRun X k n z T L V P pc lv st rest 0 0 (va_Qq (fun x (_ : Unit) => qN post x) (fun u t => wdW (cxE X) (xW0 z T L V P u) t.heap) (w_A (cxE X)) a)) (kk : ∀ (r : Nat), post r → gW X k n z T L V P (pc + 3) lv (.ref r :: rest)) : gW X k n z T L V P pc lv st := g_rq hr (fun r _ w => by
  obtain ⟨b, rfl, w⟩ := w
  exact kk b w)
theorem g_rq1 {post : Nat → w_V → Prop} (hr : gRun X k n z T L V P pc lv st rest 0 0 (va_Qq (fun x u => qN (fun b => post b u) x) (fun u t => wdW (cxE X) (xW1 z T L P u) t.heap) (w_A (cxE X)) a)) (kk : ∀ (r : Nat) (V2 : w_V), post r V2 → gW X k n z T L V2 P (pc + 3) lv (.ref r :: rest)) : gW X k n z T L V P pc lv st := g_rq hr (fun r u w => by
  obtain ⟨b, rfl, w⟩ := w
  exact kk b u w)
theorem g_rq2 {post : Nat → w_V → w_P → Prop} (hr : gRun X k n z T L V P pc lv st rest 0 0 (va_Qq (fun x (u : w_V × w_P) => qN (fun b => post b u.1 u.2) x) (fun u t => wdW (cxE X) (xW2 z T L u) t.heap) (w_A (cxE X)) a)) (kk : ∀ (r : Nat) (V2 : w_V) (P2 : w_P), post r V2 P2 → gW X k n z T L V2 P2 (pc + 3) lv (.ref r :: rest)) : gW X k n z T L V P pc lv st := g_rq hr (fun r u w => by
  obtain ⟨b, rfl, w⟩ := w
  exact kk b u.1 u.2 w)
end RW
/-- a judge of any kind -/
def jT (T : Nat → Nat) (b : Nat) : Prop := T b = 13 ∨ T b = 14 ∨ T b = 15
section JR
variable {X : Cx} {cc : ByteArray} {own : String} {nL : Nat} {ret : Option FieldType} {k n z : Nat} {T L : Nat → Nat} {V : w_V} {P : w_P} {pc : Nat} {lv : List (Option Value)} {st rest : List Value}
theorem gj_getI (O : Okc X cc own nL ret) {j idx a : Nat} (hj : j = 0 ∨ j = 1) (ht : jT T a) (q : Cond.fieldLink own idx (TX16 j).1 (TX16 j).2.1 (TX16 j).2.2.1 ∈ lw_all) (d : decode cc pc = .ok (.getfield idx, 3)) (kk : gW X k n z T L V P (pc + 3) lv (.int (V a 0 j) :: st)) : gW X k n z T L V P pc lv (.ref a :: st) := by
  rcases hj with rfl | rfl <;> rcases ht with h | h | h
  · exact gx_getI (lay := 12) O ck12 (by decide) rfl rfl (by decide) h q d kk
  · exact gx_getI (lay := 13) O ck13 (by decide) rfl rfl (by decide) h q d kk
  · exact gx_getI (lay := 14) O ck14 (by decide) rfl rfl (by decide) h q d kk
  · exact gx_getI (lay := 12) O ck12 (by decide) rfl rfl (by decide) h q d kk
  · exact gx_getI (lay := 13) O ck13 (by decide) rfl rfl (by decide) h q d kk
  · exact gx_getI (lay := 14) O ck14 (by decide) rfl rfl (by decide) h q d kk
theorem gj_getR (O : Okc X cc own nL ret) {idx a b : Nat} (hP : P a 2 = some b) (ht : jT T a) (q : Cond.fieldLink own idx (TX16 2).1 (TX16 2).2.1 (TX16 2).2.2.1 ∈ lw_all) (d : decode cc pc = .ok (.getfield idx, 3)) (kk : gW X k n z T L V P (pc + 3) lv (.ref b :: st)) : gW X k n z T L V P pc lv (.ref a :: st) := by
  rcases ht with h | h | h
  · exact gx_getR (lay := 12) O ck12 (by decide) rfl rfl hP (by decide) h q d kk
  · exact gx_getR (lay := 13) O ck13 (by decide) rfl rfl hP (by decide) h q d kk
  · exact gx_getR (lay := 14) O ck14 (by decide) rfl rfl hP (by decide) h q d kk
theorem gj_cast (O : Okc X cc own nL ret) {a idx : Nat} (ht : jT T a) (q : Cond.classLink own idx RX16 ∈ lw_all) (d : decode cc pc = .ok (.checkcast idx, 3)) (kk : gW X k n z T L V P (pc + 3) lv (.ref a :: st)) : gW X k n z T L V P pc lv (.ref a :: st) := by
  rcases ht with h | h | h
  · exact gx_castE (lay := 12) O ck12 (by decide) rfl h q d kk
  · exact gx_cast (lay := 13) O ck13 (by decide) rfl h q q2345 d kk
  · exact gx_cast (lay := 14) O ck14 (by decide) rfl h q q2346 d kk
end JR
abbrev xMi0 (l : Launch) (y : MethodName) (b : ByteArray) (nL : Nat) (ret : Option FieldType) (rm : Room) (E : w_E) (z : Nat) (T L : Nat → Nat) (V : w_V) (P : w_P) (av : List Value) (post : Int32 → Prop) : Prop := gMi l y (ws_ y b nL ret) rm 0 0 E av (z, T, L, V, P) (xW0 z T L V P) (fun x (_ : Unit) => post x)
/-- an expression of the law -/
def eT (T : Nat → Nat) (b : Nat) : Prop := T b = 9 ∨ T b = 10 ∨ T b = 11 ∨ T b = 12
theorem g_disp3 {X : Cx} {k n z : Nat} {T L : Nat → Nat} {V : w_V} {P : w_P} {pc : Nat} {lv : List (Option Value)} {st rest : List Value} {mc ms b : Nat} {Qa : State → Outcome → State → Prop} (hj : jT T b) (h1 : T b = 13 → gRun X k n z T L V P pc lv st rest mc ms Qa) (h2 : T b = 14 → gRun X k n z T L V P pc lv st rest mc ms Qa) (h3 : T b = 15 → gRun X k n z T L V P pc lv st rest mc ms Qa) : gRun X k n z T L V P pc lv st rest mc ms Qa := by
  rcases hj with h | h | h
  · exact h1 h
  · exact h2 h
  · exact h3 h
theorem g_disp4 {X : Cx} {k n z : Nat} {T L : Nat → Nat} {V : w_V} {P : w_P} {pc : Nat} {lv : List (Option Value)} {st rest : List Value} {mc ms b : Nat} {Qa : State → Outcome → State → Prop} (hj : eT T b) (h1 : T b = 9 → gRun X k n z T L V P pc lv st rest mc ms Qa) (h2 : T b = 10 → gRun X k n z T L V P pc lv st rest mc ms Qa) (h3 : T b = 11 → gRun X k n z T L V P pc lv st rest mc ms Qa) (h4 : T b = 12 → gRun X k n z T L V P pc lv st rest mc ms Qa) : gRun X k n z T L V P pc lv st rest mc ms Qa := by
  rcases hj with h | h | h | h
  · exact h1 h
  · exact h2 h
  · exact h3 h
  · exact h4 h
section NX
variable {X : Cx} {cc : ByteArray} {own : String} {nL : Nat} {ret : Option FieldType} {k n z : Nat} {T L : Nat → Nat} {V : w_V} {P : w_P} {pc : Nat} {lv : List (Option Value)} {st : List Value} {R0 : Room}
theorem g_nV {V1 : w_V} {R : w_V → Prop} (w : ∀ V2 : w_V, V2 = V1 → R V2) (kk : ∀ V2 : w_V, R V2 → V2 = V1 → gW X k n z T L V2 P pc lv st) : gW X k n z T L V1 P pc lv st := kk V1 (w V1 rfl) rfl
theorem g_nP {P1 : w_P} {R : w_P → Prop} (w : ∀ P2 : w_P, P2 = P1 → R P2) (kk : ∀ P2 : w_P, R P2 → P2 = P1 → gW X k n z T L V P2 pc lv st) : gW X k n z T L V P1 pc lv st := kk P1 (w P1 rfl) rfl
theorem g_null (O : Okc X cc own nL ret) (d : decode cc pc = .ok (.aconst_null, 1)) (kk : gW X k n z T L V P (pc + 1) lv (.null :: st)) : gW X k n z T L V P pc lv st := fun H locs ls hw hS h => lv_null O.1 O.2.1 d (kk H locs ls hw hS h)
theorem g_aloadN (O : Okc X cc own nL ret) {i : Nat} (d : decode cc pc = .ok (.aload i, 2)) (hl : lv[i]? = some (some .null)) (kk : gW X k n z T L V P (pc + 2) lv (.null :: st)) : gW X k n z T L V P pc lv st := fun H locs ls hw hS h => lv_aloadN O.1 O.2.1 d (lvp_at h hl) (kk H locs ls hw hS h)
theorem g_aload_nN (O : Okc X cc own nL ret) {j : Fin 4} (d : decode cc pc = .ok (.aload_n j, 1)) (hl : lv[(j : Nat)]? = some (some .null)) (kk : gW X k n z T L V P (pc + 1) lv (.null :: st)) : gW X k n z T L V P pc lv st := fun H locs ls hw hS h => lv_aload_nN O.1 O.2.1 d rfl (lvp_at h hl) (kk H locs ls hw hS h)
theorem gx_ifnonnull (O : Okc X cc own nL ret) {r : Option Nat} {off : Int} {tgt : Nat} (d : decode cc pc = .ok (.ifnonnull off, 3)) (ht : (pc : Int) + off = (tgt : Int)) (kn : r = none → gW X k n z T L V P (pc + 3) lv st) (ko : ∀ b, r = some b → gW X k n z T L V P tgt lv st) : gW X k n z T L V P pc lv (va_rf r :: st) := by
  cases r with
  | none => exact fun H locs ls hw hS h => lv_ifnonnullN O.1 O.2.1 d (kn rfl H locs ls hw hS h)
  | some b => exact fun H locs ls hw hS h => lv_ifnonnull O.1 O.2.1 d ht (ko b rfl H locs ls hw hS h)
theorem gx_ifnull (O : Okc X cc own nL ret) {r : Option Nat} {off : Int} {tgt : Nat} (d : decode cc pc = .ok (.ifnull off, 3)) (ht : (pc : Int) + off = (tgt : Int)) (kn : r = none → gW X k n z T L V P tgt lv st) (ko : ∀ b, r = some b → gW X k n z T L V P (pc + 3) lv st) : gW X k n z T L V P pc lv (va_rf r :: st) := by
  cases r with
  | none => exact fun H locs ls hw hS h => lv_ifnullN O.1 O.2.1 d ht (kn rfl H locs ls hw hS h)
  | some b => exact fun H locs ls hw hS h => lv_ifnull O.1 O.2.1 d (ko b rfl H locs ls hw hS h)
end NX
/-- constants at any state of a run -/
theorem kz_O {E : w_E} {s : State} {C : String} {b : Nat} (hk : kenv E s) (h : va_O C b (w_A E) E.1 E.1.heap) : va_O C b (w_A E) s s.heap := va_O.kept (va_O.moved hk.2.1.alike h) (fun a h1 _ => hk.2.2.2 a h1)
theorem kz_OF {E : w_E} {s : State} {o n d : String} {v : Value} {b : Nat} (hk : kenv E s) (h : va_OF o n d v b (w_A E) E.1 E.1.heap) : va_OF o n d v b (w_A E) s s.heap := va_OF.kept (va_OF.moved hk.2.1.alike h) (fun a h1 _ => hk.2.2.2 a h1)
theorem kz_T {E : w_E} {s : State} {ty : FieldType} {t N : Nat} {f : Nat → Value} (hk : kenv E s) (h : va_T ty t N f (w_A E) E.1 E.1.heap) : va_T ty t N f (w_A E) s s.heap := va_T.kept (va_T.moved hk.2.1.alike h) (fun a h1 _ => hk.2.2.2 a h1)
theorem kz_recv {E : w_E} {s : State} {H : Heap} {locs : List Loc} {C : String} {b : Nat} (hk : kenv E s) (hS : va_S (w_A E) s.heap H locs) (h : va_O C b (w_A E) E.1 E.1.heap) : ∃ cell : Cell, H[b]? = some cell ∧ cell.vm.isStatics = false ∧ s.vm.findClass C = some cell.cls := by
  obtain ⟨cell, h1, h2, h3, h4⟩ := kz_O hk h
  exact ⟨cell, by rw [hS.2.1 b (Array.getElem?_eq_some_iff.mp h1).1 h4]; exact h1, h2, h3⟩
/-- a constant text's bytes, at v -/
def cArr (E : w_E) (v : Nat) (tx : List Nat) : Prop := va_T .byte v tx.length (fun i => .int (nI (tx.getD i 0))) (w_A E) E.1 E.1.heap ∧ tx.length < 1000
section STR
variable {X : Cx} {cc : ByteArray} {own : String} {nL : Nat} {ret0 : Option FieldType} {k n z : Nat} {T L : Nat → Nat} {V : w_V} {P : w_P} {pc : Nat} {lv : List (Option Value)} {st rest : List Value} {R0 : Room} {mc ms : Nat}
theorem gs_compact (O : Okc X cc own nL ret0) {idx : Nat} (q : Cond.fieldLink own idx "java/lang/String" "COMPACT_STRINGS" "Z" ∈ lw_all) (d : decode cc pc = .ok (.getstatic idx, 3)) (kk : gW X k n z T L V P (pc + 3) lv (.int 1 :: st)) : gW X k n z T L V P pc lv st := by
  intro H locs ls hw hS h
  have h0 := O.2.2.2.2.2.1
  have hZ : va_Z "java/lang/String" "COMPACT_STRINGS" "Z" (.int 1) (w_A (cxE X)) (cxs X) (cxs X).heap := va_Z.kept (va_Z.moved h0.2.1.alike h0.1.2.2.2.2.2.2.1) (fun a h1 h2 => h0.2.2.2 a h1)
  exact va_gets O.1 O.2.1 hZ hS O.2.2.2.1 (O.2.2.2.2.1 _ q) (fun _ x => x) d (kk H locs ls hw hS h)
theorem gs_coder (O : Okc X cc own nL ret0) {a idx : Nat} {tx : List Nat} (hs : isStr (cxE X) a tx) (q : Cond.fieldLink own idx "java/lang/String" "coder" "B" ∈ lw_all) (d : decode cc pc = .ok (.getfield idx, 3)) (kk : gW X k n z T L V P (pc + 3) lv (.int 0 :: st)) : gW X k n z T L V P pc lv (.ref a :: st) :=
  fun H locs ls hw hS h => vk_getf O.1 O.2.1 (kz_OF O.2.2.2.2.2.1 hs.2.1) hS O.2.2.2.1 (O.2.2.2.2.1 _ q) (fun _ x => x) d (kk H locs ls hw hS h)
theorem gs_value (O : Okc X cc own nL ret0) {a idx : Nat} {tx : List Nat} (hs : isStr (cxE X) a tx) (q : Cond.fieldLink own idx "java/lang/String" "value" "[B" ∈ lw_all) (d : decode cc pc = .ok (.getfield idx, 3)) (kk : ∀ v, cArr (cxE X) v tx → gW X k n z T L V P (pc + 3) lv (.ref v :: st)) : gW X k n z T L V P pc lv (.ref a :: st) := by
  obtain ⟨h1, h2, v, h3, h4, h5, h6⟩ := hs
  exact fun H locs ls hw hS h => vk_getf O.1 O.2.1 (kz_OF O.2.2.2.2.2.1 h3) hS O.2.2.2.1 (O.2.2.2.2.1 _ q) (fun _ x => x) d (kk v ⟨h4, h5⟩ H locs ls hw hS h)
theorem gs_alen (O : Okc X cc own nL ret0) {v : Nat} {tx : List Nat} (hs : cArr (cxE X) v tx) (d : decode cc pc = .ok (.arraylength, 1)) (kk : gW X k n z T L V P (pc + 1) lv (.int (nI tx.length) :: st)) : gW X k n z T L V P pc lv (.ref v :: st) :=
  fun H locs ls hw hS h => va_tlen O.1 O.2.1 (kz_T O.2.2.2.2.2.1 hs.1) hS rfl d (kk H locs ls hw hS h)
theorem gs_bald (O : Okc X cc own nL ret0) {v i : Nat} {x : Int32} {tx : List Nat} (hs : cArr (cxE X) v tx) (hi : i < tx.length) (e : x = nI i) (d : decode cc pc = .ok (.baload, 1)) (kk : gW X k n z T L V P (pc + 1) lv (.int (nI (tx.getD i 0)) :: st)) : gW X k n z T L V P pc lv (.int x :: .ref v :: st) := by
  intro H locs ls hw hS h
  subst e
  have hl : tx.length < 2147483648 := Nat.lt_trans hs.2 (by decide)
  exact va_tb O.1 O.2.1 (kz_T O.2.2.2.2.2.1 hs.1) hS (vp_in_nI hi hl) (by rw [nI_clamp (Nat.lt_trans hi hl)]) d (kk H locs ls hw hS h)
theorem gs_inst (O : Okc X cc own nL ret0) {a idx : Nat} {tx : List Nat} (hs : isStr (cxE X) a tx) (q : Cond.classLink own idx "java/lang/String" ∈ lw_all) (d : decode cc pc = .ok (.instanceof idx, 3)) (kk : gW X k n z T L V P (pc + 3) lv (.int 1 :: st)) : gW X k n z T L V P pc lv (.ref a :: st) :=
  fun H locs ls hw hS h => va_instE O.1 O.2.1 O.2.2.2.1 (O.2.2.2.2.1 _ q) (kz_recv O.2.2.2.2.2.1 hS hs.1) d (kk H locs ls hw hS h)
theorem gs_cast (O : Okc X cc own nL ret0) {a idx : Nat} {tx : List Nat} (hs : isStr (cxE X) a tx) (q : Cond.classLink own idx "java/lang/String" ∈ lw_all) (d : decode cc pc = .ok (.checkcast idx, 3)) (kk : gW X k n z T L V P (pc + 3) lv (.ref a :: st)) : gW X k n z T L V P pc lv (.ref a :: st) :=
  fun H locs ls hw hS h => va_castE O.1 O.2.1 O.2.2.2.1 (O.2.2.2.2.1 _ q) (kz_recv O.2.2.2.2.2.1 hS hs.1) d (kk H locs ls hw hS h)
theorem gx_ldc (O : Okc X cc own nL ret0) {i j : Nat} {tx : List Nat} {s : String} (hm : litL[i]? = some (own, j, s)) (he : s.toList.map Char.toNat = tx) (d : decode cc pc = .ok (.ldc j, 2)) (kk : ∀ a, isStr (cxE X) a tx → T a = 0 → gW X k n z T L V P (pc + 2) lv (.ref a :: st)) : gW X k n z T L V P pc lv st := by
  intro H locs ls hw hS h
  subst he
  obtain ⟨a, h1, h2⟩ := O.2.2.2.2.2.1.1.2.2.2.2.2.2.2.1 i _ hm
  have hT0 : T a = 0 := hw.2.2.2.1 a (by obtain ⟨c0, c1, -, -, c4⟩ := h2.1; exact (Array.getElem?_eq_some_iff.mp c1).1)
  exact va_ldcS O.1 O.2.1 O.2.2.2.1 (vk_R.warm O.2.2.2.2.2.1.2.1 h1) d (kk a h2 hT0 H locs ls hw hS h)
theorem gx_ldcw (O : Okc X cc own nL ret0) {i j : Nat} {tx : List Nat} {s : String} (hm : litL[i]? = some (own, j, s)) (he : s.toList.map Char.toNat = tx) (d : decode cc pc = .ok (.ldc_w j, 3)) (kk : ∀ a, isStr (cxE X) a tx → T a = 0 → gW X k n z T L V P (pc + 3) lv (.ref a :: st)) : gW X k n z T L V P pc lv st := by
  intro H locs ls hw hS h
  subst he
  obtain ⟨a, h1, h2⟩ := O.2.2.2.2.2.1.1.2.2.2.2.2.2.2.1 i _ hm
  have hT0 : T a = 0 := hw.2.2.2.1 a (by obtain ⟨c0, c1, -, -, c4⟩ := h2.1; exact (Array.getElem?_eq_some_iff.mp c1).1)
  have hZ := vk_R.warm O.2.2.2.2.2.1.2.1 h1
  intro T0 hT X0
  obtain ⟨t, a1, b1⟩ := kk a h2 hT0 H locs ls hw hS h T0 hT X0
  exact ⟨t, X0.ldcStringW O.1 O.2.2.2.1 (text := s) (a := a) hZ.1 hZ.2 (g := F0 (cxm X) pc ls st) rfl (by rw [O.2.1]; exact d) t a1, b1⟩
variable {ret : Option FieldType} {y : MethodName} {bytes : ByteArray} {idx maxL nA b : Nat} {C : String} {rm : Room} {As : List Value} {Qc : Array Value → State → Outcome → State → Prop}
/-- an own method of a constant object's class -/
theorem gr_Vk (O : Okc X cc own nL ret0) (hRm : cxR X = R0) (hM : Met (cxL X) y (ws_ y bytes maxL ret) rm (va_Pc (.ref b :: As) (fun U => kenv (cxE X) U ∧ wdW (cxE X) (z, T, L, V, P) U.heap)) Qc mc ms (w_A (cxE X)))
    (hG : GoodIn lw_all (wsV own idx C y (ws_ y bytes maxL ret))) (hrc : rm.cells = mc) (hrs : rm.slots = ms) (hd : y.cls = C ∧ y.cls ≠ "java/lang/invoke/MethodHandle" ∧ y.cls ≠ "java/lang/invoke/VarHandle" ∧ (parseMethodDescriptor y.desc).map (fun d => d.parameters.length) = some nA)
    (hR : rm.frames + 1 ≤ R0.frames ∧ 8 + (maxL + 11) + rm.locals ≤ R0.locals) (hb : va_O C b (w_A (cxE X)) (cxE X).1 (cxE X).1.heap) (hn : As.length = nA) (hst : st = As.reverse ++ .ref b :: rest) (hnl : lv.length = nL) (hr : (rest.map fun v => v.category).sum ≤ 8) (d : decode cc pc = .ok (.invokevirtual idx, 3)) (hf : k + mc ≤ R0.cells ∧ n + ms ≤ R0.slots) : gRun X k n z T L V P pc lv st rest mc ms (Qc (Value.ref b :: As).toArray) := by
  intro H locs ls hw hS h
  rw [← hRm] at hR hf
  exact va_runV (As := As) (rest := rest) ⟨O.1, O.2.1, O.2.2.1, O.2.2.2.1, O.2.2.2.2.1⟩ hM (cwV nA O.2.2.2.2.1 hG rfl hrc hrs hd hR) ⟨fun a U g mk q => q, kz_recv O.2.2.2.2.2.1 hS hb, (g_preS O hw hS).2⟩ rfl hn (by rw [← hnl]; exact h.1) hst (lv_room hr) d hf
end STR
/-- Enum.ordinal, of a constant -/
theorem k_ord (l : Launch) (hfl : l.flags = flags0) (E : w_E) (z : Nat) (T L : Nat → Nat) (V : w_V) (P : w_P) {i : Nat} (hi : i < 5) : gMi l yJ17_ordinal (ws_ yJ17_ordinal cJ17_ordinal 1 (some .int)) { frames := 1, cells := 0, slots := 0, locals := 12 } 0 0 E [.ref (E.2.2.2.2 i)] (z, T, L, V, P) (xW0 z T L V P) (fun x (_ : Unit) => x = nI i) := by
  refine g_start (S := Unit) hfl (by decide +kernel) rfl [some (.ref (E.2.2.2.2 i))] rfl (fun _ h => h) (Nat.le_of_ble_eq_true rfl) (fun X hl hRm hEe O hQ => ?_)
  subst hl
  subst hEe
  refine g_aload_n O dJ17_ordinal_0 rfl ?_
  have h1 := O.2.2.2.2.2.1.1.2.2.2.2.2.2.2.2.2.1 i hi
  refine fun H locs ls hw hS h => vk_getf O.1 O.2.1 (kz_OF O.2.2.2.2.2.1 h1.2) hS O.2.2.2.1 (O.2.2.2.2.1 _ q2381) (fun _ x => x) dJ17_ordinal_1 ?_
  exact g_iret (f := xW0 z T L V P) (u := ()) O hQ rfl rfl rfl dJ17_ordinal_4 H locs ls hw hS h
section ORD
variable {X : Cx} {cc : ByteArray} {own : String} {nL : Nat} {ret : Option FieldType} {k n z : Nat} {T L : Nat → Nat} {V : w_V} {P : w_P} {pc : Nat} {lv : List (Option Value)} {st : List Value} {R0 : Room}
theorem gx_ord (O : Okc X cc own nL ret) {i b idx : Nat} (hRm : cxR X = R0) (hi : i < 5) (e : b = (cxE X).2.2.2.2 i) (q : Cond.methodLink own idx ⟨"ApartBench$Value", "ordinal", "()I"⟩ ∈ lw_all) (hf : 2 ≤ R0.frames) (hl : 50 ≤ R0.locals) (hkf : k + 0 ≤ R0.cells ∧ n + 0 ≤ R0.slots) (hnl : lv.length = nL) (hr : (st.map fun v => v.category).sum ≤ 8) (d : decode cc pc = .ok (.invokevirtual idx, 3)) (kk : gW X k n z T L V P (pc + 3) lv (.int (nI i) :: st)) : gW X k n z T L V P pc lv (.ref b :: st) := by
  subst e
  have hr0 : gRun X k n z T L V P pc lv (.ref ((cxE X).2.2.2.2 i) :: st) st 0 0 (va_Qi (fun x (_ : Unit) => x = nI i) (fun u t => wdW (cxE X) (xW0 z T L V P u) t.heap) (w_A (cxE X)) (Value.ref ((cxE X).2.2.2.2 i) :: []).toArray) := by
    intro H locs ls hw hS h
    rw [← hRm] at hkf hf hl
    exact va_runU (C := "ApartBench$Value") (As := []) (rest := st) ⟨O.1, O.2.1, O.2.2.1, O.2.2.2.1, O.2.2.2.2.1⟩ (k_ord _ O.2.2.2.2.2.2.2.2 (cxE X) z T L V P hi) (va_cwA 0 O.2.2.2.2.1 (lw_U (x := ⟨"ApartBench$Value", "ordinal", "()I"⟩) (y := yJ17_ordinal) q q1353 q1355 q1356 q128 q1357) rfl rfl rfl (O.2.2.2.2.2.1.nD q1354) ⟨by decide, by decide, by decide +kernel⟩ ⟨by show 1 + 1 ≤ _; omega, by show 8 + (1 + 11) + 12 ≤ _; omega⟩) ⟨fun a U g mk q => q, kz_recv O.2.2.2.2.2.1 hS (O.2.2.2.2.2.1.1.2.2.2.2.2.2.2.2.2.1 i hi).1, (g_preS O hw hS).2⟩ rfl rfl (by rw [← hnl]; exact h.1) rfl (lv_room hr) d hkf
  exact g_ri0 hr0 (fun r hr => by rw [hr]; exact kk)
end ORD
/-- a private method of the class above: selected as it is named -/
theorem selS {C : String} {y x0 y0 : MethodName} {s : State} {args : Array Value} {n : Nat} (hy : y.cls ≠ "java/lang/invoke/MethodHandle" ∧ y.cls ≠ "java/lang/invoke/VarHandle")
    (hins : (Cond.instantiable C n).before args s = true) (hpriv : (Cond.privateMethod y).before args s = true) (hinst : (Cond.instanceMethod y).before args s = true) (hs0 : (Cond.selects C x0 y0).before args s = true) (h0 : y0.cls = y.cls) :
    (Cond.selects C y y).before args s = true := by
  obtain ⟨c, k, hc, hk, -, hniab, -, -⟩ := Cond.instantiable_spec hins
  have hni : k.isInterface = false := (Bool.or_eq_false_iff.mp hniab).1
  obtain ⟨mk, methM, hnamed, hmethM, -, -⟩ := Cond.instanceMethod_spec hinst
  have hfound : s.methodFound? y.cls y.name y.desc = some mk := State.methodFound?_of_named hnamed hy
  have hsel : selectMethod {} s.vm c mk = .method mk := selectMethod_private hmethM (Cond.privateMethod_at hpriv mk methM hnamed hmethM)
  obtain ⟨c1, r1, m1, g1, g2, g3, g4, k1, g5, g6⟩ := Cond.selects_spec (show (Cond.selects C x0 y0).holds args s none s [] = true from hs0)
  have e1 : m1.cls = mk.cls := by
    have a1 := findClass_of_methodNamed g3
    have a2 := findClass_of_methodNamed hnamed
    rw [h0] at a1
    exact Option.some.inj (a1.symm.trans a2)
  rw [e1] at g5
  simp only [Cond.before, Cond.holds, Cond.value, hc, hfound, hnamed, hsel, hk]
  simp [g5, g6]
section PRV
variable {X : Cx} {cc : ByteArray} {own : String} {nL : Nat} {ret0 : Option FieldType} {k n z : Nat} {T L : Nat → Nat} {V : w_V} {P : w_P} {pc : Nat} {lv : List (Option Value)} {st rest : List Value} {R0 : Room} {mc ms : Nat}
variable {ret : Option FieldType} {y x0 y0 : MethodName} {bytes : ByteArray} {idx maxL nA b ci lay N N0 : Nat} {C : String} {TT : u_T} {rm : Room} {As : List Value} {Qc : Array Value → State → Outcome → State → Prop}
theorem va_CUp (O : Okc X cc own nL ret0) (hRm : cxR X = R0) (hG : GoodIn lw_all (ws_ y bytes maxL ret)) (q : Cond.methodLink own idx y ∈ lw_all) (q1 : Cond.sameMethod y.cls y.cls y.name y.desc ∈ lw_all) (q2 : Cond.instanceMethod y ∈ lw_all) (q3 : Cond.initialized y.cls ∈ lw_all) (q4 : Cond.code y bytes maxL ret ∈ lw_all) (q5 : Cond.instantiable C N0 ∈ lw_all) (q6 : Cond.privateMethod y ∈ lw_tbl) (q7 : Cond.selects C x0 y0 ∈ lw_all) (h0 : y0.cls = y.cls) (hrc : rm.cells = mc) (hrs : rm.slots = ms) (hd : y.cls ≠ "java/lang/invoke/MethodHandle" ∧ y.cls ≠ "java/lang/invoke/VarHandle" ∧ (parseMethodDescriptor y.desc).map (fun d => d.parameters.length) = some nA) (hR : rm.frames + 1 ≤ R0.frames ∧ 8 + (maxL + 11) + rm.locals ≤ R0.locals) : va_CU (cxR X) (cxs X) (cxa X) own C y.cls idx y y bytes maxL ret (ws_ y bytes maxL ret) rm mc ms nA := by
  have hke := O.2.2.2.2.2.1
  have hp : (Cond.privateMethod y).before (cxa X) (cxs X) = true := va_tabs rfl (rfl : ((cxE X).1.setVm (cxs X).vm).vm = (cxs X).vm) ((Cond.privateMethod_setVm (args := (cxE X).2.1) hke.2.1.alike y).trans (hke.1.2.1 _ q6))
  refine ⟨⟨hrc, hrs, by rw [hRm]; exact hR.1, by rw [hRm]; exact hR.2, pay_in O.2.2.2.2.1 hG, List.mem_cons_self⟩, O.2.2.2.2.1 _ q4, O.2.2.2.2.1 _ q3, ⟨hd.1, hd.2.1⟩, fun sig h => ?_, O.2.2.2.2.1 _ q, O.2.2.2.2.1 _ q1, va_Decl.of (O.2.2.2.2.1 _ q2) (O.2.2.2.2.1 _ q4), selS ⟨hd.1, hd.2.1⟩ (O.2.2.2.2.1 _ q5) hp (O.2.2.2.2.1 _ q2) (O.2.2.2.2.1 _ q7) h0, O.2.2.2.2.1 _ q2⟩
  have h2 := hd.2.2
  rw [h] at h2
  exact (Option.some.inj h2).symm
theorem gr_P (O : Okc X cc own nL ret0) (hRm : cxR X = R0) (hM : Met (cxL X) y (ws_ y bytes maxL ret) rm (va_Pc (.ref b :: As) (fun U => kenv (cxE X) U ∧ wdW (cxE X) (z, T, L, V, P) U.heap)) Qc mc ms (w_A (cxE X)))
    (hG : GoodIn lw_all (ws_ y bytes maxL ret)) (q : Cond.methodLink own idx y ∈ lw_all) (q1 : Cond.sameMethod y.cls y.cls y.name y.desc ∈ lw_all) (q2 : Cond.instanceMethod y ∈ lw_all) (q3 : Cond.initialized y.cls ∈ lw_all) (q4 : Cond.code y bytes maxL ret ∈ lw_all) (q5 : Cond.instantiable C N0 ∈ lw_all) (q6 : Cond.privateMethod y ∈ lw_tbl) (q7 : Cond.selects C x0 y0 ∈ lw_all) (h0 : y0.cls = y.cls) (hrc : rm.cells = mc) (hrs : rm.slots = ms) (hd : y.cls ≠ "java/lang/invoke/MethodHandle" ∧ y.cls ≠ "java/lang/invoke/VarHandle" ∧ (parseMethodDescriptor y.desc).map (fun d => d.parameters.length) = some nA)
    (hR : rm.frames + 1 ≤ R0.frames ∧ 8 + (maxL + 11) + rm.locals ≤ R0.locals) (hck : ckOk ci C TT N) (hl : lay < 100) (hci : acn lay = ci) (ht : T b = lay + 1) (hn : As.length = nA) (hst : st = As.reverse ++ .ref b :: rest) (hnl : lv.length = nL) (hr : (rest.map fun v => v.category).sum ≤ 8) (d : decode cc pc = .ok (.invokevirtual idx, 3)) (hf : k + mc ≤ R0.cells ∧ n + ms ≤ R0.slots) : gRun X k n z T L V P pc lv st rest mc ms (Qc (Value.ref b :: As).toArray) := by
  intro H locs ls hw hS h
  have hcu := va_CUp O hRm hG q q1 q2 q3 q4 q5 q6 q7 h0 hrc hrs hd hR
  rw [← hRm] at hf
  exact va_runU (As := As) (rest := rest) ⟨O.1, O.2.1, O.2.2.1, O.2.2.2.1, O.2.2.2.2.1⟩ hM hcu ⟨fun a U g mk q => q, g_recv O hck hl hci ht hw, (g_preS O hw hS).2⟩ rfl hn (by rw [← hnl]; exact h.1) hst (lv_room hr) d hf
end PRV
/-- a static that is a reference or null, nobody knows which -/
theorem gx_getstQ {X : Cx} {cc : ByteArray} {own : String} {nL : Nat} {ret : Option FieldType} {k n z : Nat} {T L : Nat → Nat} {V : w_V} {P : w_P} {pc : Nat} {lv : List (Option Value)} {st : List Value} (O : Okc X cc own nL ret) {idx : Nat} {C nm ds : String} (hl : Cond.laysStatic C nm ds ∈ lw_tbl) (hi : Cond.initialized C ∈ lw_tbl) (hf : Cond.isRef (.static C nm ds) ∈ flatC (Jvm.Cond.and given_1 narrow_1)) (hlk : Cond.fieldLink own idx C nm ds ∈ lw_all) (d : decode cc pc = .ok (.getstatic idx, 3)) (kk : ∀ q : Option Nat, gW X k n z T L V P (pc + 3) lv (va_rf q :: st)) : gW X k n z T L V P pc lv st := by
  intro H locs ls hw hS h
  have h0 := O.2.2.2.2.2.1
  have hz : va_Zq C nm ds (w_A (cxE X)) (cxE X).1 (cxE X).1.heap := va_Zqof (h0.1.2.1 _ hl) (h0.1.2.1 _ hi) (flat_of_before _ h0.1.1 _ hf) (fun a ha => Nat.not_le.mpr ha)
  have hZ : va_Zq C nm ds (w_A (cxE X)) (cxs X) (cxs X).heap := va_Zq.kept (va_Zq.moved h0.2.1.alike hz) (fun a h1 h2 => h0.2.2.2 a h1)
  rcases hZ with hZ | ⟨t, hZ⟩
  · exact va_gets O.1 O.2.1 hZ hS O.2.2.2.1 (O.2.2.2.2.1 _ hlk) (fun _ x => x) d (kk none H locs ls hw hS h)
  · exact va_gets O.1 O.2.1 hZ hS O.2.2.2.1 (O.2.2.2.2.1 _ hlk) (fun _ x => x) d (kk (some t) H locs ls hw hS h)
theorem sioobe_in : Cond.isRef (.static "jdk/internal/util/Preconditions" "SIOOBE_FORMATTER" "Ljava/util/function/BiFunction;") ∈ flatC (Jvm.Cond.and given_1 narrow_1) := by decide +kernel
