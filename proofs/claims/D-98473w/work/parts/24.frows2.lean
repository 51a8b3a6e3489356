/-! ROWS: a private constructor of a nest mate; Expr's constructor -/
set_option maxRecDepth 100000
section NI
variable {X : Cx} {cc : ByteArray} {own : String} {nL : Nat} {ret0 : Option FieldType} {k n z : Nat} {T L : Nat → Nat} {V : w_V} {P : w_P} {pc : Nat} {lv : List (Option Value)} {st rest : List Value} {R0 : Room}
variable {y : MethodName} {bytes : ByteArray} {idx maxL nA b mc ms : Nat} {rm : Room} {As : List Value} {Qc : Array Value → State → Outcome → State → Prop} {host : String}
theorem gr_IN (O : Okc X cc own nL ret0) (hRm : cxR X = R0) (hM : Met (cxL X) y (ws_ y bytes maxL none) rm (va_Pc (.ref b :: As) (fun U => kenv (cxE X) U ∧ wdW (cxE X) (z, T, L, V, P) U.heap)) Qc mc ms (w_A (cxE X)))
    (hG : GoodIn lw_all (ws_ y bytes maxL none)) (q : Cond.methodLinkNest own idx y host ∈ lw_tbl) (qi : Cond.instanceMethod y ∈ lw_all) (qn : Cond.initialized y.cls ∈ lw_all) (hy : y.name = "<init>") (hrc : rm.cells = mc) (hrs : rm.slots = ms) (hd : y.cls ≠ "java/lang/invoke/MethodHandle" ∧ y.cls ≠ "java/lang/invoke/VarHandle" ∧ (parseMethodDescriptor y.desc).map (fun d => d.parameters.length) = some nA)
    (hR : rm.frames + 1 ≤ R0.frames ∧ 8 + (maxL + 11) + rm.locals ≤ R0.locals) (hn : As.length = nA) (hst : st = As.reverse ++ .ref b :: rest) (hnl : lv.length = nL) (hr : (rest.map fun v => v.category).sum ≤ 8) (d : decode cc pc = .ok (.invokespecial idx, 3)) (hf : k + mc ≤ R0.cells ∧ n + ms ≤ R0.slots) : gRun X k n z T L V P pc lv st rest mc ms (Qc (Value.ref b :: As).toArray) := by
  intro H locs ls hw hS h
  rw [← hRm] at hR hf
  exact va_runIN (As := As) (rest := rest) ⟨O.1, O.2.1, O.2.2.1, O.2.2.2.1, O.2.2.2.2.1⟩ hM ⟨va_cnB nA O.2.2.2.2.1 hG rfl hrc hrs (O.2.2.2.2.2.1.nM q) (O.2.2.2.2.1 _ qn) hd hR, hy, O.2.2.2.2.1 _ qi⟩ (g_preS O hw hS) rfl hn (by rw [← hnl]; exact h.1) hst (lv_room hr) d hf
end NI
theorem kX11_init (l : Launch) (hfl : l.flags = flags0) (E : w_E) (z : Nat) (T L : Nat → Nat) (V : w_V) (P : w_P) (t : Nat) : gMv l yX11_init (ws_ yX11_init cX11_init 1 none) { frames := 2, cells := 0, slots := 0, locals := 40 } 0 0 E [.ref t] (z, T, L, V, P) (xW0 z T L V P) (fun (_ : Unit) => True) := by
  refine g_start (S := Unit) hfl (by decide +kernel) rfl [some (.ref t)] rfl (fun _ h => h) (Nat.le_of_ble_eq_true rfl) (fun X hl hRm hEe O hQ => ?_)
  subst hl
  subst hEe
  refine g_aload_n O dX11_init_0 rfl ?_
  refine gc_objInit O hRm q1109 (Nat.le_of_ble_eq_true rfl) (Nat.le_of_ble_eq_true rfl) rfl dX11_init_1 ?_
  exact g_vret (f := xW0 z T L V P) (u := ()) O hQ rfl trivial dX11_init_4
section MW
variable {X : Cx} {cc : ByteArray} {own : String} {nL : Nat} {k n z : Nat} {T L : Nat → Nat} {V : w_V} {P : w_P} {pc : Nat} {lv : List (Option Value)} {st rest : List Value} {a : Array Value} {c : Nat} {R0 : Room}
theorem g_mi {post : Int32 → Nat → (Nat → Nat) → (Nat → Nat) → w_V → w_P → Prop} (hr : gRun X k n z T L V P pc lv st rest (8 * c) (32 * c) (va_Qi (qF1 post) (wdF (cxE X)) (w_A (cxE X)) a)) (kk : ∀ (r : Int32) (z2 : Nat) (T2 L2 : Nat → Nat) (V2 : w_V) (P2 : w_P), post r z2 T2 L2 V2 P2 → gW X (k + 8 * c) (n + 32 * c) z2 T2 L2 V2 P2 (pc + 3) lv (.int r :: rest)) : gW X k n z T L V P pc lv st := g_ri (f := fun u => u) hr (fun r u w => kk r u.1 u.2.1 u.2.2.1 u.2.2.2.1 u.2.2.2.2 w)
theorem g_mv {post : Nat → (Nat → Nat) → (Nat → Nat) → w_V → w_P → Prop} (hr : gRun X k n z T L V P pc lv st rest (8 * c) (32 * c) (va_Qv (qF0 post) (wdF (cxE X)) (w_A (cxE X)) a)) (kk : ∀ (z2 : Nat) (T2 L2 : Nat → Nat) (V2 : w_V) (P2 : w_P), post z2 T2 L2 V2 P2 → gW X (k + 8 * c) (n + 32 * c) z2 T2 L2 V2 P2 (pc + 3) lv rest) : gW X k n z T L V P pc lv st := g_rv (f := fun u => u) hr (fun u w => kk u.1 u.2.1 u.2.2.1 u.2.2.2.1 u.2.2.2.2 w)
theorem g_mq {post : Nat → Nat → (Nat → Nat) → (Nat → Nat) → w_V → w_P → Prop} (hr : gRun X k n z T L V P pc lv st rest (8 * c) (32 * c) (va_Qq (qFn post) (wdF (cxE X)) (w_A (cxE X)) a)) (kk : ∀ (r z2 : Nat) (T2 L2 : Nat → Nat) (V2 : w_V) (P2 : w_P), post r z2 T2 L2 V2 P2 → gW X (k + 8 * c) (n + 32 * c) z2 T2 L2 V2 P2 (pc + 3) lv (.ref r :: rest)) : gW X k n z T L V P pc lv st := g_rq (f := fun u => u) hr (fun r u w => by
  obtain ⟨b, rfl, w⟩ := w
  exact kk b u.1 u.2.1 u.2.2.1 u.2.2.2.1 u.2.2.2.2 w)
theorem gm2_iret {ty : FieldType} {post : Int32 → Nat → (Nat → Nat) → (Nat → Nat) → w_V → w_P → Prop} {x : Int32} (O : Okc X cc own nL (some ty)) (hQ : cxMQ X (va_Qi (qF1 post) (wdF (cxE X)) (w_A (cxE X))) R0.cells R0.slots) (hm : k ≤ R0.cells ∧ n ≤ R0.slots) (hn : narrow ty (.int x) = .int x) (hp : post x z T L V P) (d : decode cc pc = .ok (.ireturn, 1)) : gW X k n z T L V P pc lv [.int x] := g_widen hm.1 hm.2 (g_iret (f := fun u => u) (u := (z, T, L, V, P)) O hQ hn rfl hp d)
theorem gm2_vret {post : Nat → (Nat → Nat) → (Nat → Nat) → w_V → w_P → Prop} (O : Okc X cc own nL none) (hQ : cxMQ X (va_Qv (qF0 post) (wdF (cxE X)) (w_A (cxE X))) R0.cells R0.slots) (hm : k ≤ R0.cells ∧ n ≤ R0.slots) (hp : post z T L V P) (d : decode cc pc = .ok (.return_, 1)) : gW X k n z T L V P pc lv [] := g_widen hm.1 hm.2 (g_vret (f := fun u => u) (u := (z, T, L, V, P)) O hQ rfl hp d)
theorem gm2_aret {ty : FieldType} {post : Nat → Nat → (Nat → Nat) → (Nat → Nat) → w_V → w_P → Prop} {r : Nat} (O : Okc X cc own nL (some ty)) (hQ : cxMQ X (va_Qq (qFn post) (wdF (cxE X)) (w_A (cxE X))) R0.cells R0.slots) (hm : k ≤ R0.cells ∧ n ≤ R0.slots) (hty : (∃ n, ty = .object n) ∨ ∃ t, ty = .array t) (hp : post r z T L V P) (d : decode cc pc = .ok (.areturn, 1)) : gW X k n z T L V P pc lv [.ref r] := g_widen hm.1 hm.2 (g_aret (f := fun u => u) (u := (z, T, L, V, P)) (r := some r) O hQ hty rfl ⟨r, rfl, hp⟩ d)
end MW
theorem g_startN {l : Launch} {y : MethodName} {cc : ByteArray} {own : String} {nL mc ms : Nat} {ret : Option FieldType} {rm : Room} {E : w_E} {av : List Value} {w : w_W} {Qc : Array Value → State → Outcome → State → Prop} (hfl : l.flags = flags0) (hy : plainName y.cls = true) (ho : y.cls = own) (lv : List (Option Value)) (hlen : lv.length = nL) (hlv : ∀ q ∈ lvp 0 lv, q ∈ lv_args 0 av) (hav : (lg_sl av).length ≤ nL)
    (body : ∀ X : Cx, cxL X = l → cxR X = rm → cxE X = E → Okc X cc own nL ret → (cxM X).name = y.name → cxMQ X Qc mc ms → gW X 0 0 w.1 w.2.1 w.2.2.1 w.2.2.2.1 w.2.2.2.2 0 lv []) : Met l y (ws_ y cc nL ret) rm (va_Pc av (fun U => kenv E U ∧ wdW E w U.heap)) Qc mc ms (w_A E) := by
  subst ho
  refine Met.ofW (cc := cc) (maxL := nL) (ret := ret) hy rfl ?_
  intro p e s m args below meth c s₁ B hml hv
  obtain ⟨rfl, hk, hw⟩ := hv
  have hts := atoms_spec (ws := ws_ y cc nL ret) B.pre
  have hts : ∀ w ∈ lw_all, w.before av.toArray s = true := fun w h => hts w (List.mem_cons_of_mem _ h)
  have hown : s.vm.findClass y.cls = some m.cls := findClass_of_methodNamed B.named
  have hlocks := B.notSynchronized
  have hnm := (name_of_methodNamed B.named B.method).1
  have hl := lv_entry av (n := nL) hav
  rw [lg_entry_eq]
  generalize (lg_sl av ++ List.replicate (nL - (lg_sl av).length) Slot.unset).toArray = ls at hl ⊢
  have hb := body (p, l, e, rm, s, m, av.toArray, below, meth, c, E, MQ below Qc av.toArray s mc ms (w_A E)) rfl rfl rfl ⟨B.exec, B.bytes, hml, hown, hts, hk, B.returns, hlocks, hfl⟩ hnm rfl
  exact hb s.heap [] ls hw va_S.rf ⟨by rw [hl.1, hlen], hl.2.1, fun q hq => hl.2.2 q (hlv q hq)⟩
section AQ
variable {X : Cx} {cc : ByteArray} {own : String} {nL : Nat} {ret : Option FieldType} {k n z : Nat} {T L : Nat → Nat} {V : w_V} {P : w_P} {pc : Nat} {lv : List (Option Value)} {st : List Value}
theorem g_aload_nq (O : Okc X cc own nL ret) {j : Fin 4} {v : Option Nat} (d : decode cc pc = .ok (.aload_n j, 1)) (hl : lv[(j : Nat)]? = some (some (va_rf v))) (kk : gW X k n z T L V P (pc + 1) lv (va_rf v :: st)) : gW X k n z T L V P pc lv st := by
  cases v with
  | none => exact g_aload_nN O d hl kk
  | some b => exact g_aload_n O d hl kk
theorem g_aloadq (O : Okc X cc own nL ret) {i : Nat} {v : Option Nat} (d : decode cc pc = .ok (.aload i, 2)) (hl : lv[i]? = some (some (va_rf v))) (kk : gW X k n z T L V P (pc + 2) lv (va_rf v :: st)) : gW X k n z T L V P pc lv st := by
  cases v with
  | none => exact g_aloadN O d hl kk
  | some b => exact g_aload O d hl kk
end AQ
