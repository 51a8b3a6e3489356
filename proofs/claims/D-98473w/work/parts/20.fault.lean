/-! turned from a starting text: EXCEPTIONS.to-paste (vx_ctorMade0): an exception's constructor that a subclass's own constructor calls first; Fault -/
set_option maxRecDepth 100000
def exAtoms (own : String) (ic : Nat) (par sub : String) (names : List String) : List Cond :=
  Bundle.throwableAtoms ++ Bundle.chain0Atoms par names ++
  [.methodLink own ic (Bundle.init0 par), .selects sub Bundle.tFill0 Bundle.tFill0, .selects sub Bundle.tFill Bundle.tFill,
   .lays sub Bundle.tN "cause" "Ljava/lang/Throwable;", .lays sub Bundle.tN "stackTrace" Bundle.steD, .lays sub Bundle.tN "suppressedExceptions" Bundle.listD,
   .isRef (.static Bundle.tN "UNASSIGNED_STACK" Bundle.steD), .isRef (.static Bundle.tN "SUPPRESSED_SENTINEL" Bundle.listD),
   .fieldLink Bundle.tN 198 Bundle.tN "backtrace" "Ljava/lang/Object;", .lays Bundle.tN Bundle.tN "backtrace" "Ljava/lang/Object;", .lays sub Bundle.tN "backtrace" "Ljava/lang/Object;"]
section VXK
variable {p : Program} {l : Launch} {e : Env} {R : Room} {s : State} {m₀ : MethodId} {args : Array Value} {below : List Frame} {meth : Method} {c : Code} {W : State} {locs : List Loc} {cells slots : Nat}
set_option maxHeartbeats 1000000 in
theorem vx_excInit (X : Stand p l e R s m₀ args below meth c W locs cells slots) (hexec : p.tables.exec = Jvm.exec) (htr : e.platform.stackTraces = false) {own par sub : String} {names : List String} {ic : Nat}
    (hown : s.vm.findClass own = some m₀.cls) (hpar : Bundle.fit par = true) (hnames : ∀ n ∈ names, Bundle.fit n = true)
    (h : ∀ a ∈ exAtoms own ic par sub names, a.before args s = true)
    {A : Nat → Prop} (hA : ∀ x ∈ locs, A x.base) (hLL : vx_L Bundle.tN "UNASSIGNED_STACK" Bundle.steD A s W.heap)
    {a : Addr} {cX : ClassId} {kX : Class} (hfound : s.vm.findClass sub = some cX) (hk : s.vm.classes[cX]? = some kX) (hord : kX.kind = .ordinary) (hcell : W.heap[a]? = some (freshCell cX kX))
    {g : JFrame} (hg : g.method = m₀) (hsize : g.locals.size = c.maxLocals) {rest : List Value} (hstack : g.stack = .ref a :: rest)
    (hd6 : decode c.code g.pc = .ok (.invokespecial ic, 3))
    (hRframes : names.length + 3 < R.frames) (hRlocals : 2 * g.monitorRoom + (rest.map fun v => v.category).sum + (13 * (names.length + 1) + 41) ≤ R.locals) :
    ∃ (V : State) (ce : Cell) (L : List Loc), Stand p l e R s m₀ args below meth c (V.setCell a ce) (locs ++ L) cells slots ∧ (∀ y ∈ L, y.base = a) ∧ a < V.heap.size ∧ V.heap = W.heap ∧ ce.cls = cX ∧ ce.vm = .none ∧
      (∀ (f : Field) (d : Class × Field), Jmm.declares? s.vm f.slot (cX + 1) cX = some d → d.2.name = f.name → f.name ≠ "cause" → f.name ≠ "stackTrace" → f.name ≠ "suppressedExceptions" → ce.slots[f.slot]? = (freshCell cX kX).slots[f.slot]?) ∧
      ∀ target, Steps p.tables e below ((V.setCell a ce).setTop { g with stack := rest, pc := g.pc + 3 }) target → Steps p.tables e below (W.setTop g) target := by
  have howns : e.platform.frameOwnsMonitors = true := by rw [X.admits.platform]
  have hfin : e.platform.finalization = false := by rw [X.admits.platform]
  have hpl : e.platform.magicAccessors = ({} : Platform).magicAccessors := by rw [X.admits.platform]
  have a' : ∀ x, x ∈ exAtoms own ic par sub names → x.holds args s none s [] = true := fun x hx => h x hx
  obtain ⟨T, Z, L, LZ, Y⟩ := ThrowableC.of_atoms (args := args) howns hfin hpl (fun x hx => h x (by simp [exAtoms, hx]))
  obtain ⟨P1, Ps, hlen, L1, hL, hP1m, hlink1, hlink⟩ := Bundle.chain0 (args := args) hpl Y.init0 names par hpar hnames (fun x hx => h x (by simp [exAtoms, hx]))
  have hsel0 : selectMethod e.platform s.vm cX T.fill0 = .method T.fill0 := by
    obtain ⟨c2, r2, m2, q1, q2, q3, q4, -⟩ := Cond.selects_spec (a' (.selects sub Bundle.tFill0 Bundle.tFill0) (by simp [exAtoms]))
    cases Option.some.inj (q1.symm.trans hfound)
    cases Option.some.inj (q2.symm.trans (State.methodFound?_of_named Y.fill0 (by decide)))
    cases Option.some.inj (q3.symm.trans Y.fill0)
    rw [Launch.admits_selectMethod X.admits]; exact q4
  have hselF : selectMethod e.platform s.vm cX T.fill = .method T.fill := by
    obtain ⟨c2, r2, m2, q1, q2, q3, q4, -⟩ := Cond.selects_spec (a' (.selects sub Bundle.tFill Bundle.tFill) (by simp [exAtoms]))
    cases Option.some.inj (q1.symm.trans hfound)
    cases Option.some.inj (q2.symm.trans (State.methodFound?_of_named Y.fill (by decide)))
    cases Option.some.inj (q3.symm.trans Y.fill)
    rw [Launch.admits_selectMethod X.admits]; exact q4
  obtain ⟨cellS0, hcS0, hiss⟩ := Y.statics
  obtain ⟨u0, hu0⟩ := Cond.staticRefV Y.unassigned L.unassignedStatic L.statics hcS0 hiss (a' (.isRef (.static Bundle.tN "UNASSIGNED_STACK" Bundle.steD)) (by simp [exAtoms]))
  obtain ⟨sen, hsen⟩ := Cond.staticRefV Y.sentinel L.sentinelStatic L.statics hcS0 hiss (a' (.isRef (.static Bundle.tN "SUPPRESSED_SENTINEL" Bundle.listD)) (by simp [exAtoms]))
  obtain ⟨ci198, i198, fB, hk198, hg198, ha198, hsB, -, hnB, htB, hffB⟩ := Cond.ownField (t := .object "java/lang/Object") Y.found L.cls (by decide +kernel) (a' (.fieldLink Bundle.tN 198 Bundle.tN "backtrace" "Ljava/lang/Object;") (by simp [exAtoms])) (a' (.lays Bundle.tN Bundle.tN "backtrace" "Ljava/lang/Object;") (by simp [exAtoms])) e.platform hpl
  obtain ⟨cellS, hcS', heS, -, hkeep⟩ := X.same.2.2.2.2.2 T.aS cellS0 hcS0
  have hcellS : W.heap[T.aS]? = some cellS := hcS'
  have haS : ¬ A T.aS := by
    obtain ⟨c9, k9, i9, f9, a9, cell9, g1, g2, g3, g4, -, -, -, -, -, g10⟩ := hLL
    have g0 := State.fieldFound?_class g2
    cases Option.some.inj (g1.symm.trans Y.found)
    cases Option.some.inj (g0.symm.trans L.cls)
    cases Option.some.inj (g4.symm.trans L.statics)
    exact g10
  have hout' : ∀ i, (⟨T.aS, i⟩ : Loc) ∉ locs := fun i hmem => haS (hA _ hmem)
  have hknownS : cellS.vm ≠ .unknown := by
    rw [heS]; intro hu
    rw [show cellS0.vm = .unknown from hu] at hiss
    cases hiss
  have hneS : T.aS ≠ a := fun e => by
    rw [e, hcell] at hcellS
    cases hcellS
    rw [← (congrArg Cell.vm heS : VmData.none = cellS0.vm)] at hiss
    cases hiss
  obtain ⟨tyC, dC, hdC, hdnC⟩ := Cond.laysAt hfound hk Y.cause (a' (.lays sub Bundle.tN "cause" "Ljava/lang/Throwable;") (by simp [exAtoms]))
  obtain ⟨tyS, dS, hdS, hdnS⟩ := Cond.laysAt hfound hk Y.stack (a' (.lays sub Bundle.tN "stackTrace" Bundle.steD) (by simp [exAtoms]))
  obtain ⟨tyP, dP, hdP, hdnP⟩ := Cond.laysAt hfound hk Y.supp (a' (.lays sub Bundle.tN "suppressedExceptions" Bundle.listD) (by simp [exAtoms]))
  obtain ⟨tyB, dB, hdB, hdnB⟩ := Cond.laysAt hfound hk hffB (a' (.lays sub Bundle.tN "backtrace" "Ljava/lang/Object;") (by simp [exAtoms]))
  have bC := Cond.laysApart hdB hdC hdnB hdnC (by rw [hnB, Y.causeName]; decide)
  have bS := Cond.laysApart hdB hdS hdnB hdnS (by rw [hnB, Y.stackName]; decide)
  have bP := Cond.laysApart hdB hdP hdnB hdnP (by rw [hnB, Y.suppName]; decide)
  have hskip : SkipFacts T e.platform s (fun u => u) u0 ((preparedCellV T.toThrowableT (freshCell cX kX) a u0 sen).withEntry W.cur) :=
    ⟨{ ci198 := ci198, i198 := i198, fBack := fB }, ⟨hk198, hg198, ha198, hsB⟩, by
      have := fresh_default (c := cX) tyB
      rw [htB] at this
      simpa [preparedCellV, Cell.setSlot, Cell.withEntry, Array.getElem?_setIfInBounds, bC, bS, bP, bC.symm, bS.symm, bP.symm, defaultValue] using this, fun _ _ => rfl⟩
  obtain ⟨tm, methC, cdC, kC, vm₁, hnC, -, -, -, -, -, -, -, hW₁, st1⟩ := Steps.initCold (tb := p.tables) (e := e) (below := below) (s := s) (U := W) X.here hexec X.warmed hpl hown (t := Bundle.init0 par) rfl rfl (Bundle.fit_spec hpar).2
    (a' (.methodLink own ic (Bundle.init0 par)) (by simp [exAtoms])) (h (.instanceMethod (Bundle.init0 par)) (by cases names <;> simp [exAtoms, Bundle.chain0Atoms, Bundle.passAtoms])) (bytes := Bundle.five) (maxL := 1) (h (.code (Bundle.init0 par) Bundle.five 1 none) (by cases names <;> simp [exAtoms, Bundle.chain0Atoms, Bundle.passAtoms]))
    (f := g) hg (a := a) (rest := rest) hstack hd6
  cases Option.some.inj (hnC.symm.trans hP1m)
  have X₁ := X.noted hW₁
  obtain ⟨vm₂, X₂, st2⟩ := X₁.ctorPlainOffV hexec (g := { g with stack := rest }) hg hsize T L Z LZ (P1 :: Ps)
    (fun P hP => by rcases List.mem_cons.mp hP with rfl | hP; exact L1; exact hL P hP) ⟨hlink1, hlink⟩ (u0 := u0) (sen := sen) (self := a) (cell := freshCell cX kX) (cellS := cellS)
    hcell (fun _ => by simp) (by simp) rfl rfl hsel0 hselF hcellS hneS hknownS (by rw [hkeep _ (hout' _)]; exact hu0) (by rw [hkeep _ (hout' _)]; exact hsen)
    (Takes.of_laid hk hord tyC (by rw [Y.causeType]; rfl)) (Takes.of_laid hk hord tyS (by rw [Y.stackType]; exact fits_refV_array _ u0)) (Takes.of_laid hk hord tyP (by rw [Y.suppType]; exact fits_refV_object _ sen)) Y.objLocals hskip htr [] hd6
    (by simp only [List.length_cons, hlen]; omega) (by simp only [List.length_cons, hlen]; exact hRlocals)
  have hlt : a < ((W.setVm vm₁).setVm vm₂).heap.size := (Array.getElem?_eq_some_iff.mp hcell).1
  refine ⟨(W.setVm vm₁).setVm vm₂, _, _, X₂, fun y hy => ?_, hlt, rfl, rfl, rfl, fun f d hd hdn n1 n2 n3 => ?_, fun target hwalk => st1 _ (fun acts => ?_)⟩
  · simp only [List.mem_cons, List.not_mem_nil, or_false] at hy
    rcases hy with rfl | rfl | rfl | rfl <;> rfl
  · have e1 := Cond.laysApart hd hdC hdn hdnC (by rw [Y.causeName]; exact n1)
    have e2 := Cond.laysApart hd hdS hdn hdnS (by rw [Y.stackName]; exact n2)
    have e3 := Cond.laysApart hd hdP hdn hdnP (by rw [Y.suppName]; exact n3)
    simp [preparedCellV, Cell.setSlot, Array.getElem?_setIfInBounds, e1.symm, e2.symm, e3.symm]
  · rw [doInvoke_state]
    exact st2 _ hwalk
end VXK
section GF
variable {X : Cx} {cc : ByteArray} {own : String} {nL : Nat} {ret : Option FieldType} {k n z : Nat} {T L : Nat → Nat} {V : w_V} {P : w_P} {pc : Nat} {lv : List (Option Value)} {st rest : List Value} {R0 : Room}
/-- a Fault made: raw -/
theorem gc_newF (O : Okc X cc own nL ret) (hRm : cxR X = R0) {idx U : Nat} (qc : Cond.classLink own idx RX10 ∈ lw_all) (hk : kOk R0 k n (1 + U)) (d : decode cc pc = .ok (.new idx, 3))
    (kk : ∀ (z1 : Nat) (T1 L1 : Nat → Nat) (V1 : w_V) (P1 : w_P), kOk R0 (k + 1) (n + 8) U → nwW z T L V P 4016 0 z1 T1 L1 V1 P1 → gW X (k + 1) (n + 8) z1 T1 L1 V1 P1 (pc + 3) lv (.ref z :: st)) : gW X k n z T L V P pc lv st := by
  intro H locs ls hw hS h
  have hz := hw.1
  subst hz
  have hKn := O.2.2.2.2.2.1.K.1 16 _ ck16.1
  have hKE := O.2.2.2.2.2.1.1.2.2.1.1 16 _ ck16.1
  obtain ⟨-, kE, hkE, -⟩ := hKE.2
  refine W.newcK O.1 O.2.1 O.2.2.2.1 (O.2.2.2.2.1 _ qc) (O.2.2.2.2.1 _ q1033) (O.2.2.2.2.1 _ q137) rfl d (by rw [hRm]; have := hk.1; omega) (by rw [hRm]; have := hk.2; omega) hKn.2.1 rfl fun H1 kC hkC e1 z1 o1 => ?_
  obtain ⟨k', hk', he⟩ := O.2.2.2.2.2.1.2.1.alike.2.2 _ _ hkE
  cases Option.some.inj (hk'.symm.trans hkC)
  refine kk _ _ _ _ _ ⟨by have := hk.1; omega, by have := hk.2; omega⟩ ⟨rfl, rfl, rfl, rfl, rfl⟩ H1 locs ls (hw.ext z1 o1 (fun c hc _ => by omega) (fun ty ht _ => by omega) (fun ty ht _ => by omega) (fun ht => by omega) (by omega) (fun _ => ⟨kE, hkE, ?_⟩)) ⟨Nat.le_trans hS.1 (by omega), fun x h1 h2 => (o1 x (Nat.lt_of_lt_of_le h1 hS.1)).trans (hS.2.1 x h1 h2), hS.2.2⟩ h
  rw [e1]
  unfold blank
  rw [show kC.instanceTypes = kE.instanceTypes by rw [he]]
def exF : List Cond := [.methodLink RX10 1 (Bundle.init0 "java/lang/Exception"), .selects RX10 Bundle.tFill0 Bundle.tFill0, .selects RX10 Bundle.tFill Bundle.tFill,
   .lays RX10 Bundle.tN "cause" "Ljava/lang/Throwable;", .lays RX10 Bundle.tN "stackTrace" Bundle.steD, .lays RX10 Bundle.tN "suppressedExceptions" Bundle.listD, .lays RX10 Bundle.tN "backtrace" "Ljava/lang/Object;"]
theorem exF_tbl : ∀ w ∈ exF, w ∈ lw_tbl := List.forall_mem_cons.mpr ⟨lw_all_tbl q1044, List.forall_mem_cons.mpr ⟨lw_all_tbl q1035, List.forall_mem_cons.mpr ⟨lw_all_tbl q210, List.forall_mem_cons.mpr ⟨lw_all_tbl q1036, List.forall_mem_cons.mpr ⟨lw_all_tbl q1037, List.forall_mem_cons.mpr ⟨lw_all_tbl q1038, List.forall_mem_cons.mpr ⟨lw_all_tbl q1040, fun _ h => nomatch h⟩⟩⟩⟩⟩⟩⟩
theorem exF_m : ∀ w ∈ (exAtoms RX10 1 "java/lang/Exception" RX10 []).filter vx_no, w ∈ excB ++ exF := by decide +kernel
theorem exF_g : ∀ w ∈ ((exAtoms RX10 1 "java/lang/Exception" RX10 []).filter vx_no).filter (fun w => !goodWord w), xface w = true := by decide +kernel
theorem exF_B {w : Cond} (h : w ∈ (exAtoms RX10 1 "java/lang/Exception" RX10 []).filter vx_no) : w ∈ lw_tbl := (List.mem_append.mp (exF_m w h)).elim (excB_tbl w) (exF_tbl w)
theorem wd.fdone {E : w_E} {z : Nat} {T L : Nat → Nat} {V : w_V} {P : w_P} {H H1 : Heap} (h : wd E z T L V P H) {a : Nat} (ht : T a = 4016) (h1 : va_at E.2.2.1 acl (a, .inr (16, [.int 0, .int 0])) H1) (z1 : H1.size = H.size) (o1 : ∀ q : Nat, q ≠ a → H1[q]? = H[q]?) : wd E z (up1 T a 17) L (up1 V a (fun _ _ => 0)) P H1 := by
  obtain ⟨w1, w2, w3, w4, w5, w6, w7, w8, w9⟩ := h
  have ha0 : a < z := Nat.not_le.mp fun q => by have := w2 a q; omega
  have hn : ∀ b, T b ≠ 4016 → b ≠ a := fun b hb e => hb (by rw [e]; exact ht)
  refine ⟨z1.trans w1, fun b hb => ?_, w3, fun b hb => ?_, fun b d hb hd => ?_, fun b ty hb hy => ?_, fun b ty hb hy => ?_, fun b hb => ?_, fun b hb => ?_⟩
  · rw [up1_n (by omega)]
    exact w2 b hb
  · have := w4 b hb
    rw [up1_n (hn b (by omega))]
    exact this
  · by_cases e : b = a
    · subst e
      rw [up1_s] at hb
      have ed : d = 16 := by omega
      subst ed
      refine ⟨by rw [up1_s]; exact h1, fun j f hj hf => ?_⟩
      exfalso
      have hj2 : ([fI, fI] : List w_fk)[j]? = some f := hj
      have := List.mem_of_getElem? hj2
      simp only [List.mem_cons, List.not_mem_nil, or_false, or_self] at this
      rw [this] at hf
      exact absurd hf (by decide)
    · rw [up1_n e] at hb
      rw [up1_n e]
      obtain ⟨g1, g2⟩ := w5 b d hb hd
      refine ⟨va_at.kept g1 (o1 _ e), fun j f hj hf => ?_⟩
      obtain ⟨r1, r2⟩ := g2 j f hj hf
      have e2 := hn _ (by rw [r1]; omega : T (b + f.2.1) ≠ 4016)
      exact ⟨by rw [up1_n e2]; exact r1, va_at.kept r2 (o1 _ e2)⟩
  · have e : b ≠ a := fun e => by rw [e, up1_s] at hb; omega
    rw [up1_n e] at hb
    rw [up1_n e]
    exact va_at.kept (w6 b ty hb hy) (o1 _ e)
  · have e : b ≠ a := fun e => by rw [e, up1_s] at hb; omega
    rw [up1_n e] at hb
    exact va_at.kept (w7 b ty hb hy) (o1 _ e)
  · have e : b ≠ a := fun e => by rw [e, up1_s] at hb; omega
    rw [up1_n e] at hb
    rw [up1_n e]
    exact va_at.kept (w8 b hb) (o1 _ e)
  · have e : b ≠ a := fun e => by rw [e, up1_s] at hb; omega
    rw [up1_n e] at hb
    exact (w9 b hb).kept (o1 _ e)
theorem gc_excInit (O : Okc X cc RX10 nL ret) (hRm : cxR X = R0) {a : Nat} (hT : T a = 4016) (hf : 3 < R0.frames) (hl : (st.map fun v => v.category).sum + 54 ≤ R0.locals) (hnl : lv.length = nL) (d : decode cc pc = .ok (.invokespecial 1, 3))
    (kk : ∀ (T1 : Nat → Nat) (V1 : w_V), T1 = up1 T a 17 → V1 = up1 V a (fun _ _ => 0) → gW X k n z T1 L V1 P (pc + 3) lv st) : gW X k n z T L V P pc lv (.ref a :: st) := by
  intro H locs ls hw hS h
  have hke := O.2.2.2.2.2.1
  have hU := hke.zq q204 (lw_all_tbl q111) exc_U
  have hN := hke.zq q206 (lw_all_tbl q111) exc_N
  have hKn := hke.K.1 16 _ ck16.1
  obtain ⟨kE, hkE, hcell⟩ := hw.2.2.2.2.2.2.2.2 a hT
  obtain ⟨k', hk', he⟩ := hke.2.1.alike.2.2 _ _ hkE
  have hcell : H[a]? = some (freshCell ((cxE X).2.2.1.1 16) k') := by
    rw [hcell]
    unfold blank
    rw [show kE.instanceTypes = k'.instanceTypes by rw [he]]
  obtain ⟨hsl0, hfc, kC, hkC, hkind⟩ := hKn
  have ek0 := Option.some.inj (hk'.symm.trans hkC)
  rw [ek0] at hcell
  unfold cxW
  intro T0 hT0 X0
  have hst : (cxL X).stackTraces = false := by unfold Launch.stackTraces; rw [O.2.2.2.2.2.2.2.2]; decide +kernel
  have htr : (cxe X).platform.stackTraces = false := (show (cxe X).platform.stackTraces = (cxL X).stackTraces by rw [X0.admits.platform]).trans hst
  have hwords : ∀ w ∈ exAtoms RX10 1 "java/lang/Exception" RX10 [], w.before (cxa X) (cxs X) = true := by
    refine vx_own (vx_hat (B := ((exAtoms RX10 1 "java/lang/Exception" RX10 []).filter vx_no).filter (fun w => !goodWord w)) (fun w hw => ?_) (fun w hw => hw) (fun w hw => ?_)) (vx_isRefq hU.1) (vx_isRefq hN.1) hU.2.word hN.2.word
    · obtain ⟨h1, h2⟩ := List.mem_filter.mp hw
      exact O.2.2.2.2.1 _ (lw_g (exF_B h1) h2)
    · exact hke.face (exF_g w hw) (exF_B (List.mem_filter.mp hw).1)
  obtain ⟨Vs, ce, LL, Z, hLb, hlt, hVh, hcl9, hvm9, hsl, step⟩ := vx_excInit X0 O.1 htr O.2.2.2.1 (by decide +kernel) (names := []) (fun n hn => by cases hn) hwords (A := w_A (cxE X)) hS.2.2 (by rw [hT0]; exact hU.2.kept hS.2.1) hfc hkC hkind (by rw [hT0]; exact hcell) (g := F0 (cxm X) pc ls (.ref a :: st)) rfl (by rw [O.2.2.1, ← hnl]; exact h.1) rfl (by rw [O.2.1]; exact d) (by rw [hRm]; exact hf) (by rw [hRm]; show 2 * 0 + _ + (13 * (0 + 1) + 41) ≤ _; omega)
  have hlt2 : a < H.size := (Array.getElem?_eq_some_iff.mp hcell).1
  have e1 : (Vs.setCell a ce).heap[a]? = some ce := heapAt_setCell_self (s := Vs) ce hlt
  have e2 : ∀ q : Nat, q ≠ a → (Vs.setCell a ce).heap[q]? = H[q]? := fun q hq => by rw [heapAt_setCell_ne _ (Ne.symm hq), hVh, hT0]
  have e3 : (Vs.setCell a ce).heap.size = H.size := by rw [size_setCell, hVh, hT0]
  have hfield : ∀ (j : Nat) (nm : String), j < 2 → (TF10 j).2.1 = nm → (TF10 j).2.2.1 = "I" → (TF10 j).1 = RX10 → Cond.laysFinal RX10 RX10 nm "I" ∈ lw_all → nm ≠ "cause" → nm ≠ "stackTrace" → nm ≠ "suppressedExceptions" → ce.slots[(cxE X).2.2.1.2 16 j]? = some (.int 0) := by
    intro j nm hj hn1 hn2 hn3 hq n1 n2 n3
    obtain ⟨cf, kf, fi, fd, hfd, hslot⟩ := hsl0 j hj
    rw [hn1, hn2, hn3] at hfd
    obtain ⟨c1, k1, c2, k2, i2, f2, g1, g2, g3, g4, g5, g6, g7, g8, dd, g9, g10, g11, g12⟩ := Cond.laysFinal_spec (show (Cond.laysFinal RX10 RX10 nm "I").holds (cxa X) (cxs X) none (cxs X) [] = true from O.2.2.2.2.1 _ hq)
    cases Option.some.inj (g1.symm.trans hfc)
    have ek1 := Option.some.inj (g2.symm.trans hkC)
    rw [ek1] at g8
    have e9 := Option.some.inj (g3.symm.trans hfd)
    obtain ⟨ef, et⟩ := State.fieldFound?_type hfd (show parseFieldDescriptor "I" = some .int from by decide +kernel)
    have e10 : f2 = fd := congrArg (fun x => x.2.2.2) e9
    subst e10
    rw [← hslot, hsl f2 dd g9 g11 (by rw [ef]; exact n1) (by rw [ef]; exact n2) (by rw [ef]; exact n3)]
    have e11 : (freshCell ((cxE X).2.2.1.1 16) kC).slots[f2.slot]? = (kC.instanceTypes[f2.slot]?).map defaultValue := Array.getElem?_map ..
    rw [e11, g8, et]
    rfl
  have hat : va_at (cxE X).2.2.1 acl (a, .inr (16, [.int 0, .int 0])) (Vs.setCell a ce).heap := ⟨_, ck16.1, ce, e1, hcl9, hvm9, fun j hj => by
    rcases j with _ | _ | j
    · exact hfield 0 "kind" (by decide) rfl rfl rfl q1049 (by decide) (by decide) (by decide)
    · exact hfield 1 "place" (by decide) rfl rfl rfl q1051 (by decide) (by decide) (by decide)
    · exact absurd hj (by show ¬ j + 2 < 2; omega)⟩
  obtain ⟨t, a1, b1⟩ := kk _ _ rfl rfl (Vs.setCell a ce).heap (locs ++ LL) ls (hw.fdone hT hat e3 e2) (hS.putL e3 e2 (hw.base (by rw [hT]; decide)) hLb) h _ rfl Z
  exact ⟨t, step t a1, b1⟩
theorem gc_athrow (O : Okc X cc own nL ret) {ci lay q N : Nat} {C : String} {TT : u_T} (hck : ckOk ci C TT N) (hl : lay < 100) (hci : acn lay = ci) (ht : T q = lay + 1) (d : decode cc pc = .ok (.athrow, 1)) (kt : gT X k n z T L V P pc lv q C) : gW X k n z T L V P pc lv (.ref q :: st) := by
  intro H locs ls hw hS h
  subst hci
  obtain ⟨r, h1, cell, g1, g2, g3, g4⟩ := (hw.2.2.2.2.1 q lay ht hl).1
  have hr : r = (C, TT, N) := Option.some.inj (h1.symm.trans hck.1)
  subst hr
  have hcl : (cxs X).vm.findClass C = some cell.cls := by rw [g2]; exact (O.2.2.2.2.2.1.K.1 _ _ hck.1).2.1
  unfold cxW
  intro T0 hT X0
  obtain ⟨t, a1, b1⟩ := kt H locs ls cell st hw hS h g1 g3 hcl T0 hT X0
  refine ⟨t, ?_, b1⟩
  have d' : decode (cxc X).code pc = .ok (.athrow, 1) := by rw [O.2.1]; exact d
  have hx := O.1
  have hh := X0.here
  show Steps (cxP X).tables (cxe X) (cxb X) (T0.setTop (F0 (cxm X) pc ls (.ref q :: st))) t
  jvm_step hh [hx, d', athrow.wp_sem]
  exact a1
end GF
