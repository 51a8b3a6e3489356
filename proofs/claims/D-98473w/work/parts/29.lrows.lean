/-! ROWS of methods with handlers (calls that throw to a handler or past it), of the law's longs, of its script -/
set_option maxRecDepth 100000
section LJ
variable {p : Program} {l : Launch} {e : Env} {R : Room} {s : State} {m : MethodId} {args : Array Value} {below : List Frame} {meth : Method} {c : Code} {H : Heap} {locs : List Loc} {cells slots : Nat} {Q : State → Prop}
variable {cc : ByteArray} {pc : Nat} {ls : Array Slot} {rest : List Value} {D : va_G} {cl : List vw_C} {a : Nat}
theorem fr_last (hexec : p.tables.exec = Jvm.exec) (hb : c.code = cc) {cA : ClassId} {n : Nat} {f : Nat → Int64} (ha : va_at D cl (a, .inl (cA, n, .inr (.inl f))) H) (ht : ArrOfT s cA .long) {i : Int32} {x : Int64} (hin : vp_in i n) (hdg : decode cc pc = .ok (.lastore, 1))
    (kk : ∀ (H1 : Heap) (j : Nat), va_at D cl (a, .inl (cA, n, .inr (.inl (vp_updL f i.toNatClampNeg x)))) H1 → H1.size = H.size → (∀ q : Nat, q ≠ a → H1[q]? = H[q]?) → W p l e R s m args below meth c H1 (locs ++ [⟨a, j⟩]) cells slots Q (F0 m (pc + 1) ls rest)) : W p l e R s m args below meth c H locs cells slots Q (F0 m pc ls (.long x :: .int i :: .ref a :: rest)) := by
  refine W.last hexec hb (show H[a]? = some (vp_cell cA (n, .inr (.inl f))) from ha) (ht n (fun j => .long (f j))) (fun q => by cases q) (by show ¬ (i < 0 ∨ (arrV _ _ _).slots.size ≤ _); rw [arrV_size]; exact hin) rfl rfl hdg fun H1 e z oq => ?_
  refine kk H1 _ ?_ z oq
  show H1[a]? = some (vp_cell _ _)
  rw [e]
  rw [vp_cell_l, vp_cell_l, arrV_store]
  congr 2
  funext q
  by_cases hq : q = i.toNatClampNeg
  · subst hq
    simp [updV, vp_updL]
  · simp [updV, vp_updL, hq]
end LJ
/-- an array of longs changed -/
theorem wd.setJ {E : w_E} {z : Nat} {T L : Nat → Nat} {V : w_V} {P : w_P} {H H1 : Heap} (h : wd E z T L V P H) {a i : Nat} {x : Int32} (ht : T a = 3003)
    (h1 : va_at E.2.2.1 acl (a, .inl (E.2.2.2.1 3, L a, .inr (.inl (vp_updL (fun j => (V a 0 j).toInt64) i x.toInt64)))) H1) (z1 : H1.size = H.size) (o1 : ∀ q : Nat, q ≠ a → H1[q]? = H[q]?) : wd E z T L (up3 V a 0 i x) P H1 := by
  obtain ⟨w1, w2, w3, w4, w5, w6, w7, w8, w9⟩ := h
  have hne : ∀ b, T b ≠ 3003 → b ≠ a := fun b hb e => hb (by rw [e]; exact ht)
  refine ⟨z1.trans w1, w2, w3, w4, fun b d hb hd => ?_, fun b t hb hlt => ?_, fun b t hb hlt => ?_, fun b hb => ?_, fun b hb => ?_⟩
  · obtain ⟨q1, q2⟩ := w5 b d hb hd
    have nb : b ≠ a := hne b (by omega)
    have ev : up3 V a 0 i x b = V b := by unfold up3; rw [up1_n nb]
    rw [ev]
    refine ⟨va_at.kept q1 (o1 _ nb), fun i2 f hi hf => ?_⟩
    obtain ⟨r1, r2⟩ := q2 i2 f hi hf
    exact ⟨r1, va_at.kept r2 (o1 _ (hne _ (by rw [r1]; omega)))⟩
  · have nb : b ≠ a := hne b (by omega)
    have ev : up3 V a 0 i x b = V b := by unfold up3; rw [up1_n nb]
    rw [ev]
    exact va_at.kept (w6 b t hb hlt) (o1 _ nb)
  · exact va_at.kept (w7 b t hb hlt) (o1 _ (hne b (by omega)))
  · by_cases e : b = a
    · subst e
      have ev : (fun j => (up3 V b 0 i x b 0 j).toInt64) = vp_updL (fun j => (V b 0 j).toInt64) i x.toInt64 := by
        funext j
        unfold up3 vp_updL
        rw [up1_s]
        by_cases hj : j = i
        · subst hj
          rw [s2_s, if_pos rfl]
        · rw [s2_i hj, if_neg hj]
      rw [ev]
      exact h1
    · have ev : up3 V a 0 i x b = V b := by unfold up3; rw [up1_n e]
      rw [ev]
      exact va_at.kept (w8 b hb) (o1 _ e)
  · exact (w9 b hb).kept (o1 _ (hne b (by omega)))
section LR
variable {X : Cx} {cc : ByteArray} {own : String} {nL : Nat} {ret : Option FieldType} {k n z : Nat} {T L : Nat → Nat} {V : w_V} {P : w_P} {pc : Nat} {lv : List (Option Value)} {st rest : List Value} {a : Array Value} {c : Nat} {xp : w_Xp} {Qc : Array Value → State → Outcome → State → Prop} {R0 : Room} {hh : List (Nat × Nat × Nat × Nat)} {mc ms : Nat}
theorem gl_last (O : Okc X cc own nL ret) {a nn : Nat} {i x : Int32} (ha : T a = 3003) (hi : nn < L a) (h2 : nn < 2147483648) (h3 : L a < 2147483648) (e : i = nI nn) (d : decode cc pc = .ok (.lastore, 1)) (kk : gW X k n z T L (up3 V a 0 nn x) P (pc + 1) lv st) : gW X k n z T L V P pc lv (.long x.toInt64 :: .int i :: .ref a :: st) := by
  intro H locs ls hw hS h
  subst e
  refine fr_last O.1 O.2.1 (hw.2.2.2.2.2.2.2.1 a ha) ((O.2.2.2.2.2.1.K.2 3 _ (atyK_at (show atyL[3]? = some .long from rfl))).1) (vp_in_nI hi h3) d (fun H1 j g1 g2 g3 => ?_)
  rw [nI_clamp h2] at g1
  exact kk H1 _ ls (hw.setJ ha g1 g2 g3) (hS.put g2 g3 (hw.base (by rw [ha]; decide))) h
theorem gl_lald (O : Okc X cc own nL ret) {a nn : Nat} {i : Int32} (ha : T a = 3003) (hi : nn < L a) (h2 : nn < 2147483648) (h3 : L a < 2147483648) (e : i = nI nn) (d : decode cc pc = .ok (.laload, 1)) (kk : gW X k n z T L V P (pc + 1) lv (.long (V a 0 nn).toInt64 :: st)) : gW X k n z T L V P pc lv (.int i :: .ref a :: st) := by
  intro H locs ls hw hS h
  subst e
  refine va_lald O.1 O.2.1 O.2.2.2.2.2.1.K (va_P1 (hw.2.2.2.2.2.2.2.1 a ha)) 0 3 rfl (atyK_at rfl) (vp_in_nI hi h3) d ?_
  rw [nI_clamp h2]
  exact kk H locs ls hw hS h
/-- a static call of a method with handlers -/
theorem grx_SX {ret0 ret : Option FieldType} {y : MethodName} {bytes : ByteArray} {idx maxL nA : Nat} {rm : Room} {As : List Value} {xq : w_X} (O : Okc X cc own nL ret0) (hRm : cxR X = R0) (hM : vx_Met (cxL X) y (wsW_ y bytes maxL ret hh) rm (va_Pc As (fun U => kenv (cxE X) U ∧ wdW (cxE X) (z, T, L, V, P) U.heap)) Qc (xcX (cxE X) xq) mc ms (w_A (cxE X)))
    (hG : GoodIn lw_all (va_wsS own idx y (wsW_ y bytes maxL ret hh))) (hrc : rm.cells = mc) (hrs : rm.slots = ms) (hd : y.cls ≠ "java/lang/invoke/MethodHandle" ∧ y.cls ≠ "java/lang/invoke/VarHandle" ∧ (parseMethodDescriptor y.desc).map (fun d => d.parameters.length) = some nA)
    (hR : rm.frames + 1 ≤ R0.frames ∧ 8 + (maxL + 11) + rm.locals ≤ R0.locals) (hn : As.length = nA) (hst : st = As.reverse ++ rest) (hnl : lv.length = nL) (hr : (rest.map fun v => v.category).sum ≤ 8) (d : decode cc pc = .ok (.invokestatic idx, 3)) (hf : k + mc ≤ R0.cells ∧ n + ms ≤ R0.slots) : gRunX X k n z T L V P pc lv st rest mc ms (Qc As.toArray) xq := by
  intro H locs ls hw hS h
  rw [← hRm] at hR hf
  exact vx_runSX (hh := hh) (As := As) (rest := rest) ⟨O.1, O.2.1, O.2.2.1, O.2.2.2.1, O.2.2.2.2.1⟩ hM (vx_cwSW nA O.2.2.2.2.1 hG rfl hrc hrs hd hR) (g_preS O hw hS) rfl hn (by rw [← hnl]; exact h.1) hst (lv_room hr) d hf
/-- an instance's method with handlers -/
theorem grx_VX {ret0 ret : Option FieldType} {y : MethodName} {bytes : ByteArray} {idx maxL nA ci lay b N : Nat} {C : String} {TT : u_T} {rm : Room} {As : List Value} {xq : w_X} (O : Okc X cc own nL ret0) (hRm : cxR X = R0) (hM : vx_Met (cxL X) y (wsW_ y bytes maxL ret hh) rm (va_Pc (.ref b :: As) (fun U => kenv (cxE X) U ∧ wdW (cxE X) (z, T, L, V, P) U.heap)) Qc (xcX (cxE X) xq) mc ms (w_A (cxE X)))
    (hG : GoodIn lw_all (wsV own idx C y (wsW_ y bytes maxL ret hh))) (hrc : rm.cells = mc) (hrs : rm.slots = ms) (hd : y.cls = C ∧ y.cls ≠ "java/lang/invoke/MethodHandle" ∧ y.cls ≠ "java/lang/invoke/VarHandle" ∧ (parseMethodDescriptor y.desc).map (fun d => d.parameters.length) = some nA)
    (hR : rm.frames + 1 ≤ R0.frames ∧ 8 + (maxL + 11) + rm.locals ≤ R0.locals) (hck : ckOk ci C TT N) (hl : lay < 100) (hci : acn lay = ci) (ht : T b = lay + 1) (hn : As.length = nA) (hst : st = As.reverse ++ .ref b :: rest) (hnl : lv.length = nL) (hr : (rest.map fun v => v.category).sum ≤ 8) (d : decode cc pc = .ok (.invokevirtual idx, 3)) (hf : k + mc ≤ R0.cells ∧ n + ms ≤ R0.slots) : gRunX X k n z T L V P pc lv st rest mc ms (Qc (Value.ref b :: As).toArray) xq := by
  intro H locs ls hw hS h
  rw [← hRm] at hR hf
  exact vx_runVX (hh := hh) (As := As) (rest := rest) ⟨O.1, O.2.1, O.2.2.1, O.2.2.2.1, O.2.2.2.2.1⟩ hM (vx_cwVW nA O.2.2.2.2.1 hG rfl hrc hrs hd hR) ⟨fun a U g mk q => q, g_recv O hck hl hci ht hw, (g_preS O hw hS).2⟩ rfl hn (by rw [← hnl]; exact h.1) hst (lv_room hr) d hf
/-- calls whose thing thrown is dealt with by kt -/
theorem gh_fi {post : Int32 → Nat → (Nat → Nat) → (Nat → Nat) → w_V → w_P → Prop} (hr : gRunX X k n z T L V P pc lv st rest (8 * c) (32 * c) (va_Qi (qF1 post) (wdF (cxE X)) (w_A (cxE X)) a) (xF xp)) (kt : ∀ (q : Nat) (En : String) (z : Nat) (T L : Nat → Nat) (V : w_V) (P : w_P), xp q En z T L V P → gT X (k + 8 * c) (n + 32 * c) z T L V P pc lv q En) (kk : ∀ (r : Int32) (z : Nat) (T L : Nat → Nat) (V : w_V) (P : w_P), post r z T L V P → gW X (k + 8 * c) (n + 32 * c) z T L V P (pc + 3) lv (.int r :: rest)) : gW X k n z T L V P pc lv st :=
  g_xi (f := fun u => u) hr (fun q En u h => kt q En u.1 u.2.1 u.2.2.1 u.2.2.2.1 u.2.2.2.2 h) (fun r u w => kk r u.1 u.2.1 u.2.2.1 u.2.2.2.1 u.2.2.2.2 w)
theorem gh_fq {post : Nat → Nat → (Nat → Nat) → (Nat → Nat) → w_V → w_P → Prop} (hr : gRunX X k n z T L V P pc lv st rest (8 * c) (32 * c) (va_Qq (qFn post) (wdF (cxE X)) (w_A (cxE X)) a) (xF xp)) (kt : ∀ (q : Nat) (En : String) (z : Nat) (T L : Nat → Nat) (V : w_V) (P : w_P), xp q En z T L V P → gT X (k + 8 * c) (n + 32 * c) z T L V P pc lv q En) (kk : ∀ (r : Nat) (z : Nat) (T L : Nat → Nat) (V : w_V) (P : w_P), post r z T L V P → gW X (k + 8 * c) (n + 32 * c) z T L V P (pc + 3) lv (.ref r :: rest)) : gW X k n z T L V P pc lv st :=
  g_xq (f := fun u => u) hr (fun q En u h => kt q En u.1 u.2.1 u.2.2.1 u.2.2.2.1 u.2.2.2.2 h) (fun r u w => by
    obtain ⟨b, rfl, w⟩ := w
    exact kk b u.1 u.2.1 u.2.2.1 u.2.2.2.1 u.2.2.2.2 w)
theorem gh_x0 {post : Int32 → Prop} {xp0 : String → w_V → w_P → Prop} (hr : gRunX X k n z T L V P pc lv st rest (8 * c) (32 * c) (va_Qi (fun x (_ : Unit) => post x) (fun u t => wdW (cxE X) (xW0 z T L V P u) t.heap) (w_A (cxE X)) a) (xB z T L xp0)) (kt : ∀ (q : Nat) (En : String) (z2 : Nat) (V2 : w_V) (P2 : w_P), z ≤ z2 → xp0 En V2 P2 → gT X (k + 8 * c) (n + 32 * c) z2 T L V2 P2 pc lv q En) (kk : ∀ (r : Int32), post r → gW X (k + 8 * c) (n + 32 * c) z T L V P (pc + 3) lv (.int r :: rest)) : gW X k n z T L V P pc lv st :=
  g_xi hr (fun q En u h => by
    obtain ⟨u1, u2, u3, u4, u5⟩ := u
    obtain ⟨h1, h2, h3, h4⟩ := h
    have h2' : u2 = T := h2
    have h3' : u3 = L := h3
    subst h2' h3'
    exact kt q En u1 u4 u5 h1 h4) (fun r _ w => kk r w)
theorem gh_x1 {post : Int32 → w_V → Prop} {xp0 : String → w_V → w_P → Prop} (hr : gRunX X k n z T L V P pc lv st rest (8 * c) (32 * c) (va_Qi post (fun u t => wdW (cxE X) (xW1 z T L P u) t.heap) (w_A (cxE X)) a) (xB z T L xp0)) (kt : ∀ (q : Nat) (En : String) (z2 : Nat) (V2 : w_V) (P2 : w_P), z ≤ z2 → xp0 En V2 P2 → gT X (k + 8 * c) (n + 32 * c) z2 T L V2 P2 pc lv q En) (kk : ∀ (r : Int32) (V2 : w_V), post r V2 → gW X (k + 8 * c) (n + 32 * c) z T L V2 P (pc + 3) lv (.int r :: rest)) : gW X k n z T L V P pc lv st :=
  g_xi hr (fun q En u h => by
    obtain ⟨u1, u2, u3, u4, u5⟩ := u
    obtain ⟨h1, h2, h3, h4⟩ := h
    have h2' : u2 = T := h2
    have h3' : u3 = L := h3
    subst h2' h3'
    exact kt q En u1 u4 u5 h1 h4) (fun r u w => kk r u w)
theorem gh_x2 {post : Int32 → w_V → w_P → Prop} {xp0 : String → w_V → w_P → Prop} (hr : gRunX X k n z T L V P pc lv st rest (8 * c) (32 * c) (va_Qi (fun x (u : w_V × w_P) => post x u.1 u.2) (fun u t => wdW (cxE X) (xW2 z T L u) t.heap) (w_A (cxE X)) a) (xB z T L xp0)) (kt : ∀ (q : Nat) (En : String) (z2 : Nat) (V2 : w_V) (P2 : w_P), z ≤ z2 → xp0 En V2 P2 → gT X (k + 8 * c) (n + 32 * c) z2 T L V2 P2 pc lv q En) (kk : ∀ (r : Int32) (V2 : w_V) (P2 : w_P), post r V2 P2 → gW X (k + 8 * c) (n + 32 * c) z T L V2 P2 (pc + 3) lv (.int r :: rest)) : gW X k n z T L V P pc lv st :=
  g_xi hr (fun q En u h => by
    obtain ⟨u1, u2, u3, u4, u5⟩ := u
    obtain ⟨h1, h2, h3, h4⟩ := h
    have h2' : u2 = T := h2
    have h3' : u3 = L := h3
    subst h2' h3'
    exact kt q En u1 u4 u5 h1 h4) (fun r u w => kk r u.1 u.2 w)
/-- a call outside of the handlers' range -/
theorem gh_outB {q : Nat} {En : String} {u : w_W} (O : Okc X cc own nL ret) (hT : hTab X hh) (hc : (tableOf hh).all (fun x => !covers x pc) = true) (hQ : cxMX X Qc (xF xp) R0.cells R0.slots) (hm : k ≤ R0.cells ∧ n ≤ R0.slots) (h : xB z T L (xFB z T L xp) q En u) : gT X k n u.1 u.2.1 u.2.2.1 u.2.2.2.1 u.2.2.2.2 pc lv q En := by
  obtain ⟨u1, u2, u3, u4, u5⟩ := u
  obtain ⟨h1, h2, h3, h4⟩ := h
  have h2' : u2 = T := h2
  have h3' : u3 = L := h3
  subst h2' h3'
  exact gh_out (x0 := xF xp) O hT hc hQ hm (h4 q u1 h1)
theorem gh_bv0 {post : Prop} (O : Okc X cc own nL ret) (hT : hTab X hh) (hc : (tableOf hh).all (fun x => !covers x pc) = true) (hQ : cxMX X Qc (xF xp) R0.cells R0.slots) (hm : k + 8 * c ≤ R0.cells ∧ n + 32 * c ≤ R0.slots) (hr : gRunX X k n z T L V P pc lv st rest (8 * c) (32 * c) (va_Qv (fun (_ : Unit) => post) (fun u t => wdW (cxE X) (xW0 z T L V P u) t.heap) (w_A (cxE X)) a) (xB z T L (xFB z T L xp))) (kk : post → gW X (k + 8 * c) (n + 32 * c) z T L V P (pc + 3) lv rest) : gW X k n z T L V P pc lv st :=
  g_xv hr (fun q En u h => gh_outB O hT hc hQ hm h) (fun _ w => kk w)
/-- the law's script -/
theorem gl_slen (O : Okc X cc own nL ret) {b Ls : Nat} {xs : Nat → Int32} (hX : va_X b Ls xs (cxs X) (cxs X).heap) (hb : b < (cxs X).heap.size) (hbA : ¬ w_A (cxE X) b) (d : decode cc pc = .ok (.arraylength, 1)) (kk : gW X k n z T L V P (pc + 1) lv (.int (nI Ls) :: st)) : gW X k n z T L V P pc lv (.ref b :: st) := by
  intro H locs ls hw hS h
  exact va_slen O.1 O.2.1 hX hb hbA hS d (kk H locs ls hw hS h)
theorem gl_sld (O : Okc X cc own nL ret) {b Ls nn : Nat} {xs : Nat → Int32} {i : Int32} (hX : va_X b Ls xs (cxs X) (cxs X).heap) (hb : b < (cxs X).heap.size) (hbA : ¬ w_A (cxE X) b) (hi : nn < Ls) (h2 : Ls < 2147483648) (e : i = nI nn) (d : decode cc pc = .ok (.iaload, 1)) (kk : gW X k n z T L V P (pc + 1) lv (.int (xs nn) :: st)) : gW X k n z T L V P pc lv (.int i :: .ref b :: st) := by
  intro H locs ls hw hS h
  subst e
  refine va_sld O.1 O.2.1 hX hb hbA hS (vp_in_nI hi h2) d ?_
  rw [nI_clamp (Nat.lt_trans hi h2)]
  exact kk H locs ls hw hS h
end LR
/-- a constant text is a String -/
theorem any_s {X : Cx} {H : Heap} {locs : List Loc} {v : Nat} {tx : List Nat} (hk : kenv (cxE X) (cxs X)) (hS : va_S (w_A (cxE X)) (cxs X).heap H locs) (h : isStr (cxE X) v tx) : va_Any "java/lang/String" (cxs X) H v := by
  obtain ⟨cell, h1, h2, h3⟩ := kz_recv hk hS h.1
  obtain ⟨kC, hkC, -⟩ := Vm.findClass_spec h3
  refine ⟨cell, h1, h2, ⟨kC, hkC⟩, fun comp h4 => ?_⟩
  rw [h3] at h4
  cases h4
  show (cxs X).vm.assignableAux (255 + 1) cell.cls cell.cls = true
  rw [Vm.assignableAux]
  simp only [beq_self_eq_true, Bool.true_or]
theorem gl_aastS {X : Cx} {cc : ByteArray} {own : String} {nL : Nat} {ret : Option FieldType} {k n z : Nat} {T L : Nat → Nat} {V : w_V} {P : w_P} {pc : Nat} {lv : List (Option Value)} {st : List Value} (O : Okc X cc own nL ret) {a nn v : Nat} {i : Int32} {tx : List Nat} (ha : T a = 2005) (hi : nn < L a) (h2 : L a < 2147483648) (e : i = nI nn) (hv : isStr (cxE X) v tx) (d : decode cc pc = .ok (.aastore, 1)) (kk : gW X k n z T L V (up2 P a nn (some v)) (pc + 1) lv st) : gW X k n z T L V P pc lv (.ref v :: .int i :: .ref a :: st) := by
  intro H locs ls hw hS h
  subst e
  refine fr_astq O.1 O.2.1 O.2.2.2.2.2.1.K 5 (hw.2.2.2.2.2.2.1 a 5 ha (by decide)) (atyK_at (show atyL[5]? = some (.object "java/lang/String") from rfl)) (any_s O.2.2.2.2.2.1 hS hv) (vp_in_nI hi h2) d (fun H1 j g1 g2 g3 => ?_)
  rw [nI_clamp (Nat.lt_trans hi h2)] at g1
  exact kk H1 _ ls (hw.setR (ty := 5) ha (by decide) g1 g2 g3) (hS.put g2 g3 (hw.base (by rw [ha]; decide))) h
theorem kenv.nN {E : w_E} {U : State} {C D : String} (hf : Cond.not (.castable C D) ∈ flatC (Jvm.Cond.and given_1 narrow_1)) (hk : kenv E U) : va_Nc C D U := va_Nc.moved hk.2.1.alike (va_Nc.of (flat_of_before _ hk.1.1 _ hf))
theorem iae_nse_in : Cond.not (.castable "java/lang/IllegalArgumentException" "java/util/NoSuchElementException") ∈ flatC (Jvm.Cond.and given_1 narrow_1) := by decide +kernel
