/-! ROWS of methods with handlers; the law's longs and its script -/
set_option maxRecDepth 100000
def hTab (X : Cx) (hh : List (Nat × Nat × Nat × Nat)) : Prop := (cxc X).exceptionTable.toList = tableOf hh
theorem g_startH {l : Launch} {y : MethodName} {cc : ByteArray} {own : String} {nL mc ms : Nat} {ret : Option FieldType} {rm : Room} {E : w_E} {av : List Value} {w : w_W} {Qc : Array Value → State → Outcome → State → Prop} {xp : w_X} {hh : List (Nat × Nat × Nat × Nat)} (hfl : l.flags = flags0) (hy : plainName y.cls = true) (ho : y.cls = own) (lv : List (Option Value)) (hlen : lv.length = nL) (hlv : ∀ q ∈ lvp 0 lv, q ∈ lv_args 0 av) (hav : (lg_sl av).length ≤ nL)
    (body : ∀ X : Cx, cxL X = l → cxR X = rm → cxE X = E → Okc X cc own nL ret → hTab X hh → cxMX X Qc xp mc ms → gW X 0 0 w.1 w.2.1 w.2.2.1 w.2.2.2.1 w.2.2.2.2 0 lv []) : vx_Met l y (wsW_ y cc nL ret hh) rm (va_Pc av (fun U => kenv E U ∧ wdW E w U.heap)) Qc (xcX E xp) mc ms (w_A E) := by
  subst ho
  refine vx_ofWH (cc := cc) (maxL := nL) (ret := ret) (hh := hh) hy rfl ?_
  intro p e s m args below meth c s₁ B hml hv
  obtain ⟨rfl, hk, hw⟩ := hv
  have hts := atoms_spec (ws := wsW_ y cc nL ret hh) B.pre
  have htab : c.exceptionTable.toList = tableOf hh := vx_table (x := y) B (hts _ List.mem_cons_self)
  have hts : ∀ w ∈ lw_all, w.before av.toArray s = true := fun w h => hts w (List.mem_cons_of_mem _ h)
  have hown : s.vm.findClass y.cls = some m.cls := findClass_of_methodNamed B.named
  have hlocks := B.notSynchronized
  have hl := lv_entry av (n := nL) hav
  rw [lg_entry_eq]
  generalize (lg_sl av ++ List.replicate (nL - (lg_sl av).length) Slot.unset).toArray = ls at hl ⊢
  have hb := body (p, l, e, rm, s, m, av.toArray, below, meth, c, E, vx_MQ below Qc (xcX E xp) av.toArray s mc ms (w_A E)) rfl rfl rfl ⟨B.exec, B.bytes, hml, hown, hts, hk, B.returns, hlocks, hfl⟩ htab rfl
  exact hb s.heap [] ls hw va_S.rf ⟨by rw [hl.1, hlen], hl.2.1, fun q hq => hl.2.2 q (hlv q hq)⟩
section HW
variable {X : Cx} {cc : ByteArray} {own : String} {nL : Nat} {ret : Option FieldType} {k n z : Nat} {T L : Nat → Nat} {V : w_V} {P : w_P} {pc : Nat} {lv : List (Option Value)} {st rest : List Value} {a : Array Value} {c : Nat} {xp : w_Xp} {Qc : Array Value → State → Outcome → State → Prop} {R0 : Room} {hh : List (Nat × Nat × Nat × Nat)}
theorem gh_out {q : Nat} {En : String} {mc ms : Nat} {x0 : w_X} (O : Okc X cc own nL ret) (hT : hTab X hh) (hc : (tableOf hh).all (fun x => !covers x pc) = true) (hQ : cxMX X Qc x0 mc ms) (hm : k ≤ mc ∧ n ≤ ms) (hp : x0 q En (z, T, L, V, P)) : gT X k n z T L V P pc lv q En := by
  intro H locs ls ce rest hw hS h hce hcv hcl
  rw [show cxQ X = _ from hQ]
  exact vx_out (fun x hx => by
    rw [hT] at hx
    have := List.all_eq_true.mp hc x hx
    cases hcx : covers x pc with
    | false => rfl
    | true =>
      rw [hcx] at this
      cases this) O.2.2.2.2.2.2.2.1 hce hcv hcl (fun t ht hW => ⟨(z, T, L, V, P), hp, by show wdW (cxE X) (z, T, L, V, P) t.heap; rw [ht]; exact hw, hS.F ht⟩) hS.2.2 hm.1 hm.2
/-- the first handler's -/
theorem gh_catch1 {q s e h t : Nat} {En : String} {r : List (Nat × Nat × Nat × Nat)} (O : Okc X cc own nL ret) (hT : hTab X ((s, e, h, t) :: r)) (hx : covers ⟨s, e, h, t⟩ pc = true) (h0 : t ≠ 0) (hl : Cond.classLink own t En ∈ lw_all) (hc : Cond.castable En En ∈ lw_tbl) (kk : gW X k n z T L V P h lv [.ref q]) : gT X k n z T L V P pc lv q En := by
  intro H locs ls ce rest hw hS hls hce hcv hcl
  exact vx_catch O.2.2.2.1 [] ⟨s, e, h, t⟩ (tableOf r) hT (fun z hz => by cases hz) hx h0 (O.2.2.2.2.1 _ hl) (va_Nw.use rfl (O.2.2.2.2.2.1.nC hc)) hce hcv hcl (kk H locs ls hw hS hls)
/-- the second's: the first doesn't catch it -/
theorem gh_catch2 {q s e h t s1 e1 h1 t1 : Nat} {En E1 : String} {r : List (Nat × Nat × Nat × Nat)} (O : Okc X cc own nL ret) (hT : hTab X ((s1, e1, h1, t1) :: (s, e, h, t) :: r)) (h01 : t1 ≠ 0) (hl1 : Cond.classLink own t1 E1 ∈ lw_all) (hn : va_Nc En E1 (cxs X)) (hx : covers ⟨s, e, h, t⟩ pc = true) (h0 : t ≠ 0) (hl : Cond.classLink own t En ∈ lw_all) (hc : Cond.castable En En ∈ lw_tbl) (kk : gW X k n z T L V P h lv [.ref q]) : gT X k n z T L V P pc lv q En := by
  intro H locs ls ce rest hw hS hls hce hcv hcl
  exact vx_catch O.2.2.2.1 [⟨s1, e1, h1, t1⟩] ⟨s, e, h, t⟩ (tableOf r) hT (fun z hz => by
    rcases List.mem_cons.mp hz with rfl | hz
    · exact Or.inr ⟨h01, E1, O.2.2.2.2.1 _ hl1, hn⟩
    · cases hz) hx h0 (O.2.2.2.2.1 _ hl) (va_Nw.use rfl (O.2.2.2.2.2.1.nC hc)) hce hcv hcl (kk H locs ls hw hS hls)
end HW
