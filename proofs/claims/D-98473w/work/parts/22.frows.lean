/-! ROWS of full walks: the world may change in all; U: what is left of the room -/
set_option maxRecDepth 100000
/-- what is thrown: the thing, its class, the world -/
abbrev w_Xp : Type := Nat → String → Nat → (Nat → Nat) → (Nat → Nat) → w_V → w_P → Prop
def xF (xp : w_Xp) : w_X := fun q En u => xp q En u.1 u.2.1 u.2.2.1 u.2.2.2.1 u.2.2.2.2
theorem kOk.eq {R0 : Room} {k n U U2 : Nat} (h : kOk R0 k n U) (e : U = U2) : kOk R0 k n U2 := by rw [← e]; exact h
theorem kOk.fa {R0 : Room} {k n c U : Nat} (h : kOk R0 k n (c + U)) : k + 8 * c ≤ R0.cells ∧ n + 32 * c ≤ R0.slots := h.f (Nat.le_add_right c U)
theorem kOk.sa {R0 : Room} {k n c U : Nat} (h : kOk R0 k n (c + U)) : kOk R0 (k + 8 * c) (n + 32 * c) U := ⟨by have := h.1; omega, by have := h.2; omega⟩
theorem nwT {z : Nat} {T L : Nat → Nat} {V : w_V} {P : w_P} {t l z1 : Nat} {T1 L1 : Nat → Nat} {V1 : w_V} {P1 : w_P} (h : nwW z T L V P t l z1 T1 L1 V1 P1) : T1 z = t := by rw [h.2.1]; exact up1_s
theorem nwA {z : Nat} {T L : Nat → Nat} {V : w_V} {P : w_P} {ty l z1 : Nat} {T1 L1 : Nat → Nat} {V1 : w_V} {P1 : w_P} (h : nwW z T L V P (1000 + ty) l z1 T1 L1 V1 P1) (hy : ty < 100) : hArr T1 L1 z z 0 l ty := ⟨hy, Or.inr ⟨nwT h, rfl, by rw [h.2.2.1]; exact up1_s.symm, rfl⟩⟩
abbrev qF0 (post : Nat → (Nat → Nat) → (Nat → Nat) → w_V → w_P → Prop) : w_W → Prop := fun u => post u.1 u.2.1 u.2.2.1 u.2.2.2.1 u.2.2.2.2
abbrev qF1 {α : Type} (post : α → Nat → (Nat → Nat) → (Nat → Nat) → w_V → w_P → Prop) : α → w_W → Prop := fun x u => post x u.1 u.2.1 u.2.2.1 u.2.2.2.1 u.2.2.2.2
/-- an answer that isn't null -/
abbrev qFn (post : Nat → Nat → (Nat → Nat) → (Nat → Nat) → w_V → w_P → Prop) : Option Nat → w_W → Prop := fun x u => qN (fun b => post b u.1 u.2.1 u.2.2.1 u.2.2.2.1 u.2.2.2.2) x
abbrev wdF (E : w_E) : w_W → State → Prop := fun u t => wdW E u t.heap
theorem g_startF {l : Launch} {y : MethodName} {cc : ByteArray} {own : String} {nL mc ms : Nat} {ret : Option FieldType} {rm : Room} {E : w_E} {av : List Value} {w : w_W} {Qc : Array Value → State → Outcome → State → Prop} {xp : w_X} (hfl : l.flags = flags0) (hy : plainName y.cls = true) (ho : y.cls = own) (lv : List (Option Value)) (hlen : lv.length = nL) (hlv : ∀ q ∈ lvp 0 lv, q ∈ lv_args 0 av) (hav : (lg_sl av).length ≤ nL)
    (body : ∀ X : Cx, cxL X = l → cxR X = rm → cxE X = E → Okc X cc own nL ret → noTab X → (cxM X).name = y.name → cxMX X Qc xp mc ms → gW X 0 0 w.1 w.2.1 w.2.2.1 w.2.2.2.1 w.2.2.2.2 0 lv []) : vx_Met l y (ws_ y cc nL ret) rm (va_Pc av (fun U => kenv E U ∧ wdW E w U.heap)) Qc (xcX E xp) mc ms (w_A E) := by
  subst ho
  refine vx_ofW (cc := cc) (maxL := nL) (ret := ret) hy rfl ?_
  intro p e s m args below meth c s₁ B hml htab hv
  obtain ⟨rfl, hk, hw⟩ := hv
  have hts := atoms_spec (ws := ws_ y cc nL ret) B.pre
  have hts : ∀ w ∈ lw_all, w.before av.toArray s = true := fun w h => hts w (List.mem_cons_of_mem _ h)
  have hown : s.vm.findClass y.cls = some m.cls := findClass_of_methodNamed B.named
  have hlocks := B.notSynchronized
  have hnm := (name_of_methodNamed B.named B.method).1
  have hl := lv_entry av (n := nL) hav
  rw [lg_entry_eq]
  generalize (lg_sl av ++ List.replicate (nL - (lg_sl av).length) Slot.unset).toArray = ls at hl ⊢
  have hb := body (p, l, e, rm, s, m, av.toArray, below, meth, c, E, vx_MQ below Qc (xcX E xp) av.toArray s mc ms (w_A E)) rfl rfl rfl ⟨B.exec, B.bytes, hml, hown, hts, hk, B.returns, hlocks, hfl⟩ htab hnm rfl
  exact hb s.heap [] ls hw va_S.rf ⟨by rw [hl.1, hlen], hl.2.1, fun q hq => hl.2.2 q (hlv q hq)⟩
section FW
variable {X : Cx} {cc : ByteArray} {own : String} {nL : Nat} {ret : Option FieldType} {k n z : Nat} {T L : Nat → Nat} {V : w_V} {P : w_P} {pc : Nat} {lv : List (Option Value)} {st rest : List Value} {a : Array Value} {c : Nat} {xp : w_Xp} {Qc : Array Value → State → Outcome → State → Prop} {R0 : Room}
theorem gf_out {q : Nat} {En : String} {u : w_W} (O : Okc X cc own nL ret) (hN : noTab X) (hQ : cxMX X Qc (xF xp) R0.cells R0.slots) (hm : k ≤ R0.cells ∧ n ≤ R0.slots) (h : xF xp q En u) : gT X k n u.1 u.2.1 u.2.2.1 u.2.2.2.1 u.2.2.2.2 pc lv q En := gt_out (z := u.1) (T := u.2.1) (L := u.2.2.1) (V := u.2.2.2.1) (P := u.2.2.2.2) O hN hQ hm h
theorem g_fi {post : Int32 → Nat → (Nat → Nat) → (Nat → Nat) → w_V → w_P → Prop} (O : Okc X cc own nL ret) (hN : noTab X) (hQ : cxMX X Qc (xF xp) R0.cells R0.slots) (hm : k + 8 * c ≤ R0.cells ∧ n + 32 * c ≤ R0.slots) (hr : gRunX X k n z T L V P pc lv st rest (8 * c) (32 * c) (va_Qi (qF1 post) (wdF (cxE X)) (w_A (cxE X)) a) (xF xp)) (kk : ∀ (r : Int32) (z2 : Nat) (T2 L2 : Nat → Nat) (V2 : w_V) (P2 : w_P), post r z2 T2 L2 V2 P2 → gW X (k + 8 * c) (n + 32 * c) z2 T2 L2 V2 P2 (pc + 3) lv (.int r :: rest)) : gW X k n z T L V P pc lv st := g_xi (f := fun u => u) hr (fun q En u h => gf_out O hN hQ hm h) (fun r u w => kk r u.1 u.2.1 u.2.2.1 u.2.2.2.1 u.2.2.2.2 w)
theorem g_fv {post : Nat → (Nat → Nat) → (Nat → Nat) → w_V → w_P → Prop} (O : Okc X cc own nL ret) (hN : noTab X) (hQ : cxMX X Qc (xF xp) R0.cells R0.slots) (hm : k + 8 * c ≤ R0.cells ∧ n + 32 * c ≤ R0.slots) (hr : gRunX X k n z T L V P pc lv st rest (8 * c) (32 * c) (va_Qv (qF0 post) (wdF (cxE X)) (w_A (cxE X)) a) (xF xp)) (kk : ∀ (z2 : Nat) (T2 L2 : Nat → Nat) (V2 : w_V) (P2 : w_P), post z2 T2 L2 V2 P2 → gW X (k + 8 * c) (n + 32 * c) z2 T2 L2 V2 P2 (pc + 3) lv rest) : gW X k n z T L V P pc lv st := g_xv (f := fun u => u) hr (fun q En u h => gf_out O hN hQ hm h) (fun u w => kk u.1 u.2.1 u.2.2.1 u.2.2.2.1 u.2.2.2.2 w)
theorem g_fq {post : Nat → Nat → (Nat → Nat) → (Nat → Nat) → w_V → w_P → Prop} (O : Okc X cc own nL ret) (hN : noTab X) (hQ : cxMX X Qc (xF xp) R0.cells R0.slots) (hm : k + 8 * c ≤ R0.cells ∧ n + 32 * c ≤ R0.slots) (hr : gRunX X k n z T L V P pc lv st rest (8 * c) (32 * c) (va_Qq (qFn post) (wdF (cxE X)) (w_A (cxE X)) a) (xF xp)) (kk : ∀ (r z2 : Nat) (T2 L2 : Nat → Nat) (V2 : w_V) (P2 : w_P), post r z2 T2 L2 V2 P2 → gW X (k + 8 * c) (n + 32 * c) z2 T2 L2 V2 P2 (pc + 3) lv (.ref r :: rest)) : gW X k n z T L V P pc lv st := g_xq (f := fun u => u) hr (fun q En u h => gf_out O hN hQ hm h) (fun r u w => by
  obtain ⟨b, rfl, w⟩ := w
  exact kk b u.1 u.2.1 u.2.2.1 u.2.2.2.1 u.2.2.2.2 w)
/-- a method that throws but makes nothing, called here -/
def xFB (z : Nat) (T L : Nat → Nat) (xp : w_Xp) : String → w_V → w_P → Prop := fun En V2 P2 => ∀ q z2, z ≤ z2 → xp q En z2 T L V2 P2
theorem gf_outB {q : Nat} {En : String} {u : w_W} (O : Okc X cc own nL ret) (hN : noTab X) (hQ : cxMX X Qc (xF xp) R0.cells R0.slots) (hm : k ≤ R0.cells ∧ n ≤ R0.slots) (h : xB z T L (xFB z T L xp) q En u) : gT X k n u.1 u.2.1 u.2.2.1 u.2.2.2.1 u.2.2.2.2 pc lv q En := by
  obtain ⟨u1, u2, u3, u4, u5⟩ := u
  obtain ⟨h1, h2, h3, h4⟩ := h
  have h2 : u2 = T := h2
  have h3 : u3 = L := h3
  subst h2 h3
  exact gt_out (z := u1) (T := u2) (L := u3) (V := u4) (P := u5) O hN hQ hm (h4 q u1 h1)
theorem g_bv0 {post : Prop} (O : Okc X cc own nL ret) (hN : noTab X) (hQ : cxMX X Qc (xF xp) R0.cells R0.slots) (hm : k + 8 * c ≤ R0.cells ∧ n + 32 * c ≤ R0.slots) (hr : gRunX X k n z T L V P pc lv st rest (8 * c) (32 * c) (va_Qv (fun (_ : Unit) => post) (fun u t => wdW (cxE X) (xW0 z T L V P u) t.heap) (w_A (cxE X)) a) (xB z T L (xFB z T L xp))) (kk : post → gW X (k + 8 * c) (n + 32 * c) z T L V P (pc + 3) lv rest) : gW X k n z T L V P pc lv st := g_xv hr (fun q En u h => gf_outB O hN hQ hm h) (fun _ w => kk w)
end FW
