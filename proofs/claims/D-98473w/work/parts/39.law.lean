/-! printed by gen/lgen.py: the law's entry and its loop -/
set_option maxRecDepth 100000
def R_law : String := "ApartBenchLaw"
def lw_P (b : Addr) (xs : List Int32) (args : Array Value) (s : State) : Prop := args = #[.ref b] ∧ s.IntsAt b xs ∧ xs.length ≤ 384 ∧ (Jvm.Cond.and given_1 narrow_1).before args s = true
def lw_Q (_ : Array Value) (s : State) (o : Outcome) (t : State) : Prop := o = .returned (some (.int 1)) ∧ Framed s o t [] 1200128 5501098
def lw_Z (below : List Frame) (a : Array Value) (s : State) : State → Prop := fun t => ∃ o, t.status = .running ∧ Ended t below o ∧ lw_Q a s o t
/-- the law's own end, with 1 on the stack, nothing written that was there before, its room as the claim has it -/
theorem lw_ret {p : Program} {l : Launch} {e : Env} {s : State} {m : MethodId} {below : List Frame} {meth : Method} {c : Code} {b : Nat} (hx : p.tables.exec = Jvm.exec) (hb : c.code = code) (hr : meth.sig.returnType = ret) (hlocks : meth.locks = false) {pc : Nat} {H : Heap} {ls : Array Slot} (hdg : decode code pc = .ok (.ireturn, 1)) : W p l e room_1 s m #[Value.ref b] below meth c H [] 1200128 5501098 (lw_Z below #[Value.ref b] s) (F0 m pc ls [.int 1]) := by
  intro T hT X
  obtain ⟨fs, hret, hrun, hended, hW, hframe⟩ := X.leave (v := some (.int 1)) (hlocks := hlocks) (fun h => by rw [hr] at h; cases h)
  have hmeth' : T.vm.method? m = some meth := X.method'
  refine ⟨T.setFrames fs, ?_, .returned (some (.int 1)), hrun, hended, rfl, ⟨_, rfl⟩, hW, hframe⟩
  jvm_step X.here [X.here.top, hx, hb, hdg, hmeth', hr, ret, narrow_b1]
  (try refine ⟨rfl, ?_⟩); (try refine ⟨rfl, ?_⟩)
  first | (intro acts; rw [hret _ acts rfl rfl rfl]) | rw [hret _ _ rfl rfl rfl]
  exact Steps.refl _
/-- what holds at the law's entry: the machine, the code, the tables' words (any of lw_tbl by 'hts w (by decide +kernel)'), the script of L ints xs at the cell b, what the Statement gives of the start (any of its parts by flat_of_before) -/
def lw_At (p : Program) (s : State) (m : MethodId) (meth : Method) (c : Code) (b L : Nat) (xs : Nat → Int32) : Prop :=
  p.tables.exec = Jvm.exec ∧ c.code = code ∧ meth.sig.returnType = ret ∧ c.maxLocals = 7 ∧ s.vm.findClass R_law = some m.cls ∧ (∀ w ∈ lw_tbl, w.before #[Value.ref b] s = true) ∧ va_X b L xs s s.heap ∧ b < s.heap.size ∧ meth.locks = false ∧ (Jvm.Cond.and given_1 narrow_1).before #[Value.ref b] s = true
/-- from the entry -/
def wL_entry (E : w_E) (Ls : Nat) (xs : Nat → Int32) (U z : Nat) (T L : Nat → Nat) (V : w_V) (P : w_P) : Prop :=
  ∃ U1 : Nat, U = 1 + U1 ∧ nwQ z T L V P 52 0 (fun (x z : Nat) (T L : Nat → Nat) (V : w_V) (P : w_P) => ∃ c2 U2 : Nat, U1 = c2 + U2 ∧ wFX1_init E.2.2.2.2 c2 z T L V P x (fun (z : Nat) (T L : Nat → Nat) (V : w_V) (P : w_P) => T x = 2 ∧
  ∃ U3 : Nat, U2 = 2 + U3 ∧ nwQ z T L V P 51 0 (fun (mb z : Nat) (T L : Nat → Nat) (V : w_V) (P : w_P) => T x = 2 ∧ ∃ c4 U4 : Nat, U3 = c4 + U4 ∧ wFX8_init E c4 z T L V P mb (fun (z : Nat) (T L : Nat → Nat) (V : w_V) (P : w_P) => T x = 2 ∧
  ∃ U5 : Nat, U4 = 1 + U5 ∧ nwQ z T L V P 3003 1 (fun (o z : Nat) (T L : Nat → Nat) (V : w_V) (P : w_P) => T x = 2 ∧ T o = 3003 ∧ mOk E T L P mb ∧ ∃ f, wL_loop E x mb o Ls xs f 0 U5 z T L V P)))))
theorem lg_leave {X : Cx} {b : Nat} (O : Okc X cL_law RX0 7 (some .boolean)) (hR : cxR X = room_1) (ha : cxa X = #[Value.ref b]) (hQ : cxQ X = lw_Z (cxb X) #[Value.ref b] (cxs X)) (hE : (cxE X).1 = cxs X) {k n U z : Nat} {T L : Nat → Nat} {V : w_V} {P : w_P} {pc : Nat} {lv : List (Option Value)} (hk : kOk room_1 k n U) (d : decode code pc = .ok (.ireturn, 1)) : gW X k n z T L V P pc lv [.int 1] := by
  intro H locs ls hw hS h
  obtain ⟨p, l, e, R, s, m, args, below, meth, c, E, Q⟩ := X
  dsimp only [cxR, cxa, cxQ, cxE, cxs, cxb] at hR ha hQ hE hS
  subst hR ha hQ
  have hm := kOk.m hk
  refine va_forget (fun q hq => ?_) (W.widen hm.1 hm.2 (lw_ret O.1 O.2.1 O.2.2.2.2.2.2.1 O.2.2.2.2.2.2.2.1 d))
  have h2 := hS.2.2 q hq
  have h3 : E.1.heap.size ≤ q.base := h2
  rw [hE] at h3
  exact h3
theorem lg_idx {Ls i : Nat} (hL : Ls ≤ 384) (hi : i ≤ 400) : (nI Ls - 6 < nI i) ↔ ¬ i + 6 ≤ Ls := by
  by_cases h6 : 6 ≤ Ls
  · obtain ⟨k, rfl⟩ : ∃ k, Ls = k + 6 := ⟨Ls - 6, by omega⟩
    have e : nI (k + 6) - 6 = nI k := by
      rw [← nI_add, show nI 6 = 6 from rfl]
      exact Int32.add_sub_cancel _ _
    rw [e, nI_ltI (by omega) (by omega)]
    omega
  · have h0 : nI Ls - 6 < 0 := by
      rcases (show Ls = 0 ∨ Ls = 1 ∨ Ls = 2 ∨ Ls = 3 ∨ Ls = 4 ∨ Ls = 5 by omega) with h | h | h | h | h | h <;> subst h <;> decide
    have h1 : (0 : Int32) ≤ nI i := nI_pos' (by omega)
    constructor
    · intro _; omega
    · intro _
      rw [Int32.lt_iff_toInt_lt] at h0 ⊢
      rw [Int32.le_iff_toInt_le] at h1
      omega
set_option maxHeartbeats 4000000 in
theorem vL_call {X : Cx} (O : Okc X cL_law RX0 7 (some .boolean)) (hRm : cxR X = room_1) {b Ls : Nat} {xs : Nat → Int32} (hS : lwS X b Ls xs) {k n U z : Nat} {T L : Nat → Nat} {V : w_V} {P : w_P} (i : Nat) (hi : i + 6 ≤ Ls) (x mb o : Nat) (hx : T x = 2) (ho : T o = 3003) (hl : 0 < L o ∧ L o < 2147483648) (hm : mOk (cxE X) T L P mb) (post : Nat → Nat → (Nat → Nat) → (Nat → Nat) → w_V → w_P → Prop) (hk : kOk room_1 k n U)
    (hpost : ∀ (k n U z : Nat) (T L : Nat → Nat) (V : w_V) (P : w_P), kOk room_1 k n U → T x = 2 → T o = 3003 → mOk (cxE X) T L P mb → post U z T L V P → gW X k n z T L V P 2211 [some (.ref b), some (.ref x), some (.ref mb), some (.ref o), some (.int (nI i)), none, none] [])
    (w : wL_call (cxE X) U z T L V P x mb o (xs i &&& 63) (xs (i + 1)) (xs (i + 2)) (xs (i + 3)) (xs (i + 4)) (xs (i + 5)) post) : gW X k n z T L V P 40 [some (.ref b), some (.ref x), some (.ref mb), some (.ref o), some (.int (nI i)), none, none] [.int (xs i &&& 63)] := by
  unfold wL_call at w
  by_cases h0 : xs i &&& 63 = 0
  · rw [if_pos h0] at w
    refine g_tabE (tgt := 188) O h0 dL_law_40 (by decide) (by decide) rfl (by decide) ?_
    exact vL_feed O hRm hS i hi x mb o hx ho hl hm post hk hpost w
  rw [if_neg h0] at w
  by_cases h1 : xs i &&& 63 = 1
  · rw [if_pos h1] at w
    refine g_tabE (tgt := 261) O h1 dL_law_40 (by decide) (by decide) rfl (by decide) ?_
    exact vL_land O hRm hS i hi x mb o hx ho hl hm post hk hpost w
  rw [if_neg h1] at w
  by_cases h2 : xs i &&& 63 = 2
  · rw [if_pos h2] at w
    refine g_tabE (tgt := 317) O h2 dL_law_40 (by decide) (by decide) rfl (by decide) ?_
    exact vL_fault O hRm hS i hi x mb o hx ho hl hm post hk hpost w
  rw [if_neg h2] at w
  by_cases h3 : xs i &&& 63 = 3
  · rw [if_pos h3] at w
    refine g_tabE (tgt := 330) O h3 dL_law_40 (by decide) (by decide) rfl (by decide) ?_
    exact vL_count O hRm hS i hi x mb o hx ho hl hm post hk hpost w
  rw [if_neg h3] at w
  by_cases h4 : xs i &&& 63 = 4
  · rw [if_pos h4] at w
    refine g_tabE (tgt := 386) O h4 dL_law_40 (by decide) (by decide) rfl (by decide) ?_
    exact vL_far O hRm hS i hi x mb o hx ho hl hm post hk hpost w
  rw [if_neg h4] at w
  by_cases h5 : xs i &&& 63 = 5
  · rw [if_pos h5] at w
    refine g_tabE (tgt := 466) O h5 dL_law_40 (by decide) (by decide) rfl (by decide) ?_
    exact vL_judge O hRm hS i hi x mb o hx ho hl hm post hk hpost w
  rw [if_neg h5] at w
  by_cases h6 : xs i &&& 63 = 6
  · rw [if_pos h6] at w
    refine g_tabE (tgt := 534) O h6 dL_law_40 (by decide) (by decide) rfl (by decide) ?_
    exact vL_stop O hRm hS i hi x mb o hx ho hl hm post hk hpost w
  rw [if_neg h6] at w
  by_cases h7 : xs i &&& 63 = 7
  · rw [if_pos h7] at w
    refine g_tabE (tgt := 614) O h7 dL_law_40 (by decide) (by decide) rfl (by decide) ?_
    exact vL_where O hRm hS i hi x mb o hx ho hl hm post hk hpost w
  rw [if_neg h7] at w
  by_cases h8 : xs i &&& 63 = 8
  · rw [if_pos h8] at w
    refine g_tabE (tgt := 682) O h8 dL_law_40 (by decide) (by decide) rfl (by decide) ?_
    exact vL_proof O hRm hS i hi x mb o hx ho hl hm post hk hpost w
  rw [if_neg h8] at w
  by_cases h9 : xs i &&& 63 = 9
  · rw [if_pos h9] at w
    refine g_tabE (tgt := 750) O h9 dL_law_40 (by decide) (by decide) rfl (by decide) ?_
    exact vL_said O hRm hS i hi x mb o hx ho hl hm post hk hpost w
  rw [if_neg h9] at w
  by_cases h10 : xs i &&& 63 = 10
  · rw [if_pos h10] at w
    refine g_tabE (tgt := 830) O h10 dL_law_40 (by decide) (by decide) rfl (by decide) ?_
    exact vL_met O hRm hS i hi x mb o hx ho hl hm post hk hpost w
  rw [if_neg h10] at w
  by_cases h11 : xs i &&& 63 = 11
  · rw [if_pos h11] at w
    refine g_tabE (tgt := 898) O h11 dL_law_40 (by decide) (by decide) rfl (by decide) ?_
    exact vL_guilty O hRm hS i hi x mb o hx ho hl hm post hk hpost w
  rw [if_neg h11] at w
  by_cases h12 : xs i &&& 63 = 12
  · rw [if_pos h12] at w
    refine g_tabE (tgt := 966) O h12 dL_law_40 (by decide) (by decide) rfl (by decide) ?_
    exact vL_news O hRm hS i hi x mb o hx ho hl hm post hk hpost w
  rw [if_neg h12] at w
  by_cases h13 : xs i &&& 63 = 13
  · rw [if_pos h13] at w
    refine g_tabE (tgt := 1034) O h13 dL_law_40 (by decide) (by decide) rfl (by decide) ?_
    exact vL_start O hRm hS i hi x mb o hx ho hl hm post hk hpost w
  rw [if_neg h13] at w
  by_cases h14 : xs i &&& 63 = 14
  · rw [if_pos h14] at w
    refine g_tabE (tgt := 1102) O h14 dL_law_40 (by decide) (by decide) rfl (by decide) ?_
    exact vL_inn O hRm hS i hi x mb o hx ho hl hm post hk hpost w
  rw [if_neg h14] at w
  by_cases h15 : xs i &&& 63 = 15
  · rw [if_pos h15] at w
    refine g_tabE (tgt := 1193) O h15 dL_law_40 (by decide) (by decide) rfl (by decide) ?_
    exact vL_word O hRm hS i hi x mb o hx ho hl hm post hk hpost w
  rw [if_neg h15] at w
  by_cases h16 : xs i &&& 63 = 16
  · rw [if_pos h16] at w
    refine g_tabE (tgt := 1273) O h16 dL_law_40 (by decide) (by decide) rfl (by decide) ?_
    exact vL_feast O hRm hS i hi x mb o hx ho hl hm post hk hpost w
  rw [if_neg h16] at w
  by_cases h17 : xs i &&& 63 = 17
  · rw [if_pos h17] at w
    refine g_tabE (tgt := 1353) O h17 dL_law_40 (by decide) (by decide) rfl (by decide) ?_
    exact vL_flood O hRm hS i hi x mb o hx ho hl hm post hk hpost w
  rw [if_neg h17] at w
  by_cases h18 : xs i &&& 63 = 18
  · rw [if_pos h18] at w
    refine g_tabE (tgt := 1433) O h18 dL_law_40 (by decide) (by decide) rfl (by decide) ?_
    exact vL_undo O hRm hS i hi x mb o hx ho hl hm post hk hpost w
  rw [if_neg h18] at w
  by_cases h19 : xs i &&& 63 = 19
  · rw [if_pos h19] at w
    refine g_tabE (tgt := 1446) O h19 dL_law_40 (by decide) (by decide) rfl (by decide) ?_
    exact vL_burn O hRm hS i hi x mb o hx ho hl hm post hk hpost w
  rw [if_neg h19] at w
  by_cases h20 : xs i &&& 63 = 20
  · rw [if_pos h20] at w
    refine g_tabE (tgt := 1502) O h20 dL_law_40 (by decide) (by decide) rfl (by decide) ?_
    exact vL_when O hRm hS i hi x mb o hx ho hl hm post hk hpost w
  rw [if_neg h20] at w
  by_cases h21 : xs i &&& 63 = 21
  · rw [if_pos h21] at w
    refine g_tabE (tgt := 1570) O h21 dL_law_40 (by decide) (by decide) rfl (by decide) ?_
    exact vL_round O hRm hS i hi x mb o hx ho hl hm post hk hpost w
  rw [if_neg h21] at w
  by_cases h22 : xs i &&& 63 = 22
  · rw [if_pos h22] at w
    refine g_tabE (tgt := 1626) O h22 dL_law_40 (by decide) (by decide) rfl (by decide) ?_
    exact vL_free O hRm hS i hi x mb o hx ho hl hm post hk hpost w
  rw [if_neg h22] at w
  by_cases h23 : xs i &&& 63 = 23
  · rw [if_pos h23] at w
    refine g_tabE (tgt := 1694) O h23 dL_law_40 (by decide) (by decide) rfl (by decide) ?_
    exact vL_mercy O hRm hS i hi x mb o hx ho hl hm post hk hpost w
  rw [if_neg h23] at w
  by_cases h24 : xs i &&& 63 = 24
  · rw [if_pos h24] at w
    refine g_tabE (tgt := 1750) O h24 dL_law_40 (by decide) (by decide) rfl (by decide) ?_
    exact vL_deaf O hRm hS i hi x mb o hx ho hl hm post hk hpost w
  rw [if_neg h24] at w
  by_cases h25 : xs i &&& 63 = 25
  · rw [if_pos h25] at w
    refine g_tabE (tgt := 1806) O h25 dL_law_40 (by decide) (by decide) rfl (by decide) ?_
    exact vL_soonest O hRm hS i hi x mb o hx ho hl hm post hk hpost w
  rw [if_neg h25] at w
  by_cases h26 : xs i &&& 63 = 26
  · rw [if_pos h26] at w
    refine g_tabE (tgt := 1862) O h26 dL_law_40 (by decide) (by decide) rfl (by decide) ?_
    exact vL_see O hRm hS i hi x mb o hx ho hl hm post hk hpost w
  rw [if_neg h26] at w
  by_cases h27 : xs i &&& 63 = 27
  · rw [if_pos h27] at w
    refine g_tabE (tgt := 1958) O h27 dL_law_40 (by decide) (by decide) rfl (by decide) ?_
    exact vL_forget O hRm hS i hi x mb o hx ho hl hm post hk hpost w
  rw [if_neg h27] at w
  by_cases h28 : xs i &&& 63 = 28
  · rw [if_pos h28] at w
    refine g_tabE (tgt := 1971) O h28 dL_law_40 (by decide) (by decide) rfl (by decide) ?_
    exact vL_sent O hRm hS i hi x mb o hx ho hl hm post hk hpost w
  rw [if_neg h28] at w
  by_cases h29 : xs i &&& 63 = 29
  · rw [if_pos h29] at w
    refine g_tabE (tgt := 2039) O h29 dL_law_40 (by decide) (by decide) rfl (by decide) ?_
    exact vL_game O hRm hS i hi x mb o hx ho hl hm post hk hpost w
  rw [if_neg h29] at w
  by_cases h30 : xs i &&& 63 = 30
  · rw [if_pos h30] at w
    refine g_tabE (tgt := 2107) O h30 dL_law_40 (by decide) (by decide) rfl (by decide) ?_
    exact vL_season O hRm hS i hi x mb o hx ho hl hm post hk hpost w
  rw [if_neg h30] at w
  by_cases h31 : xs i &&& 63 = 31
  · rw [if_pos h31] at w
    refine g_tabE (tgt := 2187) O h31 dL_law_40 (by decide) (by decide) rfl (by decide) ?_
    exact vL_image O hRm hS i hi x mb o hx ho hl hm post hk hpost w
  rw [if_neg h31] at w
  by_cases h32 : xs i &&& 63 = 32
  · rw [if_pos h32] at w
    refine g_tabE (tgt := 2198) O h32 dL_law_40 (by decide) (by decide) rfl (by decide) ?_
    exact vL_restore O hRm hS i hi x mb o hx ho hl hm post hk hpost w
  rw [if_neg h32] at w
  refine g_tabOut (tgt := 2211) O dL_law_40 (tab_out (fun j g8 g9 e => ?_)) (by decide) (hpost _ _ _ _ _ _ _ _ hk hx ho hm w)
  obtain ⟨j, rfl⟩ : ∃ j9 : Nat, j = (j9 : Int) := ⟨j.toNat, by omega⟩
  have hj : j ≤ 32 := by omega
  rcases (show j = 0 ∨ j = 1 ∨ j = 2 ∨ j = 3 ∨ j = 4 ∨ j = 5 ∨ j = 6 ∨ j = 7 ∨ j = 8 ∨ j = 9 ∨ j = 10 ∨ j = 11 ∨ j = 12 ∨ j = 13 ∨ j = 14 ∨ j = 15 ∨ j = 16 ∨ j = 17 ∨ j = 18 ∨ j = 19 ∨ j = 20 ∨ j = 21 ∨ j = 22 ∨ j = 23 ∨ j = 24 ∨ j = 25 ∨ j = 26 ∨ j = 27 ∨ j = 28 ∨ j = 29 ∨ j = 30 ∨ j = 31 ∨ j = 32 by omega) with h | h | h | h | h | h | h | h | h | h | h | h | h | h | h | h | h | h | h | h | h | h | h | h | h | h | h | h | h | h | h | h | h <;> subst h
  · exact h0 e
  · exact h1 e
  · exact h2 e
  · exact h3 e
  · exact h4 e
  · exact h5 e
  · exact h6 e
  · exact h7 e
  · exact h8 e
  · exact h9 e
  · exact h10 e
  · exact h11 e
  · exact h12 e
  · exact h13 e
  · exact h14 e
  · exact h15 e
  · exact h16 e
  · exact h17 e
  · exact h18 e
  · exact h19 e
  · exact h20 e
  · exact h21 e
  · exact h22 e
  · exact h23 e
  · exact h24 e
  · exact h25 e
  · exact h26 e
  · exact h27 e
  · exact h28 e
  · exact h29 e
  · exact h30 e
  · exact h31 e
  · exact h32 e
set_option maxHeartbeats 4000000 in
theorem vL_loop {X : Cx} (O : Okc X cL_law RX0 7 (some .boolean)) (hRm : cxR X = room_1) {b Ls : Nat} {xs : Nat → Int32} (hS : lwS X b Ls xs) (ha : cxa X = #[Value.ref b]) (hQ : cxQ X = lw_Z (cxb X) #[Value.ref b] (cxs X)) (hE : (cxE X).1 = cxs X) (x mb o : Nat) : ∀ (f i k n U z : Nat) (T L : Nat → Nat) (V : w_V) (P : w_P), i ≤ 390 → kOk room_1 k n U → T x = 2 → T o = 3003 → mOk (cxE X) T L P mb → wL_loop (cxE X) x mb o Ls xs f i U z T L V P → gW X k n z T L V P 23 [some (.ref b), some (.ref x), some (.ref mb), some (.ref o), some (.int (nI i)), none, none] [] := by
  intro f
  induction f with
  | zero =>
    intro i k n U z T L V P hi hk hx ho hm w
    exact w.elim
  | succ f ih =>
    intro i k n U z T L V P hi hk hx ho hm w
    unfold wL_loop at w
    obtain ⟨hX, hb, hbA, hLs⟩ := id hS
    refine g_iload O dL_law_23 rfl ?_
    refine g_aload_n O dL_law_25 rfl ?_
    refine gl_slen O hX hb hbA dL_law_26 ?_
    refine g_bipush (v := 6) O dL_law_27 (by decide) ?_
    refine g_isub O dL_law_29 ?_
    by_cases hc : i + 6 ≤ Ls
    · rw [if_pos hc] at w
      obtain ⟨hl1, hl2, w⟩ := w
      refine g_icmp_gt_f O (fun h => (lg_idx hLs (by omega)).mp h hc) dL_law_30 2217 (by decide) ?_
      refine g_aload_n O dL_law_33 rfl ?_
      refine g_iload O dL_law_34 rfl ?_
      refine gl_sld (nn := i) O hX hb hbA (by omega) (by omega) rfl dL_law_36 ?_
      refine g_bipush (v := 63) O dL_law_37 (by decide) ?_
      refine g_iand O dL_law_39 ?_
      refine vL_call O hRm hS i hc x mb o hx ho ⟨hl1, hl2⟩ hm _ hk (fun k n U z T L V P hk hx ho hm w => ?_) w
      refine g_iinc (v := nI (i + 6)) O dL_law_2211 rfl rfl (nI_add i 6) (lv' := [some (.ref b), some (.ref x), some (.ref mb), some (.ref o), some (.int (nI (i + 6))), none, none]) rfl ?_
      refine g_goto (tgt := 23) O dL_law_2214 (by decide) ?_
      exact ih (i + 6) k n U z T L V P (by omega) hk hx ho hm w
    · refine g_icmp_gt_t (tgt := 2217) O ((lg_idx hLs (by omega)).mpr hc) dL_law_30 (by decide) ?_
      refine g_iconst (v := 1) O dL_law_2217 (by decide) ?_
      exact lg_leave O hRm ha hQ hE hk dL_law_2218
set_option maxHeartbeats 4000000 in
theorem vL_entry {X : Cx} (O : Okc X cL_law RX0 7 (some .boolean)) (hRm : cxR X = room_1) {b Ls : Nat} {xs : Nat → Int32} (hS : lwS X b Ls xs) (ha : cxa X = #[Value.ref b]) (hQ : cxQ X = lw_Z (cxb X) #[Value.ref b] (cxs X)) (hE : (cxE X).1 = cxs X) {U z : Nat} {T L : Nat → Nat} {V : w_V} {P : w_P} (hk : kOk room_1 0 0 U) (w : wL_entry (cxE X) Ls xs U z T L V P) : gW X 0 0 z T L V P 0 [some (.ref b), none, none, none, none, none, none] [] := by
  unfold wL_entry at w
  obtain ⟨U1, e1, w⟩ := w
  have hk9 := kOk.eq hk e1
  refine gq_new (lay := 51) (u := 1) O hRm ck1 (by decide) rfl (by decide +kernel) q147 q148 q106 hk9 (by decide) (by decide) dL_law_0 (fun x z T L V P hk hnx => ?_)
  replace w := w x z T L V P hnx
  refine g_dup O dL_law_3 rfl ?_
  obtain ⟨c2, U2, e2, w⟩ := w
  have hk9 := kOk.eq hk e2
  refine g_mv (gr_I (nA := 0) (As := []) (rest := [.ref x]) O hRm (kFX1_init _ O.2.2.2.2.2.2.2.2 (cxE X) _ _ _ _ _ _ x hnx.t _ w) (lw_meth q151) q149 q150 q106 rfl rfl rfl (by decide +kernel) ⟨Nat.le_of_ble_eq_true rfl, Nat.le_of_ble_eq_true rfl⟩ rfl rfl rfl (Nat.le_of_ble_eq_true rfl) dL_law_4 (kOk.fa hk9)) (fun z T L V P w => ?_)
  have hk := kOk.sa hk9
  obtain ⟨hx, w⟩ := w
  refine g_astore_n O dL_law_7 (Nat.le_of_ble_eq_true rfl) rfl (lv' := [some (.ref b), some (.ref x), none, none, none, none, none]) rfl ?_
  obtain ⟨U3, e3, w⟩ := w
  have hk9 := kOk.eq hk e3
  refine gq_new (lay := 50) (u := 2) O hRm ck0 (by decide) rfl (by decide +kernel) q1712 q1713 q134 hk9 (by decide) (by decide) dL_law_8 (fun mb z T L V P hk hnm => ?_)
  replace w := w mb z T L V P hnm
  obtain ⟨hx, w⟩ := w
  refine g_dup O dL_law_11 rfl ?_
  obtain ⟨c4, U4, e4, w⟩ := w
  have hk9 := kOk.eq hk e4
  refine g_mv (gr_I (nA := 0) (As := []) (rest := [.ref mb]) O hRm (kFX8_init _ O.2.2.2.2.2.2.2.2 (cxE X) _ _ _ _ _ _ mb hnm.t _ w) (lw_meth q1716) q1714 q1715 q134 rfl rfl rfl (by decide +kernel) ⟨Nat.le_of_ble_eq_true rfl, Nat.le_of_ble_eq_true rfl⟩ rfl rfl rfl (Nat.le_of_ble_eq_true rfl) dL_law_12 (kOk.fa hk9)) (fun z T L V P w => ?_)
  have hk := kOk.sa hk9
  obtain ⟨hx, w⟩ := w
  refine g_astore_n O dL_law_15 (Nat.le_of_ble_eq_true rfl) rfl (lv' := [some (.ref b), some (.ref x), some (.ref mb), none, none, none, none]) rfl ?_
  refine g_iconst (v := 1) O dL_law_16 (by decide) ?_
  obtain ⟨U5, e5, w⟩ := w
  have hk9 := kOk.eq hk e5
  refine gq_newJ (N := 1) (u := 1) O hRm q2332 rfl (by decide) hk9 (by decide) (by decide) dL_law_17 (fun o z T L V P hk hno => ?_)
  replace w := w o z T L V P hno
  obtain ⟨hx, ho, hm, f, w⟩ := w
  refine g_astore_n O dL_law_19 (Nat.le_of_ble_eq_true rfl) rfl (lv' := [some (.ref b), some (.ref x), some (.ref mb), some (.ref o), none, none, none]) rfl ?_
  refine g_iconst (v := 0) O dL_law_20 (by decide) ?_
  refine g_istore O dL_law_21 (Nat.le_of_ble_eq_true rfl) rfl (lv' := [some (.ref b), some (.ref x), some (.ref mb), some (.ref o), some (.int (nI 0)), none, none]) rfl ?_
  exact vL_loop O hRm hS ha hQ hE x mb o f 0 _ _ _ _ _ _ _ _ (by decide) hk hx ho hm w
set_option maxHeartbeats 4000000 in
theorem whole_of {p : Program} {e : Env} {s : State} {m : MethodId} {below : List Frame} {meth : Method} {c : Code} (l : Launch) (hflags : l.flags = flags0) {b L : Nat} {xs : Nat → Int32} (hL : L ≤ 384) (C0 : lw_At p s m meth c b L xs) (hw : ∀ E : w_E, E0ok E → ∀ z : Nat, wL_entry E L xs 150016 z (fun _ => 0) (fun _ => 0) (fun _ _ _ => 0) (fun _ _ => none)) : W p l e room_1 s m #[Value.ref b] below meth c s.heap [] 0 0 (lw_Z below #[Value.ref b] s) (entryFrame m ([Value.ref b] : List Value).toArray 7) := by
  obtain ⟨hx, hb, hr, hml, hown, hts, hX, hbl, hlocks, hg⟩ := id C0
  obtain ⟨E, hE1, hE2, hE0⟩ := start_E0 hts hg
  have hl := lv_entry ([.ref b]) (n := 7) (Nat.le_of_ble_eq_true rfl)
  rw [lg_entry_eq]
  generalize (lg_sl ([.ref b]) ++ List.replicate (7 - (lg_sl ([.ref b])).length) Slot.unset).toArray = ls at hl ⊢
  have hk : kenv E s := ⟨hE0, by rw [hE1]; exact State.WarmedH.refl s, by rw [hE1]; exact Nat.le_refl _, fun q _ => by rw [hE1]⟩
  have h := vL_entry (X := (p, l, e, room_1, s, m, #[Value.ref b], below, meth, c, E, lw_Z below #[Value.ref b] s)) (b := b) (Ls := L) (xs := xs) (U := 150016) (z := s.heap.size) (T := fun _ => 0) (L := fun _ => 0) (V := fun _ _ _ => 0) (P := fun _ _ => none) ⟨hx, hb, hml, hown, fun w h => hts w (lw_all_tbl h), hk, hr, hlocks, hflags⟩ rfl ⟨hX, hbl, by show ¬ E.1.heap.size ≤ b; rw [hE1]; exact Nat.not_le.mpr hbl, hL⟩ rfl rfl hE1 ⟨Nat.le_of_ble_eq_true rfl, Nat.le_of_ble_eq_true rfl⟩ (hw E hE0 _)
  refine h s.heap [] ls ⟨rfl, fun _ _ => rfl, by show E.1.heap.size ≤ _; rw [hE1]; exact Nat.le_refl _, fun _ _ => rfl, fun a c h _ => absurd (show (0 : Nat) = c + 1 from h) (by omega), fun a t h _ => absurd (show (0 : Nat) = 1000 + t from h) (by omega), fun a t h _ => absurd (show (0 : Nat) = 2000 + t from h) (by omega), fun a h => absurd (show (0 : Nat) = 3003 from h) (by decide), fun a h => absurd (show (0 : Nat) = 4016 from h) (by decide)⟩ va_S.rf hl
