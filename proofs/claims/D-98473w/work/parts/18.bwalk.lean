/-! printed by gen/xgen.py out of the given decode rows: their walks -/
set_option maxRecDepth 100000
-- X1_right
abbrev rX1_right : Room := { frames := 6, cells := 8, slots := 32, locals := 100 }
set_option maxHeartbeats 4000000 in
theorem kX1_right (l : Launch) (hfl : l.flags = flags0) (E : w_E) (z : Nat) (T L : Nat → Nat) (V : w_V) (P : w_P) (x0 : Int32) (post : Prop) (xp : String → w_V → w_P → Prop) (w : wX1_right E.2.2.2.2 T L V P x0 post xp) : vx_Met l yX1_right (ws_ yX1_right cX1_right 1 none) rX1_right (va_Pc [.int x0] (fun U => kenv E U ∧ wdW E (z, T, L, V, P) U.heap)) (va_Qv (fun (_ : Unit) => post) (fun u t => wdW E ((xW0 z T L V P) u) t.heap) (w_A E)) (xcX E (xB z T L xp)) 8 32 (w_A E) := by
  refine g_startX (w := (z, T, L, V, P)) hfl (by decide +kernel) rfl [some (.int x0)] rfl (fun _ h => h) (Nat.le_of_ble_eq_true rfl) (fun X hl hRm hEe O hN hQ => ?_)
  subst hl
  subst hEe
  have hk : kOk rX1_right 0 0 1 := ⟨Nat.le_refl _, Nat.le_refl _⟩
  unfold wX1_right at w
  refine g_iload_n O dX1_right_0 rfl ?_
  refine g_if_ne (tgt := 12) O w dX1_right_1 (by decide) (fun w => ?_) (fun w => ?_)
  · exact gt_vret (f := xW0 z T L V P) (u := ()) O hQ (kOk.m hk) rfl w dX1_right_12
  · exact gb_iae O hN hRm hQ (kOk.le hk (Nat.le_of_ble_eq_true rfl)) (Nat.le_of_ble_eq_true rfl) (Nat.le_of_ble_eq_true rfl) rfl dX1_right_4 dX1_right_7 dX1_right_8 dX1_right_11 w
-- X1_there
abbrev rX1_there : Room := { frames := 6, cells := 8, slots := 32, locals := 100 }
set_option maxHeartbeats 4000000 in
theorem kX1_there (l : Launch) (hfl : l.flags = flags0) (E : w_E) (z : Nat) (T L : Nat → Nat) (V : w_V) (P : w_P) (x0 : Int32) (post : Prop) (xp : String → w_V → w_P → Prop) (w : wX1_there E.2.2.2.2 T L V P x0 post xp) : vx_Met l yX1_there (ws_ yX1_there cX1_there 1 none) rX1_there (va_Pc [.int x0] (fun U => kenv E U ∧ wdW E (z, T, L, V, P) U.heap)) (va_Qv (fun (_ : Unit) => post) (fun u t => wdW E ((xW0 z T L V P) u) t.heap) (w_A E)) (xcX E (xB z T L xp)) 8 32 (w_A E) := by
  refine g_startX (w := (z, T, L, V, P)) hfl (by decide +kernel) rfl [some (.int x0)] rfl (fun _ h => h) (Nat.le_of_ble_eq_true rfl) (fun X hl hRm hEe O hN hQ => ?_)
  subst hl
  subst hEe
  have hk : kOk rX1_there 0 0 1 := ⟨Nat.le_refl _, Nat.le_refl _⟩
  unfold wX1_there at w
  refine g_iload_n O dX1_there_0 rfl ?_
  refine g_if_ne (tgt := 12) O w dX1_there_1 (by decide) (fun w => ?_) (fun w => ?_)
  · exact gt_vret (f := xW0 z T L V P) (u := ()) O hQ (kOk.m hk) rfl w dX1_there_12
  · exact gb_nse O hN hRm hQ (kOk.le hk (Nat.le_of_ble_eq_true rfl)) (Nat.le_of_ble_eq_true rfl) (Nat.le_of_ble_eq_true rfl) rfl dX1_there_4 dX1_there_7 dX1_there_8 dX1_there_11 w
-- X1_count
abbrev rX1_count : Room := { frames := 1250, cells := 8, slots := 32, locals := 37396 }
set_option maxHeartbeats 4000000 in
theorem kX1_count (l : Launch) (hfl : l.flags = flags0) (E : w_E) (z : Nat) (T L : Nat → Nat) (V : w_V) (P : w_P) (t : Nat) (hT : T t = 2) (x1 : Int32) (post : Int32 → w_V → Prop) (xp : String → w_V → w_P → Prop) (w : wX1_count E.2.2.2.2 T L V P t x1 post xp) : vx_Met l yX1_count (ws_ yX1_count cX1_count 2 (some .int)) rX1_count (va_Pc [.ref t, .int x1] (fun U => kenv E U ∧ wdW E (z, T, L, V, P) U.heap)) (va_Qi post (fun u t => wdW E ((xW1 z T L P) u) t.heap) (w_A E)) (xcX E (xB z T L xp)) 8 32 (w_A E) := by
  refine g_startX (w := (z, T, L, V, P)) hfl (by decide +kernel) rfl [some (.ref t), some (.int x1)] rfl (fun _ h => h) (Nat.le_of_ble_eq_true rfl) (fun X hl hRm hEe O hN hQ => ?_)
  subst hl
  subst hEe
  have hk : kOk rX1_count 0 0 1 := ⟨Nat.le_refl _, Nat.le_refl _⟩
  unfold wX1_count at w
  refine g_iload_n O dX1_count_0 rfl ?_
  refine g_iconst (v := 0) O dX1_count_1 (by decide) ?_
  refine g_bipush (v := 15) O dX1_count_2 (by decide) ?_
  refine g_ri0 (gr_S (nA := 3) (As := [.int x1, .int 0, .int 15]) (rest := []) O hRm (kX1_within _ O.2.2.2.2.2.2.2.2 _ _ _ _ _ _ (x1) (0) (15) _ w) (lw_S q1259 q1260 q106 q1261) rfl rfl (by decide +kernel) ⟨Nat.le_of_ble_eq_true rfl, Nat.le_of_ble_eq_true rfl⟩ rfl rfl rfl (Nat.le_of_ble_eq_true rfl) dX1_count_4 (kOk.f0 hk)) (fun r1 w => ?_)
  have hk := kOk.s0 hk
  refine g_xv0 O hN hQ (kOk.f hk (c := 1) (Nat.le_of_ble_eq_true rfl)) (grx_S (nA := 1) (As := [.int r1]) (rest := []) O hRm (kX1_there _ O.2.2.2.2.2.2.2.2 _ _ _ _ _ _ (r1) _ xp w) (lw_S q1262 q1263 q106 q1264) rfl rfl (by decide +kernel) ⟨Nat.le_of_ble_eq_true rfl, Nat.le_of_ble_eq_true rfl⟩ rfl rfl rfl (Nat.le_of_ble_eq_true rfl) dX1_count_7 (kOk.f hk (c := 1) (Nat.le_of_ble_eq_true rfl))) (fun w => ?_)
  have hk7 := kOk.sub 1 hk (Nat.le_of_ble_eq_true rfl)
  refine g_iload_n O dX1_count_10 rfl ?_
  by_cases c0 : x1 = 0
  · rw [if_pos c0] at w
    refine g_tabE (tgt := 76) O c0 dX1_count_11 (by decide) (by decide) rfl (by decide) ?_
    refine g_aload_n O dX1_count_76 rfl ?_
    obtain ⟨b14, hp15, ht16, w⟩ := w
    refine gx_getR (lay := 1) (j := 0) O ck1 (by decide) rfl rfl hp15 (by decide) hT q810 dX1_count_77 ?_
    refine gx_getIN (lay := 2) (j := 0) O ck2 (by decide) rfl rfl (by decide) ht16 q525 dX1_count_80 ?_
    exact gt_iret (f := xW1 z T L P) (u := V) O hQ (kOk.m hk7) rfl rfl w dX1_count_83
  rw [if_neg c0] at w
  by_cases c1 : x1 = 1
  · rw [if_pos c1] at w
    refine g_tabE (tgt := 84) O c1 dX1_count_11 (by decide) (by decide) rfl (by decide) ?_
    refine g_aload_n O dX1_count_84 rfl ?_
    obtain ⟨b17, hp18, ht19, w⟩ := w
    refine gx_getR (lay := 1) (j := 0) O ck1 (by decide) rfl rfl hp18 (by decide) hT q810 dX1_count_85 ?_
    refine gx_getIN (lay := 2) (j := 1) O ck2 (by decide) rfl rfl (by decide) ht19 q528 dX1_count_88 ?_
    exact gt_iret (f := xW1 z T L P) (u := V) O hQ (kOk.m hk7) rfl rfl w dX1_count_91
  rw [if_neg c1] at w
  by_cases c2 : x1 = 2
  · rw [if_pos c2] at w
    refine g_tabE (tgt := 92) O c2 dX1_count_11 (by decide) (by decide) rfl (by decide) ?_
    refine g_aload_n O dX1_count_92 rfl ?_
    obtain ⟨b20, hp21, ht22, w⟩ := w
    refine gx_getR (lay := 1) (j := 0) O ck1 (by decide) rfl rfl hp21 (by decide) hT q810 dX1_count_93 ?_
    refine gx_getIN (lay := 2) (j := 2) O ck2 (by decide) rfl rfl (by decide) ht22 q531 dX1_count_96 ?_
    exact gt_iret (f := xW1 z T L P) (u := V) O hQ (kOk.m hk7) rfl rfl w dX1_count_99
  rw [if_neg c2] at w
  by_cases c3 : x1 = 3
  · rw [if_pos c3] at w
    refine g_tabE (tgt := 100) O c3 dX1_count_11 (by decide) (by decide) rfl (by decide) ?_
    refine g_aload_n O dX1_count_100 rfl ?_
    obtain ⟨b23, hp24, ht25, w⟩ := w
    refine gx_getR (lay := 1) (j := 0) O ck1 (by decide) rfl rfl hp24 (by decide) hT q810 dX1_count_101 ?_
    obtain ⟨b26, hp27, ht28, w⟩ := w
    refine gx_getRN (lay := 2) (j := 6) O ck2 (by decide) rfl rfl hp27 (by decide) ht25 q541 dX1_count_104 ?_
    refine g_ri0 (gr_V (lay := 15) (nA := 0) (As := []) (rest := []) O hRm (kJ2_size _ O.2.2.2.2.2.2.2.2 _ _ _ _ _ _ b26 ht28 _ w) (lw_V q1280 q792 q793 q110 q794) rfl rfl (by decide +kernel) ⟨Nat.le_of_ble_eq_true rfl, Nat.le_of_ble_eq_true rfl⟩ ck15 (by decide) rfl ht28 rfl rfl rfl (Nat.le_of_ble_eq_true rfl) dX1_count_107 (kOk.f0 hk7)) (fun r29 w => ?_)
    have hk7 := kOk.s0 hk7
    exact gt_iret (f := xW1 z T L P) (u := V) O hQ (kOk.m hk7) rfl rfl w dX1_count_110
  rw [if_neg c3] at w
  by_cases c4 : x1 = 4
  · rw [if_pos c4] at w
    refine g_tabE (tgt := 111) O c4 dX1_count_11 (by decide) (by decide) rfl (by decide) ?_
    refine g_aload_n O dX1_count_111 rfl ?_
    refine g_ri0 (gr_V (lay := 1) (nA := 0) (As := []) (rest := []) O hRm (kX1_cases _ O.2.2.2.2.2.2.2.2 _ _ _ _ _ _ t hT _ w) (lw_V q1281 q1283 qs22 q106 q1284) rfl rfl (by decide +kernel) ⟨Nat.le_of_ble_eq_true rfl, Nat.le_of_ble_eq_true rfl⟩ ck1 (by decide) rfl hT rfl rfl rfl (Nat.le_of_ble_eq_true rfl) dX1_count_112 (kOk.f0 hk7)) (fun r32 w => ?_)
    have hk7 := kOk.s0 hk7
    exact gt_iret (f := xW1 z T L P) (u := V) O hQ (kOk.m hk7) rfl rfl w dX1_count_115
  rw [if_neg c4] at w
  by_cases c5 : x1 = 5
  · rw [if_pos c5] at w
    refine g_tabE (tgt := 116) O c5 dX1_count_11 (by decide) (by decide) rfl (by decide) ?_
    refine g_aload_n O dX1_count_116 rfl ?_
    obtain ⟨b35, hp36, ht37, w⟩ := w
    refine gx_getR (lay := 1) (j := 3) O ck1 (by decide) rfl rfl hp36 (by decide) hT q813 dX1_count_117 ?_
    refine gx_getIN (lay := 5) (j := 4) O ck5 (by decide) rfl rfl (by decide) ht37 q594 dX1_count_120 ?_
    exact gt_iret (f := xW1 z T L P) (u := V) O hQ (kOk.m hk7) rfl rfl w dX1_count_123
  rw [if_neg c5] at w
  by_cases c6 : x1 = 6
  · rw [if_pos c6] at w
    refine g_tabE (tgt := 124) O c6 dX1_count_11 (by decide) (by decide) rfl (by decide) ?_
    refine g_aload_n O dX1_count_124 rfl ?_
    obtain ⟨b38, hp39, ht40, w⟩ := w
    refine gx_getR (lay := 1) (j := 3) O ck1 (by decide) rfl rfl hp39 (by decide) hT q813 dX1_count_125 ?_
    refine gx_getIN (lay := 5) (j := 5) O ck5 (by decide) rfl rfl (by decide) ht40 q597 dX1_count_128 ?_
    exact gt_iret (f := xW1 z T L P) (u := V) O hQ (kOk.m hk7) rfl rfl w dX1_count_131
  rw [if_neg c6] at w
  by_cases c7 : x1 = 7
  · rw [if_pos c7] at w
    refine g_tabE (tgt := 132) O c7 dX1_count_11 (by decide) (by decide) rfl (by decide) ?_
    refine g_aload_n O dX1_count_132 rfl ?_
    obtain ⟨b41, hp42, ht43, w⟩ := w
    refine gx_getR (lay := 1) (j := 3) O ck1 (by decide) rfl rfl hp42 (by decide) hT q813 dX1_count_133 ?_
    refine gx_getIN (lay := 5) (j := 6) O ck5 (by decide) rfl rfl (by decide) ht43 q599 dX1_count_136 ?_
    exact gt_iret (f := xW1 z T L P) (u := V) O hQ (kOk.m hk7) rfl rfl w dX1_count_139
  rw [if_neg c7] at w
  by_cases c8 : x1 = 8
  · rw [if_pos c8] at w
    refine g_tabE (tgt := 140) O c8 dX1_count_11 (by decide) (by decide) rfl (by decide) ?_
    refine g_aload_n O dX1_count_140 rfl ?_
    obtain ⟨b44, hp45, ht46, w⟩ := w
    refine gx_getR (lay := 1) (j := 3) O ck1 (by decide) rfl rfl hp45 (by decide) hT q813 dX1_count_141 ?_
    refine gx_getIN (lay := 5) (j := 7) O ck5 (by decide) rfl rfl (by decide) ht46 q602 dX1_count_144 ?_
    exact gt_iret (f := xW1 z T L P) (u := V) O hQ (kOk.m hk7) rfl rfl w dX1_count_147
  rw [if_neg c8] at w
  by_cases c9 : x1 = 9
  · rw [if_pos c9] at w
    refine g_tabE (tgt := 148) O c9 dX1_count_11 (by decide) (by decide) rfl (by decide) ?_
    refine g_aload_n O dX1_count_148 rfl ?_
    refine g_ri1 (gr_V (lay := 1) (nA := 0) (As := []) (rest := []) O hRm (kX1_tries _ O.2.2.2.2.2.2.2.2 _ _ _ _ _ _ t hT _ w) (lw_V q1285 q1287 qs23 q106 q1288) rfl rfl (by decide +kernel) ⟨Nat.le_of_ble_eq_true rfl, Nat.le_of_ble_eq_true rfl⟩ ck1 (by decide) rfl hT rfl rfl rfl (Nat.le_of_ble_eq_true rfl) dX1_count_149 (kOk.f0 hk7)) (fun r47 V48 w => ?_)
    have hk7 := kOk.s0 hk7
    exact gt_iret (f := xW1 z T L P) (u := V48) O hQ (kOk.m hk7) rfl rfl w dX1_count_152
  rw [if_neg c9] at w
  by_cases c10 : x1 = 10
  · rw [if_pos c10] at w
    refine g_tabE (tgt := 153) O c10 dX1_count_11 (by decide) (by decide) rfl (by decide) ?_
    refine g_aload_n O dX1_count_153 rfl ?_
    obtain ⟨b50, hp51, ht52, w⟩ := w
    refine gx_getR (lay := 1) (j := 1) O ck1 (by decide) rfl rfl hp51 (by decide) hT q811 dX1_count_154 ?_
    refine gx_getIN (lay := 4) (j := 6) O ck4 (by decide) rfl rfl (by decide) ht52 q710 dX1_count_157 ?_
    exact gt_iret (f := xW1 z T L P) (u := V) O hQ (kOk.m hk7) rfl rfl w dX1_count_160
  rw [if_neg c10] at w
  by_cases c11 : x1 = 11
  · rw [if_pos c11] at w
    refine g_tabE (tgt := 161) O c11 dX1_count_11 (by decide) (by decide) rfl (by decide) ?_
    refine g_aload_n O dX1_count_161 rfl ?_
    obtain ⟨b53, hp54, ht55, w⟩ := w
    refine gx_getR (lay := 1) (j := 1) O ck1 (by decide) rfl rfl hp54 (by decide) hT q811 dX1_count_162 ?_
    refine gx_getIN (lay := 4) (j := 7) O ck4 (by decide) rfl rfl (by decide) ht55 q712 dX1_count_165 ?_
    exact gt_iret (f := xW1 z T L P) (u := V) O hQ (kOk.m hk7) rfl rfl w dX1_count_168
  rw [if_neg c11] at w
  by_cases c12 : x1 = 12
  · rw [if_pos c12] at w
    refine g_tabE (tgt := 169) O c12 dX1_count_11 (by decide) (by decide) rfl (by decide) ?_
    refine g_aload_n O dX1_count_169 rfl ?_
    refine gx_getI (lay := 1) (j := 8) O ck1 (by decide) rfl rfl (by decide) hT q818 dX1_count_170 ?_
    exact gt_iret (f := xW1 z T L P) (u := V) O hQ (kOk.m hk7) rfl rfl w dX1_count_173
  rw [if_neg c12] at w
  refine g_tabD (tgt := 174) (st0 := []) ?_ (fun hd => ?_)
  · refine g_aload_n O dX1_count_174 rfl ?_
    obtain ⟨b8, hp9, ht10, w⟩ := w
    refine gx_getR (lay := 1) (j := 1) O ck1 (by decide) rfl rfl hp9 (by decide) hT q811 dX1_count_175 ?_
    refine gx_getAN (lay := 4) (j := 4) O ck4 (by decide) rfl rfl (by decide) ht10 q706 dX1_count_178 ?_
    refine g_iload_n O dX1_count_181 rfl ?_
    refine g_bipush (v := 13) O dX1_count_182 (by decide) ?_
    refine g_isub O dX1_count_184 ?_
    obtain ⟨i11, hi12, e13, w⟩ := w
    refine gx_iald (a := b8) (kk0 := 5) (len := 3) (nn := i11) O (ha_own (lay := 4) (j := 4) (off := 10) (ty := 0) (len := 3) (by decide) ht10 rfl (by decide)) hi12 (by decide) e13 dX1_count_185 ?_
    exact gt_iret (f := xW1 z T L P) (u := V) O hQ (kOk.m hk7) rfl rfl w dX1_count_186
  by_cases c100 : (x1 : Int32).toInt < 0 ∨ 12 < (x1 : Int32).toInt
  · exact g_tabOut O dX1_count_11 c100 (by decide) hd
  obtain ⟨j, hj, hj1, hj2⟩ : ∃ j : Int, (x1 : Int32) = Int32.ofInt j ∧ 0 ≤ j ∧ j ≤ 12 := ⟨(x1 : Int32).toInt, (Int32.ofInt_toInt _).symm, by omega, by omega⟩
  have h3 : j = 0 ∨ j = 1 ∨ j = 2 ∨ j = 3 ∨ j = 4 ∨ j = 5 ∨ j = 6 ∨ j = 7 ∨ j = 8 ∨ j = 9 ∨ j = 10 ∨ j = 11 ∨ j = 12 := by omega
  rcases h3 with rfl | rfl | rfl | rfl | rfl | rfl | rfl | rfl | rfl | rfl | rfl | rfl | rfl
  · exact absurd hj c0
  · exact absurd hj c1
  · exact absurd hj c2
  · exact absurd hj c3
  · exact absurd hj c4
  · exact absurd hj c5
  · exact absurd hj c6
  · exact absurd hj c7
  · exact absurd hj c8
  · exact absurd hj c9
  · exact absurd hj c10
  · exact absurd hj c11
  · exact absurd hj c12
-- X1_townAt
abbrev rX1_townAt : Room := { frames := 7, cells := 8, slots := 32, locals := 120 }
set_option maxHeartbeats 4000000 in
theorem vjX1_townAt_20 {X : Cx} {z : Nat} {T L : Nat → Nat} {V : w_V} {P : w_P} (O : Okc X cX1_townAt RX1 2 none) (hRm : cxR X = rX1_townAt) (t : Nat) (hT : T t = 2) (t0 : Int32) (post : Prop) (xp : String → w_V → w_P → Prop) (hN : noTab X) {kc ks : Nat} (hk : kOk rX1_townAt kc ks 1) (hQ : cxMX X (va_Qv (fun (_ : Unit) => post) (fun u t => wdW (cxE X) (xW0 z T L V P u) t.heap) (w_A (cxE X))) (xB z T L xp) rX1_townAt.cells rX1_townAt.slots) (w : jX1_townAt_20 (cxE X).2.2.2.2 T L V P t t0 post xp) : gW X kc ks z T L V P 20 [some (.ref t), none] [.int t0] := by
  unfold jX1_townAt_20 at w
  refine g_xv0 O hN hQ (kOk.f hk (c := 1) (Nat.le_of_ble_eq_true rfl)) (grx_S (nA := 1) (As := [.int t0]) (rest := []) O hRm (kX1_there _ O.2.2.2.2.2.2.2.2 _ _ _ _ _ _ (t0) _ xp w) (lw_S q1262 q1263 q106 q1264) rfl rfl (by decide +kernel) ⟨Nat.le_of_ble_eq_true rfl, Nat.le_of_ble_eq_true rfl⟩ rfl rfl rfl (Nat.le_of_ble_eq_true rfl) dX1_townAt_20 (kOk.f hk (c := 1) (Nat.le_of_ble_eq_true rfl))) (fun w => ?_)
  have hk4 := kOk.sub 1 hk (Nat.le_of_ble_eq_true rfl)
  exact gt_vret (f := xW0 z T L V P) (u := ()) O hQ (kOk.m hk4) rfl w dX1_townAt_23
set_option maxHeartbeats 4000000 in
theorem vjX1_townAt_19 {X : Cx} {z : Nat} {T L : Nat → Nat} {V : w_V} {P : w_P} (O : Okc X cX1_townAt RX1 2 none) (hRm : cxR X = rX1_townAt) (t : Nat) (hT : T t = 2) (post : Prop) (xp : String → w_V → w_P → Prop) (hN : noTab X) {kc ks : Nat} (hk : kOk rX1_townAt kc ks 1) (hQ : cxMX X (va_Qv (fun (_ : Unit) => post) (fun u t => wdW (cxE X) (xW0 z T L V P u) t.heap) (w_A (cxE X))) (xB z T L xp) rX1_townAt.cells rX1_townAt.slots) (w : jX1_townAt_19 (cxE X).2.2.2.2 T L V P t post xp) : gW X kc ks z T L V P 19 [some (.ref t), none] [] := by
  unfold jX1_townAt_19 at w
  refine g_iconst (v := 0) O dX1_townAt_19 (by decide) ?_
  exact vjX1_townAt_20 O hRm (V := V) (P := P) t hT (0) post xp hN (kOk.le hk (Nat.le_of_ble_eq_true rfl)) hQ w
set_option maxHeartbeats 4000000 in
theorem kX1_townAt (l : Launch) (hfl : l.flags = flags0) (E : w_E) (z : Nat) (T L : Nat → Nat) (V : w_V) (P : w_P) (t : Nat) (hT : T t = 2) (x1 : Int32) (post : Prop) (xp : String → w_V → w_P → Prop) (w : wX1_townAt E.2.2.2.2 T L V P t x1 post xp) : vx_Met l yX1_townAt (ws_ yX1_townAt cX1_townAt 2 none) rX1_townAt (va_Pc [.ref t, .int x1] (fun U => kenv E U ∧ wdW E (z, T, L, V, P) U.heap)) (va_Qv (fun (_ : Unit) => post) (fun u t => wdW E ((xW0 z T L V P) u) t.heap) (w_A E)) (xcX E (xB z T L xp)) 8 32 (w_A E) := by
  refine g_startX (w := (z, T, L, V, P)) hfl (by decide +kernel) rfl [some (.ref t), some (.int x1)] rfl (fun _ h => h) (Nat.le_of_ble_eq_true rfl) (fun X hl hRm hEe O hN hQ => ?_)
  subst hl
  subst hEe
  have hk : kOk rX1_townAt 0 0 1 := ⟨Nat.le_refl _, Nat.le_refl _⟩
  unfold wX1_townAt at w
  refine g_iload_n O dX1_townAt_0 rfl ?_
  refine g_if_lt (tgt := 19) O w dX1_townAt_1 (by decide) (fun w => ?_) (fun w => ?_)
  · refine g_drop [1] (lv' := [some (.ref t), none]) rfl ?_
    exact vjX1_townAt_19 O hRm (V := V) (P := P) t hT post xp hN (kOk.le hk (Nat.le_of_ble_eq_true rfl)) hQ w
  · refine g_iload_n O dX1_townAt_4 rfl ?_
    refine g_aload_n O dX1_townAt_5 rfl ?_
    obtain ⟨b5, hp6, ht7, w⟩ := w
    refine gx_getR (lay := 1) (j := 0) O ck1 (by decide) rfl rfl hp6 (by decide) hT q810 dX1_townAt_6 ?_
    refine gx_getIN (lay := 2) (j := 0) O ck2 (by decide) rfl rfl (by decide) ht7 q525 dX1_townAt_9 ?_
    refine g_icmp_ge (tgt := 19) O w dX1_townAt_12 (by decide) (fun w => ?_) (fun w => ?_)
    · refine g_drop [1] (lv' := [some (.ref t), none]) rfl ?_
      exact vjX1_townAt_19 O hRm (V := V) (P := P) t hT post xp hN (kOk.le hk (Nat.le_of_ble_eq_true rfl)) hQ w
    · refine g_iconst (v := 1) O dX1_townAt_15 (by decide) ?_
      refine g_goto (tgt := 20) O dX1_townAt_16 (by decide) ?_
      refine g_drop [1] (lv' := [some (.ref t), none]) rfl ?_
      exact vjX1_townAt_20 O hRm (V := V) (P := P) t hT (1) post xp hN (kOk.le hk (Nat.le_of_ble_eq_true rfl)) hQ w
-- X1_far
abbrev rX1_far : Room := { frames := 8, cells := 24, slots := 96, locals := 141 }
set_option maxHeartbeats 4000000 in
theorem vjX1_far_44 {X : Cx} {z : Nat} {T L : Nat → Nat} {V : w_V} {P : w_P} (O : Okc X cX1_far RX1 5 (some .int)) (hRm : cxR X = rX1_far) (t : Nat) (hT : T t = 2) (t0 : Int32) (post : Int32 → Prop) (xp : String → w_V → w_P → Prop) (hN : noTab X) {kc ks : Nat} (hk : kOk rX1_far kc ks 0) (hQ : cxMX X (va_Qi (fun x (_ : Unit) => post x) (fun u t => wdW (cxE X) (xW0 z T L V P u) t.heap) (w_A (cxE X))) (xB z T L xp) rX1_far.cells rX1_far.slots) (w : jX1_far_44 (cxE X).2.2.2.2 T L V P t t0 post xp) : gW X kc ks z T L V P 44 [some (.ref t), none, none, none, none] [.int t0] := by
  unfold jX1_far_44 at w
  refine g_istore O dX1_far_44 (Nat.le_of_ble_eq_true rfl) rfl (lv' := [some (.ref t), none, none, none, some (.int t0)]) rfl ?_
  refine g_iload O dX1_far_46 rfl ?_
  refine g_sipush (v := 9999) O dX1_far_48 (by decide) ?_
  refine g_icmp_lt (tgt := 58) O w dX1_far_51 (by decide) (fun w => ?_) (fun w => ?_)
  · refine g_iload O dX1_far_58 rfl ?_
    exact gt_iret (f := xW0 z T L V P) (u := ()) O hQ (kOk.m hk) rfl rfl w dX1_far_60
  · refine g_iconst (v := (-1)) O dX1_far_54 (by decide) ?_
    refine g_goto (tgt := 60) O dX1_far_55 (by decide) ?_
    exact gt_iret (f := xW0 z T L V P) (u := ()) O hQ (kOk.m hk) rfl rfl w dX1_far_60
set_option maxHeartbeats 4000000 in
theorem kX1_far (l : Launch) (hfl : l.flags = flags0) (E : w_E) (z : Nat) (T L : Nat → Nat) (V : w_V) (P : w_P) (t : Nat) (hT : T t = 2) (x1 : Int32) (x2 : Int32) (x3 : Int32) (post : Int32 → Prop) (xp : String → w_V → w_P → Prop) (w : wX1_far E.2.2.2.2 T L V P t x1 x2 x3 post xp) : vx_Met l yX1_far (ws_ yX1_far cX1_far 5 (some .int)) rX1_far (va_Pc [.ref t, .int x1, .int x2, .int x3] (fun U => kenv E U ∧ wdW E (z, T, L, V, P) U.heap)) (va_Qi (fun x (_ : Unit) => post x) (fun u t => wdW E ((xW0 z T L V P) u) t.heap) (w_A E)) (xcX E (xB z T L xp)) 24 96 (w_A E) := by
  refine g_startX (w := (z, T, L, V, P)) hfl (by decide +kernel) rfl [some (.ref t), some (.int x1), some (.int x2), some (.int x3), none] rfl (fun _ h => h) (Nat.le_of_ble_eq_true rfl) (fun X hl hRm hEe O hN hQ => ?_)
  subst hl
  subst hEe
  have hk : kOk rX1_far 0 0 3 := ⟨Nat.le_refl _, Nat.le_refl _⟩
  unfold wX1_far at w
  refine g_aload_n O dX1_far_0 rfl ?_
  refine g_iload_n O dX1_far_1 rfl ?_
  refine g_xv0 O hN hQ (kOk.f hk (c := 1) (Nat.le_of_ble_eq_true rfl)) (grx_V (lay := 1) (nA := 1) (As := [.int x1]) (rest := []) O hRm (kX1_townAt _ O.2.2.2.2.2.2.2.2 _ _ _ _ _ _ t hT (x1) _ xp w) (lw_V q1448 q1450 qs38 q106 q1451) rfl rfl (by decide +kernel) ⟨Nat.le_of_ble_eq_true rfl, Nat.le_of_ble_eq_true rfl⟩ ck1 (by decide) rfl hT rfl rfl rfl (Nat.le_of_ble_eq_true rfl) dX1_far_2 (kOk.f hk (c := 1) (Nat.le_of_ble_eq_true rfl))) (fun w => ?_)
  have hk4 := kOk.sub 1 hk (Nat.le_of_ble_eq_true rfl)
  refine g_aload_n O dX1_far_5 rfl ?_
  refine g_iload_n O dX1_far_6 rfl ?_
  refine g_xv0 O hN hQ (kOk.f hk4 (c := 1) (Nat.le_of_ble_eq_true rfl)) (grx_V (lay := 1) (nA := 1) (As := [.int x2]) (rest := []) O hRm (kX1_townAt _ O.2.2.2.2.2.2.2.2 _ _ _ _ _ _ t hT (x2) _ xp w) (lw_V q1448 q1450 qs38 q106 q1451) rfl rfl (by decide +kernel) ⟨Nat.le_of_ble_eq_true rfl, Nat.le_of_ble_eq_true rfl⟩ ck1 (by decide) rfl hT rfl rfl rfl (Nat.le_of_ble_eq_true rfl) dX1_far_7 (kOk.f hk4 (c := 1) (Nat.le_of_ble_eq_true rfl))) (fun w => ?_)
  have hk8 := kOk.sub 1 hk4 (Nat.le_of_ble_eq_true rfl)
  refine g_iload_n O dX1_far_10 rfl ?_
  refine g_iconst (v := 0) O dX1_far_11 (by decide) ?_
  refine g_iconst (v := 1) O dX1_far_12 (by decide) ?_
  refine g_ri0 (gr_S (nA := 3) (As := [.int x3, .int 0, .int 1]) (rest := []) O hRm (kX1_within _ O.2.2.2.2.2.2.2.2 _ _ _ _ _ _ (x3) (0) (1) _ w) (lw_S q1259 q1260 q106 q1261) rfl rfl (by decide +kernel) ⟨Nat.le_of_ble_eq_true rfl, Nat.le_of_ble_eq_true rfl⟩ rfl rfl rfl (Nat.le_of_ble_eq_true rfl) dX1_far_13 (kOk.f0 hk8)) (fun r9 w => ?_)
  have hk8 := kOk.s0 hk8
  refine g_xv0 O hN hQ (kOk.f hk8 (c := 1) (Nat.le_of_ble_eq_true rfl)) (grx_S (nA := 1) (As := [.int r9]) (rest := []) O hRm (kX1_there _ O.2.2.2.2.2.2.2.2 _ _ _ _ _ _ (r9) _ xp w) (lw_S q1262 q1263 q106 q1264) rfl rfl (by decide +kernel) ⟨Nat.le_of_ble_eq_true rfl, Nat.le_of_ble_eq_true rfl⟩ rfl rfl rfl (Nat.le_of_ble_eq_true rfl) dX1_far_16 (kOk.f hk8 (c := 1) (Nat.le_of_ble_eq_true rfl))) (fun w => ?_)
  have hk15 := kOk.sub 1 hk8 (Nat.le_of_ble_eq_true rfl)
  refine g_iload_n O dX1_far_19 rfl ?_
  refine g_if_ne (tgt := 35) O w dX1_far_20 (by decide) (fun w => ?_) (fun w => ?_)
  · refine g_aload_n O dX1_far_35 rfl ?_
    obtain ⟨b16, hp17, ht18, w⟩ := w
    refine gx_getR (lay := 1) (j := 0) O ck1 (by decide) rfl rfl hp17 (by decide) hT q810 dX1_far_36 ?_
    refine g_iload_n O dX1_far_39 rfl ?_
    refine g_iload_n O dX1_far_40 rfl ?_
    refine g_ri0 (gr_V (lay := 2) (nA := 2) (As := [.int x1, .int x2]) (rest := []) O hRm (kX2_news _ O.2.2.2.2.2.2.2.2 _ _ _ _ _ _ b16 ht18 (x1) (x2) _ w) (lw_V q1453 q1425 q1426 q107 q1427) rfl rfl (by decide +kernel) ⟨Nat.le_of_ble_eq_true rfl, Nat.le_of_ble_eq_true rfl⟩ ck2 (by decide) rfl ht18 rfl rfl rfl (Nat.le_of_ble_eq_true rfl) dX1_far_41 (kOk.f0 hk15)) (fun r19 w => ?_)
    have hk15 := kOk.s0 hk15
    refine g_drop [1, 2, 3] (lv' := [some (.ref t), none, none, none, none]) rfl ?_
    exact vjX1_far_44 O hRm (V := V) (P := P) t hT (r19) post xp hN (kOk.le hk15 (Nat.le_of_ble_eq_true rfl)) hQ w
  · refine g_aload_n O dX1_far_23 rfl ?_
    obtain ⟨b22, hp23, ht24, w⟩ := w
    refine gx_getR (lay := 1) (j := 0) O ck1 (by decide) rfl rfl hp23 (by decide) hT q810 dX1_far_24 ?_
    refine g_iload_n O dX1_far_27 rfl ?_
    refine g_iload_n O dX1_far_28 rfl ?_
    refine g_ri0 (gr_V (lay := 2) (nA := 2) (As := [.int x1, .int x2]) (rest := []) O hRm (kX2_far _ O.2.2.2.2.2.2.2.2 _ _ _ _ _ _ b22 ht24 (x1) (x2) _ w) (lw_V q1452 q1399 q1400 q107 q1401) rfl rfl (by decide +kernel) ⟨Nat.le_of_ble_eq_true rfl, Nat.le_of_ble_eq_true rfl⟩ ck2 (by decide) rfl ht24 rfl rfl rfl (Nat.le_of_ble_eq_true rfl) dX1_far_29 (kOk.f0 hk15)) (fun r25 w => ?_)
    have hk15 := kOk.s0 hk15
    refine g_goto (tgt := 44) O dX1_far_32 (by decide) ?_
    refine g_drop [1, 2, 3] (lv' := [some (.ref t), none, none, none, none]) rfl ?_
    exact vjX1_far_44 O hRm (V := V) (P := P) t hT (r25) post xp hN (kOk.le hk15 (Nat.le_of_ble_eq_true rfl)) hQ w
-- X1_judgeAt
abbrev rX1_judgeAt : Room := { frames := 7, cells := 8, slots := 32, locals := 120 }
set_option maxHeartbeats 4000000 in
theorem vjX1_judgeAt_23 {X : Cx} {z : Nat} {T L : Nat → Nat} {V : w_V} {P : w_P} (O : Okc X cX1_judgeAt RX1 2 (some (.object "ApartBench$Judge"))) (hRm : cxR X = rX1_judgeAt) (t : Nat) (hT : T t = 2) (x1 : Int32) (t0 : Int32) (post : Nat → Prop) (xp : String → w_V → w_P → Prop) (hN : noTab X) {kc ks : Nat} (hk : kOk rX1_judgeAt kc ks 1) (hQ : cxMX X (va_Qq (fun x (_ : Unit) => qN post x) (fun u t => wdW (cxE X) (xW0 z T L V P u) t.heap) (w_A (cxE X))) (xB z T L xp) rX1_judgeAt.cells rX1_judgeAt.slots) (w : jX1_judgeAt_23 (cxE X).2.2.2.2 T L V P t x1 t0 post xp) : gW X kc ks z T L V P 23 [some (.ref t), some (.int x1)] [.int t0] := by
  unfold jX1_judgeAt_23 at w
  refine g_xv0 O hN hQ (kOk.f hk (c := 1) (Nat.le_of_ble_eq_true rfl)) (grx_S (nA := 1) (As := [.int t0]) (rest := []) O hRm (kX1_there _ O.2.2.2.2.2.2.2.2 _ _ _ _ _ _ (t0) _ xp w) (lw_S q1262 q1263 q106 q1264) rfl rfl (by decide +kernel) ⟨Nat.le_of_ble_eq_true rfl, Nat.le_of_ble_eq_true rfl⟩ rfl rfl rfl (Nat.le_of_ble_eq_true rfl) dX1_judgeAt_23 (kOk.f hk (c := 1) (Nat.le_of_ble_eq_true rfl))) (fun w => ?_)
  have hk4 := kOk.sub 1 hk (Nat.le_of_ble_eq_true rfl)
  refine g_aload_n O dX1_judgeAt_26 rfl ?_
  obtain ⟨b5, hp6, ht7, w⟩ := w
  refine gx_getR (lay := 1) (j := 0) O ck1 (by decide) rfl rfl hp6 (by decide) hT q810 dX1_judgeAt_27 ?_
  obtain ⟨b8, hp9, ht10, w⟩ := w
  refine gx_getRN (lay := 2) (j := 6) O ck2 (by decide) rfl rfl hp9 (by decide) ht7 q541 dX1_judgeAt_30 ?_
  refine g_iload_n O dX1_judgeAt_33 rfl ?_
  refine g_rq0 (gr_V (lay := 15) (nA := 1) (As := [.int x1]) (rest := []) O hRm (kJ2_get _ O.2.2.2.2.2.2.2.2 _ _ _ _ _ _ b8 ht10 (x1) _ w) (lw_V q860 q796 q797 q110 q798) rfl rfl (by decide +kernel) ⟨Nat.le_of_ble_eq_true rfl, Nat.le_of_ble_eq_true rfl⟩ ck15 (by decide) rfl ht10 rfl rfl rfl (Nat.le_of_ble_eq_true rfl) dX1_judgeAt_34 (kOk.f0 hk4)) (fun r11 w => ?_)
  have hk4 := kOk.s0 hk4
  obtain ⟨ht14, w⟩ := w
  refine gj_cast O ht14 q1465 dX1_judgeAt_37 ?_
  exact gt_aret (r := some r11) (f := xW0 z T L V P) (u := ()) O hQ (kOk.m hk4) (by first | exact Or.inl ⟨_, rfl⟩ | exact Or.inr ⟨_, rfl⟩) rfl ⟨_, rfl, w⟩ dX1_judgeAt_40
set_option maxHeartbeats 4000000 in
theorem vjX1_judgeAt_22 {X : Cx} {z : Nat} {T L : Nat → Nat} {V : w_V} {P : w_P} (O : Okc X cX1_judgeAt RX1 2 (some (.object "ApartBench$Judge"))) (hRm : cxR X = rX1_judgeAt) (t : Nat) (hT : T t = 2) (x1 : Int32) (post : Nat → Prop) (xp : String → w_V → w_P → Prop) (hN : noTab X) {kc ks : Nat} (hk : kOk rX1_judgeAt kc ks 1) (hQ : cxMX X (va_Qq (fun x (_ : Unit) => qN post x) (fun u t => wdW (cxE X) (xW0 z T L V P u) t.heap) (w_A (cxE X))) (xB z T L xp) rX1_judgeAt.cells rX1_judgeAt.slots) (w : jX1_judgeAt_22 (cxE X).2.2.2.2 T L V P t x1 post xp) : gW X kc ks z T L V P 22 [some (.ref t), some (.int x1)] [] := by
  unfold jX1_judgeAt_22 at w
  refine g_iconst (v := 0) O dX1_judgeAt_22 (by decide) ?_
  exact vjX1_judgeAt_23 O hRm (V := V) (P := P) t hT (x1) (0) post xp hN (kOk.le hk (Nat.le_of_ble_eq_true rfl)) hQ w
set_option maxHeartbeats 4000000 in
theorem kX1_judgeAt (l : Launch) (hfl : l.flags = flags0) (E : w_E) (z : Nat) (T L : Nat → Nat) (V : w_V) (P : w_P) (t : Nat) (hT : T t = 2) (x1 : Int32) (post : Nat → Prop) (xp : String → w_V → w_P → Prop) (w : wX1_judgeAt E.2.2.2.2 T L V P t x1 post xp) : vx_Met l yX1_judgeAt (ws_ yX1_judgeAt cX1_judgeAt 2 (some (.object "ApartBench$Judge"))) rX1_judgeAt (va_Pc [.ref t, .int x1] (fun U => kenv E U ∧ wdW E (z, T, L, V, P) U.heap)) (va_Qq (fun x (_ : Unit) => qN post x) (fun u t => wdW E ((xW0 z T L V P) u) t.heap) (w_A E)) (xcX E (xB z T L xp)) 8 32 (w_A E) := by
  refine g_startX (w := (z, T, L, V, P)) hfl (by decide +kernel) rfl [some (.ref t), some (.int x1)] rfl (fun _ h => h) (Nat.le_of_ble_eq_true rfl) (fun X hl hRm hEe O hN hQ => ?_)
  subst hl
  subst hEe
  have hk : kOk rX1_judgeAt 0 0 1 := ⟨Nat.le_refl _, Nat.le_refl _⟩
  unfold wX1_judgeAt at w
  refine g_iload_n O dX1_judgeAt_0 rfl ?_
  refine g_if_lt (tgt := 22) O w dX1_judgeAt_1 (by decide) (fun w => ?_) (fun w => ?_)
  · exact vjX1_judgeAt_22 O hRm (V := V) (P := P) t hT (x1) post xp hN (kOk.le hk (Nat.le_of_ble_eq_true rfl)) hQ w
  · refine g_iload_n O dX1_judgeAt_4 rfl ?_
    refine g_aload_n O dX1_judgeAt_5 rfl ?_
    obtain ⟨b15, hp16, ht17, w⟩ := w
    refine gx_getR (lay := 1) (j := 0) O ck1 (by decide) rfl rfl hp16 (by decide) hT q810 dX1_judgeAt_6 ?_
    obtain ⟨b18, hp19, ht20, w⟩ := w
    refine gx_getRN (lay := 2) (j := 6) O ck2 (by decide) rfl rfl hp19 (by decide) ht17 q541 dX1_judgeAt_9 ?_
    refine g_ri0 (gr_V (lay := 15) (nA := 0) (As := []) (rest := [.int x1]) O hRm (kJ2_size _ O.2.2.2.2.2.2.2.2 _ _ _ _ _ _ b18 ht20 _ w) (lw_V q1280 q792 q793 q110 q794) rfl rfl (by decide +kernel) ⟨Nat.le_of_ble_eq_true rfl, Nat.le_of_ble_eq_true rfl⟩ ck15 (by decide) rfl ht20 rfl rfl rfl (Nat.le_of_ble_eq_true rfl) dX1_judgeAt_12 (kOk.f0 hk)) (fun r21 w => ?_)
    have hk := kOk.s0 hk
    refine g_icmp_ge (tgt := 22) O w dX1_judgeAt_15 (by decide) (fun w => ?_) (fun w => ?_)
    · exact vjX1_judgeAt_22 O hRm (V := V) (P := P) t hT (x1) post xp hN (kOk.le hk (Nat.le_of_ble_eq_true rfl)) hQ w
    · refine g_iconst (v := 1) O dX1_judgeAt_18 (by decide) ?_
      refine g_goto (tgt := 23) O dX1_judgeAt_19 (by decide) ?_
      exact vjX1_judgeAt_23 O hRm (V := V) (P := P) t hT (x1) (1) post xp hN (kOk.le hk (Nat.le_of_ble_eq_true rfl)) hQ w
-- X1_judge
abbrev rX1_judge : Room := { frames := 1250, cells := 16, slots := 64, locals := 37396 }
set_option maxHeartbeats 4000000 in
theorem kX1_judge (l : Launch) (hfl : l.flags = flags0) (E : w_E) (z : Nat) (T L : Nat → Nat) (V : w_V) (P : w_P) (t : Nat) (hT : T t = 2) (x1 : Int32) (x2 : Int32) (post : Int32 → w_V → Prop) (xp : String → w_V → w_P → Prop) (w : wX1_judge E.2.2.2.2 T L V P t x1 x2 post xp) : vx_Met l yX1_judge (ws_ yX1_judge cX1_judge 4 (some .int)) rX1_judge (va_Pc [.ref t, .int x1, .int x2] (fun U => kenv E U ∧ wdW E (z, T, L, V, P) U.heap)) (va_Qi post (fun u t => wdW E ((xW1 z T L P) u) t.heap) (w_A E)) (xcX E (xB z T L xp)) 16 64 (w_A E) := by
  refine g_startX (w := (z, T, L, V, P)) hfl (by decide +kernel) rfl [some (.ref t), some (.int x1), some (.int x2), none] rfl (fun _ h => h) (Nat.le_of_ble_eq_true rfl) (fun X hl hRm hEe O hN hQ => ?_)
  subst hl
  subst hEe
  have hk : kOk rX1_judge 0 0 2 := ⟨Nat.le_refl _, Nat.le_refl _⟩
  unfold wX1_judge at w
  refine g_aload_n O dX1_judge_0 rfl ?_
  refine g_iload_n O dX1_judge_1 rfl ?_
  refine g_xq0 O hN hQ (kOk.f hk (c := 1) (Nat.le_of_ble_eq_true rfl)) (grx_V (lay := 1) (nA := 1) (As := [.int x1]) (rest := []) O hRm (kX1_judgeAt _ O.2.2.2.2.2.2.2.2 _ _ _ _ _ _ t hT (x1) _ xp w) (lw_V q1461 q1463 qs39 q106 q1464) rfl rfl (by decide +kernel) ⟨Nat.le_of_ble_eq_true rfl, Nat.le_of_ble_eq_true rfl⟩ ck1 (by decide) rfl hT rfl rfl rfl (Nat.le_of_ble_eq_true rfl) dX1_judge_2 (kOk.f hk (c := 1) (Nat.le_of_ble_eq_true rfl))) (fun r1 w => ?_)
  have hk5 := kOk.sub 1 hk (Nat.le_of_ble_eq_true rfl)
  obtain ⟨hr4, w⟩ := w
  refine g_astore_n O dX1_judge_5 (Nat.le_of_ble_eq_true rfl) rfl (lv' := [some (.ref t), some (.int x1), some (.int x2), some (.ref r1)]) rfl ?_
  refine g_iload_n O dX1_judge_6 rfl ?_
  refine g_iconst (v := 0) O dX1_judge_7 (by decide) ?_
  refine g_iconst (v := 4) O dX1_judge_8 (by decide) ?_
  refine g_ri0 (gr_S (nA := 3) (As := [.int x2, .int 0, .int 4]) (rest := []) O hRm (kX1_within _ O.2.2.2.2.2.2.2.2 _ _ _ _ _ _ (x2) (0) (4) _ w) (lw_S q1259 q1260 q106 q1261) rfl rfl (by decide +kernel) ⟨Nat.le_of_ble_eq_true rfl, Nat.le_of_ble_eq_true rfl⟩ rfl rfl rfl (Nat.le_of_ble_eq_true rfl) dX1_judge_9 (kOk.f0 hk5)) (fun r6 w => ?_)
  have hk5 := kOk.s0 hk5
  refine g_xv0 O hN hQ (kOk.f hk5 (c := 1) (Nat.le_of_ble_eq_true rfl)) (grx_S (nA := 1) (As := [.int r6]) (rest := []) O hRm (kX1_there _ O.2.2.2.2.2.2.2.2 _ _ _ _ _ _ (r6) _ xp w) (lw_S q1262 q1263 q106 q1264) rfl rfl (by decide +kernel) ⟨Nat.le_of_ble_eq_true rfl, Nat.le_of_ble_eq_true rfl⟩ rfl rfl rfl (Nat.le_of_ble_eq_true rfl) dX1_judge_12 (kOk.f hk5 (c := 1) (Nat.le_of_ble_eq_true rfl))) (fun w => ?_)
  have hk12 := kOk.sub 1 hk5 (Nat.le_of_ble_eq_true rfl)
  refine g_aload_n O dX1_judge_15 rfl ?_
  refine g_ri1 (gr_V (lay := 1) (nA := 0) (As := []) (rest := []) O hRm (kX1_tries _ O.2.2.2.2.2.2.2.2 _ _ _ _ _ _ t hT _ w) (lw_V q1285 q1287 qs23 q106 q1288) rfl rfl (by decide +kernel) ⟨Nat.le_of_ble_eq_true rfl, Nat.le_of_ble_eq_true rfl⟩ ck1 (by decide) rfl hT rfl rfl rfl (Nat.le_of_ble_eq_true rfl) dX1_judge_16 (kOk.f0 hk12)) (fun r13 V14 w => ?_)
  have hk12 := kOk.s0 hk12
  refine g_pop O dX1_judge_19 rfl ?_
  refine g_iload_n O dX1_judge_20 rfl ?_
  refine g_if_ne (tgt := 31) O w dX1_judge_21 (by decide) (fun w => ?_) (fun w => ?_)
  · refine g_iload_n O dX1_judge_31 rfl ?_
    refine g_iconst (v := 1) O dX1_judge_32 (by decide) ?_
    refine g_icmp_ne (tgt := 48) O w dX1_judge_33 (by decide) (fun w => ?_) (fun w => ?_)
    · refine g_iload_n O dX1_judge_48 rfl ?_
      refine g_iconst (v := 2) O dX1_judge_49 (by decide) ?_
      refine g_icmp_ne (tgt := 60) O w dX1_judge_50 (by decide) (fun w => ?_) (fun w => ?_)
      · refine g_iload_n O dX1_judge_60 rfl ?_
        refine g_iconst (v := 3) O dX1_judge_61 (by decide) ?_
        refine g_icmp_ne (tgt := 72) O w dX1_judge_62 (by decide) (fun w => ?_) (fun w => ?_)
        · refine g_aload_n O dX1_judge_72 rfl ?_
          obtain ⟨b16, hp17, ht18, w⟩ := w
          refine gx_getR (lay := 1) (j := 5) O ck1 (by decide) rfl rfl hp17 (by decide) hT q815 dX1_judge_73 ?_
          refine gx_getAN (lay := 6) (j := 3) O ck6 (by decide) rfl rfl (by decide) ht18 q744 dX1_judge_76 ?_
          refine g_bipush (v := 7) O dX1_judge_79 (by decide) ?_
          refine g_iload_n O dX1_judge_81 rfl ?_
          refine g_imul O dX1_judge_82 ?_
          refine g_aload_n O dX1_judge_83 rfl ?_
          refine g_ri0 (g_disp3 hr4 (fun h => (gr_V (lay := 12) (nA := 0) (As := []) (rest := [.int (7 * x1), .ref (b16 + 2)]) O hRm (kX16_towns _ O.2.2.2.2.2.2.2.2 _ _ _ _ _ _ r1 (Or.inl h) _ w) (lw_V q1479 q1309 q1310 q143 q1314) rfl rfl (by decide +kernel) ⟨Nat.le_of_ble_eq_true rfl, Nat.le_of_ble_eq_true rfl⟩ ck12 (by decide) rfl h rfl rfl rfl (Nat.le_of_ble_eq_true rfl) dX1_judge_84 (kOk.f0 hk12))) (fun h => (gr_U (owner := "ApartBench$Judge") (lay := 13) (nA := 0) (As := []) (rest := [.int (7 * x1), .ref (b16 + 2)]) O hRm (kX16_towns _ O.2.2.2.2.2.2.2.2 _ _ _ _ _ _ r1 (Or.inr (Or.inl h)) _ w) (lw_U q1479 q1311 q1312 q1309 q143 q1314) rfl rfl rfl (by decide +kernel) ⟨Nat.le_of_ble_eq_true rfl, Nat.le_of_ble_eq_true rfl⟩ ck13 (by decide) rfl h rfl rfl rfl (Nat.le_of_ble_eq_true rfl) dX1_judge_84 (kOk.f0 hk12))) (fun h => (gr_U (owner := "ApartBench$Judge") (lay := 14) (nA := 0) (As := []) (rest := [.int (7 * x1), .ref (b16 + 2)]) O hRm (kX16_towns _ O.2.2.2.2.2.2.2.2 _ _ _ _ _ _ r1 (Or.inr (Or.inr h)) _ w) (lw_U q1479 q1311 q1313 q1309 q143 q1314) rfl rfl rfl (by decide +kernel) ⟨Nat.le_of_ble_eq_true rfl, Nat.le_of_ble_eq_true rfl⟩ ck14 (by decide) rfl h rfl rfl rfl (Nat.le_of_ble_eq_true rfl) dX1_judge_84 (kOk.f0 hk12)))) (fun r19 w => ?_)
          have hk12 := kOk.s0 hk12
          refine g_iadd O dX1_judge_87 ?_
          refine g_iconst (v := 1) O dX1_judge_88 (by decide) ?_
          refine g_isub O dX1_judge_89 ?_
          obtain ⟨i22, hi23, e24, w⟩ := w
          refine gx_iald (a := b16) (kk0 := 4) (len := 35) (nn := i22) O (ha_own (lay := 6) (j := 3) (off := 2) (ty := 0) (len := 35) (by decide) ht18 rfl (by decide)) hi23 (by decide) e24 dX1_judge_90 ?_
          exact gt_iret (f := xW1 z T L P) (u := V14) O hQ (kOk.m hk12) rfl rfl w dX1_judge_91
        · refine g_aload_n O dX1_judge_65 rfl ?_
          refine g_ri0 (g_disp3 hr4 (fun h => (gr_V (lay := 12) (nA := 0) (As := []) (rest := []) O hRm (kX16_towns _ O.2.2.2.2.2.2.2.2 _ _ _ _ _ _ r1 (Or.inl h) _ w) (lw_V q1479 q1309 q1310 q143 q1314) rfl rfl (by decide +kernel) ⟨Nat.le_of_ble_eq_true rfl, Nat.le_of_ble_eq_true rfl⟩ ck12 (by decide) rfl h rfl rfl rfl (Nat.le_of_ble_eq_true rfl) dX1_judge_66 (kOk.f0 hk12))) (fun h => (gr_U (owner := "ApartBench$Judge") (lay := 13) (nA := 0) (As := []) (rest := []) O hRm (kX16_towns _ O.2.2.2.2.2.2.2.2 _ _ _ _ _ _ r1 (Or.inr (Or.inl h)) _ w) (lw_U q1479 q1311 q1312 q1309 q143 q1314) rfl rfl rfl (by decide +kernel) ⟨Nat.le_of_ble_eq_true rfl, Nat.le_of_ble_eq_true rfl⟩ ck13 (by decide) rfl h rfl rfl rfl (Nat.le_of_ble_eq_true rfl) dX1_judge_66 (kOk.f0 hk12))) (fun h => (gr_U (owner := "ApartBench$Judge") (lay := 14) (nA := 0) (As := []) (rest := []) O hRm (kX16_towns _ O.2.2.2.2.2.2.2.2 _ _ _ _ _ _ r1 (Or.inr (Or.inr h)) _ w) (lw_U q1479 q1311 q1313 q1309 q143 q1314) rfl rfl rfl (by decide +kernel) ⟨Nat.le_of_ble_eq_true rfl, Nat.le_of_ble_eq_true rfl⟩ ck14 (by decide) rfl h rfl rfl rfl (Nat.le_of_ble_eq_true rfl) dX1_judge_66 (kOk.f0 hk12)))) (fun r25 w => ?_)
          have hk12 := kOk.s0 hk12
          refine g_goto (tgt := 91) O dX1_judge_69 (by decide) ?_
          exact gt_iret (f := xW1 z T L P) (u := V14) O hQ (kOk.m hk12) rfl rfl w dX1_judge_91
      · refine g_aload_n O dX1_judge_53 rfl ?_
        refine gj_getI (j := 1) O (by decide) hr4 q1223 dX1_judge_54 ?_
        refine g_goto (tgt := 91) O dX1_judge_57 (by decide) ?_
        exact gt_iret (f := xW1 z T L P) (u := V14) O hQ (kOk.m hk12) rfl rfl w dX1_judge_91
    · refine g_aload_n O dX1_judge_36 rfl ?_
      obtain ⟨b28, hp29, ht30, w⟩ := w
      refine gx_getR (lay := 1) (j := 3) O ck1 (by decide) rfl rfl hp29 (by decide) hT q813 dX1_judge_37 ?_
      refine gx_getAN (lay := 5) (j := 0) O ck5 (by decide) rfl rfl (by decide) ht30 q585 dX1_judge_40 ?_
      refine g_iload_n O dX1_judge_43 rfl ?_
      obtain ⟨i31, hi32, e33, w⟩ := w
      refine gx_iald (a := b28) (kk0 := 1) (len := 5) (nn := i31) O (ha_own (lay := 5) (j := 0) (off := 1) (ty := 0) (len := 5) (by decide) ht30 rfl (by decide)) hi32 (by decide) e33 dX1_judge_44 ?_
      refine g_goto (tgt := 91) O dX1_judge_45 (by decide) ?_
      exact gt_iret (f := xW1 z T L P) (u := V14) O hQ (kOk.m hk12) rfl rfl w dX1_judge_91
  · refine g_aload_n O dX1_judge_24 rfl ?_
    refine g_ri0 (g_disp3 hr4 (fun h => (gr_V (lay := 12) (nA := 0) (As := []) (rest := []) O hRm (kX16_kind _ O.2.2.2.2.2.2.2.2 _ _ _ _ _ _ r1 (Or.inl h) _ (w.1 h)) (lw_V q1466 q1467 q1468 q143 q1474) rfl rfl (by decide +kernel) ⟨Nat.le_of_ble_eq_true rfl, Nat.le_of_ble_eq_true rfl⟩ ck12 (by decide) rfl h rfl rfl rfl (Nat.le_of_ble_eq_true rfl) dX1_judge_25 (kOk.f0 hk12))) (fun h => (gr_O (owner := "ApartBench$Judge") (lay := 13) (nA := 0) (As := []) (rest := []) O hRm (kX17_kind _ O.2.2.2.2.2.2.2.2 _ _ _ _ _ _ r1 h _ (w.2.1 h)) (lw_O q1466 q1469 q1467 q1470 q1471 q144 q1472) rfl rfl q1474 (by decide +kernel) ⟨Nat.le_of_ble_eq_true rfl, Nat.le_of_ble_eq_true rfl⟩ ck13 (by decide) rfl h rfl rfl rfl (Nat.le_of_ble_eq_true rfl) dX1_judge_25 (kOk.f0 hk12))) (fun h => (gr_O (owner := "ApartBench$Judge") (lay := 14) (nA := 0) (As := []) (rest := []) O hRm (kX18_kind _ O.2.2.2.2.2.2.2.2 _ _ _ _ _ _ r1 h _ (w.2.2 h)) (lw_O q1466 q1469 q1467 q1475 q1476 q145 q1477) rfl rfl q1474 (by decide +kernel) ⟨Nat.le_of_ble_eq_true rfl, Nat.le_of_ble_eq_true rfl⟩ ck14 (by decide) rfl h rfl rfl rfl (Nat.le_of_ble_eq_true rfl) dX1_judge_25 (kOk.f0 hk12)))) (fun r34 w => ?_)
    have hk12 := kOk.s0 hk12
    refine g_goto (tgt := 91) O dX1_judge_28 (by decide) ?_
    exact gt_iret (f := xW1 z T L P) (u := V14) O hQ (kOk.m hk12) rfl rfl w dX1_judge_91
-- X1_stop
abbrev rX1_stop : Room := { frames := 1250, cells := 16, slots := 64, locals := 37396 }
set_option maxHeartbeats 4000000 in
theorem vjX1_stop_34 {X : Cx} {z : Nat} {T L : Nat → Nat} {V : w_V} {P : w_P} (O : Okc X cX1_stop RX1 5 (some .int)) (hRm : cxR X = rX1_stop) (t : Nat) (hT : T t = 2) (x1 : Int32) (x2 : Int32) (x3 : Int32) (t0 : Int32) (post : Int32 → w_V → Prop) (xp : String → w_V → w_P → Prop) (hN : noTab X) {kc ks : Nat} (hk : kOk rX1_stop kc ks 1) (hQ : cxMX X (va_Qi post (fun u t => wdW (cxE X) (xW1 z T L P u) t.heap) (w_A (cxE X))) (xB z T L xp) rX1_stop.cells rX1_stop.slots) (w : jX1_stop_34 (cxE X).2.2.2.2 T L V P t x1 x2 x3 t0 post xp) : gW X kc ks z T L V P 34 [some (.ref t), some (.int x1), some (.int x2), some (.int x3), none] [.int t0] := by
  unfold jX1_stop_34 at w
  refine g_xv0 O hN hQ (kOk.f hk (c := 1) (Nat.le_of_ble_eq_true rfl)) (grx_S (nA := 1) (As := [.int t0]) (rest := []) O hRm (kX1_there _ O.2.2.2.2.2.2.2.2 _ _ _ _ _ _ (t0) _ xp w) (lw_S q1262 q1263 q106 q1264) rfl rfl (by decide +kernel) ⟨Nat.le_of_ble_eq_true rfl, Nat.le_of_ble_eq_true rfl⟩ rfl rfl rfl (Nat.le_of_ble_eq_true rfl) dX1_stop_34 (kOk.f hk (c := 1) (Nat.le_of_ble_eq_true rfl))) (fun w => ?_)
  have hk9 := kOk.sub 1 hk (Nat.le_of_ble_eq_true rfl)
  refine g_aload_n O dX1_stop_37 rfl ?_
  refine g_ri1 (gr_V (lay := 1) (nA := 0) (As := []) (rest := []) O hRm (kX1_tries _ O.2.2.2.2.2.2.2.2 _ _ _ _ _ _ t hT _ w) (lw_V q1285 q1287 qs23 q106 q1288) rfl rfl (by decide +kernel) ⟨Nat.le_of_ble_eq_true rfl, Nat.le_of_ble_eq_true rfl⟩ ck1 (by decide) rfl hT rfl rfl rfl (Nat.le_of_ble_eq_true rfl) dX1_stop_38 (kOk.f0 hk9)) (fun r10 V11 w => ?_)
  have hk9 := kOk.s0 hk9
  refine g_pop O dX1_stop_41 rfl ?_
  refine g_iload_n O dX1_stop_42 rfl ?_
  refine g_if_ne (tgt := 63) O w dX1_stop_43 (by decide) (fun w => ?_) (fun w => ?_)
  · refine g_aload_n O dX1_stop_63 rfl ?_
    obtain ⟨b13, hp14, ht15, w⟩ := w
    refine gx_getR (lay := 1) (j := 5) O ck1 (by decide) rfl rfl hp14 (by decide) hT q815 dX1_stop_64 ?_
    refine gx_getAN (lay := 6) (j := 3) O ck6 (by decide) rfl rfl (by decide) ht15 q744 dX1_stop_67 ?_
    refine g_bipush (v := 7) O dX1_stop_70 (by decide) ?_
    refine g_iload_n O dX1_stop_72 rfl ?_
    refine g_imul O dX1_stop_73 ?_
    refine g_iload_n O dX1_stop_74 rfl ?_
    refine g_iadd O dX1_stop_75 ?_
    obtain ⟨i16, hi17, e18, w⟩ := w
    refine gx_iald (a := b13) (kk0 := 4) (len := 35) (nn := i16) O (ha_own (lay := 6) (j := 3) (off := 2) (ty := 0) (len := 35) (by decide) ht15 rfl (by decide)) hi17 (by decide) e18 dX1_stop_76 ?_
    exact gt_iret (f := xW1 z T L P) (u := V11) O hQ (kOk.m hk9) rfl rfl w dX1_stop_77
  · refine g_aload_n O dX1_stop_46 rfl ?_
    obtain ⟨b19, hp20, ht21, w⟩ := w
    refine gx_getR (lay := 1) (j := 5) O ck1 (by decide) rfl rfl hp20 (by decide) hT q815 dX1_stop_47 ?_
    refine gx_getAN (lay := 6) (j := 2) O ck6 (by decide) rfl rfl (by decide) ht21 q742 dX1_stop_50 ?_
    refine g_bipush (v := 7) O dX1_stop_53 (by decide) ?_
    refine g_iload_n O dX1_stop_55 rfl ?_
    refine g_imul O dX1_stop_56 ?_
    refine g_iload_n O dX1_stop_57 rfl ?_
    refine g_iadd O dX1_stop_58 ?_
    obtain ⟨i22, hi23, e24, w⟩ := w
    refine gx_iald (a := b19) (kk0 := 3) (len := 35) (nn := i22) O (ha_own (lay := 6) (j := 2) (off := 1) (ty := 0) (len := 35) (by decide) ht21 rfl (by decide)) hi23 (by decide) e24 dX1_stop_59 ?_
    refine g_goto (tgt := 77) O dX1_stop_60 (by decide) ?_
    exact gt_iret (f := xW1 z T L P) (u := V11) O hQ (kOk.m hk9) rfl rfl w dX1_stop_77
set_option maxHeartbeats 4000000 in
theorem vjX1_stop_33 {X : Cx} {z : Nat} {T L : Nat → Nat} {V : w_V} {P : w_P} (O : Okc X cX1_stop RX1 5 (some .int)) (hRm : cxR X = rX1_stop) (t : Nat) (hT : T t = 2) (x1 : Int32) (x2 : Int32) (x3 : Int32) (post : Int32 → w_V → Prop) (xp : String → w_V → w_P → Prop) (hN : noTab X) {kc ks : Nat} (hk : kOk rX1_stop kc ks 1) (hQ : cxMX X (va_Qi post (fun u t => wdW (cxE X) (xW1 z T L P u) t.heap) (w_A (cxE X))) (xB z T L xp) rX1_stop.cells rX1_stop.slots) (w : jX1_stop_33 (cxE X).2.2.2.2 T L V P t x1 x2 x3 post xp) : gW X kc ks z T L V P 33 [some (.ref t), some (.int x1), some (.int x2), some (.int x3), none] [] := by
  unfold jX1_stop_33 at w
  refine g_iconst (v := 0) O dX1_stop_33 (by decide) ?_
  exact vjX1_stop_34 O hRm (V := V) (P := P) t hT (x1) (x2) (x3) (0) post xp hN (kOk.le hk (Nat.le_of_ble_eq_true rfl)) hQ w
set_option maxHeartbeats 4000000 in
theorem kX1_stop (l : Launch) (hfl : l.flags = flags0) (E : w_E) (z : Nat) (T L : Nat → Nat) (V : w_V) (P : w_P) (t : Nat) (hT : T t = 2) (x1 : Int32) (x2 : Int32) (x3 : Int32) (post : Int32 → w_V → Prop) (xp : String → w_V → w_P → Prop) (w : wX1_stop E.2.2.2.2 T L V P t x1 x2 x3 post xp) : vx_Met l yX1_stop (ws_ yX1_stop cX1_stop 5 (some .int)) rX1_stop (va_Pc [.ref t, .int x1, .int x2, .int x3] (fun U => kenv E U ∧ wdW E (z, T, L, V, P) U.heap)) (va_Qi post (fun u t => wdW E ((xW1 z T L P) u) t.heap) (w_A E)) (xcX E (xB z T L xp)) 16 64 (w_A E) := by
  refine g_startX (w := (z, T, L, V, P)) hfl (by decide +kernel) rfl [some (.ref t), some (.int x1), some (.int x2), some (.int x3), none] rfl (fun _ h => h) (Nat.le_of_ble_eq_true rfl) (fun X hl hRm hEe O hN hQ => ?_)
  subst hl
  subst hEe
  have hk : kOk rX1_stop 0 0 2 := ⟨Nat.le_refl _, Nat.le_refl _⟩
  unfold wX1_stop at w
  refine g_aload_n O dX1_stop_0 rfl ?_
  refine g_iload_n O dX1_stop_1 rfl ?_
  refine g_xq0 O hN hQ (kOk.f hk (c := 1) (Nat.le_of_ble_eq_true rfl)) (grx_V (lay := 1) (nA := 1) (As := [.int x1]) (rest := []) O hRm (kX1_judgeAt _ O.2.2.2.2.2.2.2.2 _ _ _ _ _ _ t hT (x1) _ xp w) (lw_V q1461 q1463 qs39 q106 q1464) rfl rfl (by decide +kernel) ⟨Nat.le_of_ble_eq_true rfl, Nat.le_of_ble_eq_true rfl⟩ ck1 (by decide) rfl hT rfl rfl rfl (Nat.le_of_ble_eq_true rfl) dX1_stop_2 (kOk.f hk (c := 1) (Nat.le_of_ble_eq_true rfl))) (fun r1 w => ?_)
  have hk5 := kOk.sub 1 hk (Nat.le_of_ble_eq_true rfl)
  obtain ⟨hr4, w⟩ := w
  refine g_astore O dX1_stop_5 (Nat.le_of_ble_eq_true rfl) rfl (lv' := [some (.ref t), some (.int x1), some (.int x2), some (.int x3), some (.ref r1)]) rfl ?_
  refine g_iload_n O dX1_stop_7 rfl ?_
  refine g_if_lt (tgt := 33) O w dX1_stop_8 (by decide) (fun w => ?_) (fun w => ?_)
  · refine g_drop [4] (lv' := [some (.ref t), some (.int x1), some (.int x2), some (.int x3), none]) rfl ?_
    exact vjX1_stop_33 O hRm (V := V) (P := P) t hT (x1) (x2) (x3) post xp hN (kOk.le hk5 (Nat.le_of_ble_eq_true rfl)) hQ w
  · refine g_iload_n O dX1_stop_11 rfl ?_
    refine g_aload O dX1_stop_12 rfl ?_
    refine g_ri0 (g_disp3 hr4 (fun h => (gr_V (lay := 12) (nA := 0) (As := []) (rest := [.int x2]) O hRm (kX16_towns _ O.2.2.2.2.2.2.2.2 _ _ _ _ _ _ r1 (Or.inl h) _ w) (lw_V q1479 q1309 q1310 q143 q1314) rfl rfl (by decide +kernel) ⟨Nat.le_of_ble_eq_true rfl, Nat.le_of_ble_eq_true rfl⟩ ck12 (by decide) rfl h rfl rfl rfl (Nat.le_of_ble_eq_true rfl) dX1_stop_14 (kOk.f0 hk5))) (fun h => (gr_U (owner := "ApartBench$Judge") (lay := 13) (nA := 0) (As := []) (rest := [.int x2]) O hRm (kX16_towns _ O.2.2.2.2.2.2.2.2 _ _ _ _ _ _ r1 (Or.inr (Or.inl h)) _ w) (lw_U q1479 q1311 q1312 q1309 q143 q1314) rfl rfl rfl (by decide +kernel) ⟨Nat.le_of_ble_eq_true rfl, Nat.le_of_ble_eq_true rfl⟩ ck13 (by decide) rfl h rfl rfl rfl (Nat.le_of_ble_eq_true rfl) dX1_stop_14 (kOk.f0 hk5))) (fun h => (gr_U (owner := "ApartBench$Judge") (lay := 14) (nA := 0) (As := []) (rest := [.int x2]) O hRm (kX16_towns _ O.2.2.2.2.2.2.2.2 _ _ _ _ _ _ r1 (Or.inr (Or.inr h)) _ w) (lw_U q1479 q1311 q1313 q1309 q143 q1314) rfl rfl rfl (by decide +kernel) ⟨Nat.le_of_ble_eq_true rfl, Nat.le_of_ble_eq_true rfl⟩ ck14 (by decide) rfl h rfl rfl rfl (Nat.le_of_ble_eq_true rfl) dX1_stop_14 (kOk.f0 hk5)))) (fun r25 w => ?_)
    have hk5 := kOk.s0 hk5
    refine g_icmp_ge (tgt := 33) O w dX1_stop_17 (by decide) (fun w => ?_) (fun w => ?_)
    · refine g_drop [4] (lv' := [some (.ref t), some (.int x1), some (.int x2), some (.int x3), none]) rfl ?_
      exact vjX1_stop_33 O hRm (V := V) (P := P) t hT (x1) (x2) (x3) post xp hN (kOk.le hk5 (Nat.le_of_ble_eq_true rfl)) hQ w
    · refine g_iload_n O dX1_stop_20 rfl ?_
      refine g_iconst (v := 0) O dX1_stop_21 (by decide) ?_
      refine g_iconst (v := 1) O dX1_stop_22 (by decide) ?_
      refine g_ri0 (gr_S (nA := 3) (As := [.int x3, .int 0, .int 1]) (rest := []) O hRm (kX1_within _ O.2.2.2.2.2.2.2.2 _ _ _ _ _ _ (x3) (0) (1) _ w) (lw_S q1259 q1260 q106 q1261) rfl rfl (by decide +kernel) ⟨Nat.le_of_ble_eq_true rfl, Nat.le_of_ble_eq_true rfl⟩ rfl rfl rfl (Nat.le_of_ble_eq_true rfl) dX1_stop_23 (kOk.f0 hk5)) (fun r28 w => ?_)
      have hk5 := kOk.s0 hk5
      refine g_if_eq (tgt := 33) O w dX1_stop_26 (by decide) (fun w => ?_) (fun w => ?_)
      · refine g_drop [4] (lv' := [some (.ref t), some (.int x1), some (.int x2), some (.int x3), none]) rfl ?_
        exact vjX1_stop_33 O hRm (V := V) (P := P) t hT (x1) (x2) (x3) post xp hN (kOk.le hk5 (Nat.le_of_ble_eq_true rfl)) hQ w
      · refine g_iconst (v := 1) O dX1_stop_29 (by decide) ?_
        refine g_goto (tgt := 34) O dX1_stop_30 (by decide) ?_
        refine g_drop [4] (lv' := [some (.ref t), some (.int x1), some (.int x2), some (.int x3), none]) rfl ?_
        exact vjX1_stop_34 O hRm (V := V) (P := P) t hT (x1) (x2) (x3) (1) post xp hN (kOk.le hk5 (Nat.le_of_ble_eq_true rfl)) hQ w
-- X1_where
abbrev rX1_where : Room := { frames := 1250, cells := 8, slots := 32, locals := 37396 }
set_option maxHeartbeats 4000000 in
theorem kX1_where (l : Launch) (hfl : l.flags = flags0) (E : w_E) (z : Nat) (T L : Nat → Nat) (V : w_V) (P : w_P) (t : Nat) (hT : T t = 2) (x1 : Int32) (x2 : Int32) (post : Int32 → w_V → Prop) (xp : String → w_V → w_P → Prop) (w : wX1_where E.2.2.2.2 T L V P t x1 x2 post xp) : vx_Met l yX1_where (ws_ yX1_where cX1_where 3 (some .int)) rX1_where (va_Pc [.ref t, .int x1, .int x2] (fun U => kenv E U ∧ wdW E (z, T, L, V, P) U.heap)) (va_Qi post (fun u t => wdW E ((xW1 z T L P) u) t.heap) (w_A E)) (xcX E (xB z T L xp)) 8 32 (w_A E) := by
  refine g_startX (w := (z, T, L, V, P)) hfl (by decide +kernel) rfl [some (.ref t), some (.int x1), some (.int x2)] rfl (fun _ h => h) (Nat.le_of_ble_eq_true rfl) (fun X hl hRm hEe O hN hQ => ?_)
  subst hl
  subst hEe
  have hk : kOk rX1_where 0 0 1 := ⟨Nat.le_refl _, Nat.le_refl _⟩
  unfold wX1_where at w
  refine g_aload_n O dX1_where_0 rfl ?_
  refine g_iload_n O dX1_where_1 rfl ?_
  refine g_xq0 O hN hQ (kOk.f hk (c := 1) (Nat.le_of_ble_eq_true rfl)) (grx_V (lay := 1) (nA := 1) (As := [.int x1]) (rest := []) O hRm (kX1_judgeAt _ O.2.2.2.2.2.2.2.2 _ _ _ _ _ _ t hT (x1) _ xp w) (lw_V q1461 q1463 qs39 q106 q1464) rfl rfl (by decide +kernel) ⟨Nat.le_of_ble_eq_true rfl, Nat.le_of_ble_eq_true rfl⟩ ck1 (by decide) rfl hT rfl rfl rfl (Nat.le_of_ble_eq_true rfl) dX1_where_2 (kOk.f hk (c := 1) (Nat.le_of_ble_eq_true rfl))) (fun r1 w => ?_)
  have hk5 := kOk.sub 1 hk (Nat.le_of_ble_eq_true rfl)
  obtain ⟨hr4, w⟩ := w
  refine g_pop O dX1_where_5 rfl ?_
  refine g_aload_n O dX1_where_6 rfl ?_
  refine g_ri1 (gr_V (lay := 1) (nA := 0) (As := []) (rest := []) O hRm (kX1_tries _ O.2.2.2.2.2.2.2.2 _ _ _ _ _ _ t hT _ w) (lw_V q1285 q1287 qs23 q106 q1288) rfl rfl (by decide +kernel) ⟨Nat.le_of_ble_eq_true rfl, Nat.le_of_ble_eq_true rfl⟩ ck1 (by decide) rfl hT rfl rfl rfl (Nat.le_of_ble_eq_true rfl) dX1_where_7 (kOk.f0 hk5)) (fun r6 V7 w => ?_)
  have hk5 := kOk.s0 hk5
  refine g_pop O dX1_where_10 rfl ?_
  refine g_aload_n O dX1_where_11 rfl ?_
  obtain ⟨b9, hp10, ht11, w⟩ := w
  refine gx_getR (lay := 1) (j := 5) O ck1 (by decide) rfl rfl hp10 (by decide) hT q815 dX1_where_12 ?_
  refine g_iload_n O dX1_where_15 rfl ?_
  refine g_iload_n O dX1_where_16 rfl ?_
  refine g_ri0 (gr_V (lay := 6) (nA := 2) (As := [.int x1, .int x2]) (rest := []) O hRm (kX7_at _ O.2.2.2.2.2.2.2.2 _ _ _ _ _ _ b9 ht11 (x1) (x2) _ w) (lw_V q1494 q1327 q1328 q132 q1329) rfl rfl (by decide +kernel) ⟨Nat.le_of_ble_eq_true rfl, Nat.le_of_ble_eq_true rfl⟩ ck6 (by decide) rfl ht11 rfl rfl rfl (Nat.le_of_ble_eq_true rfl) dX1_where_17 (kOk.f0 hk5)) (fun r12 w => ?_)
  have hk5 := kOk.s0 hk5
  exact gt_iret (f := xW1 z T L P) (u := V7) O hQ (kOk.m hk5) rfl rfl w dX1_where_20
-- X1_caseAt
abbrev rX1_caseAt : Room := { frames := 7, cells := 8, slots := 32, locals := 120 }
set_option maxHeartbeats 4000000 in
theorem vjX1_caseAt_17 {X : Cx} {z : Nat} {T L : Nat → Nat} {V : w_V} {P : w_P} (O : Okc X cX1_caseAt RX1 2 none) (hRm : cxR X = rX1_caseAt) (t : Nat) (hT : T t = 2) (t0 : Int32) (post : Prop) (xp : String → w_V → w_P → Prop) (hN : noTab X) {kc ks : Nat} (hk : kOk rX1_caseAt kc ks 1) (hQ : cxMX X (va_Qv (fun (_ : Unit) => post) (fun u t => wdW (cxE X) (xW0 z T L V P u) t.heap) (w_A (cxE X))) (xB z T L xp) rX1_caseAt.cells rX1_caseAt.slots) (w : jX1_caseAt_17 (cxE X).2.2.2.2 T L V P t t0 post xp) : gW X kc ks z T L V P 17 [some (.ref t), none] [.int t0] := by
  unfold jX1_caseAt_17 at w
  refine g_xv0 O hN hQ (kOk.f hk (c := 1) (Nat.le_of_ble_eq_true rfl)) (grx_S (nA := 1) (As := [.int t0]) (rest := []) O hRm (kX1_there _ O.2.2.2.2.2.2.2.2 _ _ _ _ _ _ (t0) _ xp w) (lw_S q1262 q1263 q106 q1264) rfl rfl (by decide +kernel) ⟨Nat.le_of_ble_eq_true rfl, Nat.le_of_ble_eq_true rfl⟩ rfl rfl rfl (Nat.le_of_ble_eq_true rfl) dX1_caseAt_17 (kOk.f hk (c := 1) (Nat.le_of_ble_eq_true rfl))) (fun w => ?_)
  have hk4 := kOk.sub 1 hk (Nat.le_of_ble_eq_true rfl)
  exact gt_vret (f := xW0 z T L V P) (u := ()) O hQ (kOk.m hk4) rfl w dX1_caseAt_20
set_option maxHeartbeats 4000000 in
theorem vjX1_caseAt_16 {X : Cx} {z : Nat} {T L : Nat → Nat} {V : w_V} {P : w_P} (O : Okc X cX1_caseAt RX1 2 none) (hRm : cxR X = rX1_caseAt) (t : Nat) (hT : T t = 2) (post : Prop) (xp : String → w_V → w_P → Prop) (hN : noTab X) {kc ks : Nat} (hk : kOk rX1_caseAt kc ks 1) (hQ : cxMX X (va_Qv (fun (_ : Unit) => post) (fun u t => wdW (cxE X) (xW0 z T L V P u) t.heap) (w_A (cxE X))) (xB z T L xp) rX1_caseAt.cells rX1_caseAt.slots) (w : jX1_caseAt_16 (cxE X).2.2.2.2 T L V P t post xp) : gW X kc ks z T L V P 16 [some (.ref t), none] [] := by
  unfold jX1_caseAt_16 at w
  refine g_iconst (v := 0) O dX1_caseAt_16 (by decide) ?_
  exact vjX1_caseAt_17 O hRm (V := V) (P := P) t hT (0) post xp hN (kOk.le hk (Nat.le_of_ble_eq_true rfl)) hQ w
set_option maxHeartbeats 4000000 in
theorem kX1_caseAt (l : Launch) (hfl : l.flags = flags0) (E : w_E) (z : Nat) (T L : Nat → Nat) (V : w_V) (P : w_P) (t : Nat) (hT : T t = 2) (x1 : Int32) (post : Prop) (xp : String → w_V → w_P → Prop) (w : wX1_caseAt E.2.2.2.2 T L V P t x1 post xp) : vx_Met l yX1_caseAt (ws_ yX1_caseAt cX1_caseAt 2 none) rX1_caseAt (va_Pc [.ref t, .int x1] (fun U => kenv E U ∧ wdW E (z, T, L, V, P) U.heap)) (va_Qv (fun (_ : Unit) => post) (fun u t => wdW E ((xW0 z T L V P) u) t.heap) (w_A E)) (xcX E (xB z T L xp)) 8 32 (w_A E) := by
  refine g_startX (w := (z, T, L, V, P)) hfl (by decide +kernel) rfl [some (.ref t), some (.int x1)] rfl (fun _ h => h) (Nat.le_of_ble_eq_true rfl) (fun X hl hRm hEe O hN hQ => ?_)
  subst hl
  subst hEe
  have hk : kOk rX1_caseAt 0 0 1 := ⟨Nat.le_refl _, Nat.le_refl _⟩
  unfold wX1_caseAt at w
  refine g_iload_n O dX1_caseAt_0 rfl ?_
  refine g_if_lt (tgt := 16) O w dX1_caseAt_1 (by decide) (fun w => ?_) (fun w => ?_)
  · refine g_drop [1] (lv' := [some (.ref t), none]) rfl ?_
    exact vjX1_caseAt_16 O hRm (V := V) (P := P) t hT post xp hN (kOk.le hk (Nat.le_of_ble_eq_true rfl)) hQ w
  · refine g_iload_n O dX1_caseAt_4 rfl ?_
    refine g_aload_n O dX1_caseAt_5 rfl ?_
    refine g_ri0 (gr_V (lay := 1) (nA := 0) (As := []) (rest := [.int x1]) O hRm (kX1_cases _ O.2.2.2.2.2.2.2.2 _ _ _ _ _ _ t hT _ w) (lw_V q1281 q1283 qs22 q106 q1284) rfl rfl (by decide +kernel) ⟨Nat.le_of_ble_eq_true rfl, Nat.le_of_ble_eq_true rfl⟩ ck1 (by decide) rfl hT rfl rfl rfl (Nat.le_of_ble_eq_true rfl) dX1_caseAt_6 (kOk.f0 hk)) (fun r5 w => ?_)
    have hk := kOk.s0 hk
    refine g_icmp_ge (tgt := 16) O w dX1_caseAt_9 (by decide) (fun w => ?_) (fun w => ?_)
    · refine g_drop [1] (lv' := [some (.ref t), none]) rfl ?_
      exact vjX1_caseAt_16 O hRm (V := V) (P := P) t hT post xp hN (kOk.le hk (Nat.le_of_ble_eq_true rfl)) hQ w
    · refine g_iconst (v := 1) O dX1_caseAt_12 (by decide) ?_
      refine g_goto (tgt := 17) O dX1_caseAt_13 (by decide) ?_
      refine g_drop [1] (lv' := [some (.ref t), none]) rfl ?_
      exact vjX1_caseAt_17 O hRm (V := V) (P := P) t hT (1) post xp hN (kOk.le hk (Nat.le_of_ble_eq_true rfl)) hQ w
-- X1_proof
abbrev rX1_proof : Room := { frames := 8, cells := 16, slots := 64, locals := 141 }
set_option maxHeartbeats 4000000 in
theorem kX1_proof (l : Launch) (hfl : l.flags = flags0) (E : w_E) (z : Nat) (T L : Nat → Nat) (V : w_V) (P : w_P) (t : Nat) (hT : T t = 2) (x1 : Int32) (x2 : Int32) (post : Int32 → Prop) (xp : String → w_V → w_P → Prop) (w : wX1_proof E.2.2.2.2 T L V P t x1 x2 post xp) : vx_Met l yX1_proof (ws_ yX1_proof cX1_proof 3 (some .int)) rX1_proof (va_Pc [.ref t, .int x1, .int x2] (fun U => kenv E U ∧ wdW E (z, T, L, V, P) U.heap)) (va_Qi (fun x (_ : Unit) => post x) (fun u t => wdW E ((xW0 z T L V P) u) t.heap) (w_A E)) (xcX E (xB z T L xp)) 16 64 (w_A E) := by
  refine g_startX (w := (z, T, L, V, P)) hfl (by decide +kernel) rfl [some (.ref t), some (.int x1), some (.int x2)] rfl (fun _ h => h) (Nat.le_of_ble_eq_true rfl) (fun X hl hRm hEe O hN hQ => ?_)
  subst hl
  subst hEe
  have hk : kOk rX1_proof 0 0 2 := ⟨Nat.le_refl _, Nat.le_refl _⟩
  unfold wX1_proof at w
  refine g_aload_n O dX1_proof_0 rfl ?_
  refine g_iload_n O dX1_proof_1 rfl ?_
  refine g_xv0 O hN hQ (kOk.f hk (c := 1) (Nat.le_of_ble_eq_true rfl)) (grx_V (lay := 1) (nA := 1) (As := [.int x1]) (rest := []) O hRm (kX1_caseAt _ O.2.2.2.2.2.2.2.2 _ _ _ _ _ _ t hT (x1) _ xp w) (lw_V q1502 q1504 qs40 q106 q1505) rfl rfl (by decide +kernel) ⟨Nat.le_of_ble_eq_true rfl, Nat.le_of_ble_eq_true rfl⟩ ck1 (by decide) rfl hT rfl rfl rfl (Nat.le_of_ble_eq_true rfl) dX1_proof_2 (kOk.f hk (c := 1) (Nat.le_of_ble_eq_true rfl))) (fun w => ?_)
  have hk4 := kOk.sub 1 hk (Nat.le_of_ble_eq_true rfl)
  refine g_aload_n O dX1_proof_5 rfl ?_
  refine g_iload_n O dX1_proof_6 rfl ?_
  refine g_xv0 O hN hQ (kOk.f hk4 (c := 1) (Nat.le_of_ble_eq_true rfl)) (grx_V (lay := 1) (nA := 1) (As := [.int x2]) (rest := []) O hRm (kX1_townAt _ O.2.2.2.2.2.2.2.2 _ _ _ _ _ _ t hT (x2) _ xp w) (lw_V q1448 q1450 qs38 q106 q1451) rfl rfl (by decide +kernel) ⟨Nat.le_of_ble_eq_true rfl, Nat.le_of_ble_eq_true rfl⟩ ck1 (by decide) rfl hT rfl rfl rfl (Nat.le_of_ble_eq_true rfl) dX1_proof_7 (kOk.f hk4 (c := 1) (Nat.le_of_ble_eq_true rfl))) (fun w => ?_)
  have hk8 := kOk.sub 1 hk4 (Nat.le_of_ble_eq_true rfl)
  refine g_aload_n O dX1_proof_10 rfl ?_
  obtain ⟨b9, hp10, ht11, w⟩ := w
  refine gx_getR (lay := 1) (j := 0) O ck1 (by decide) rfl rfl hp10 (by decide) hT q810 dX1_proof_11 ?_
  obtain ⟨b12, hp13, ht14, w⟩ := w
  refine gx_getRN (lay := 2) (j := 7) O ck2 (by decide) rfl rfl hp13 (by decide) ht11 q545 dX1_proof_14 ?_
  refine g_iload_n O dX1_proof_17 rfl ?_
  refine g_rq0 (gr_V (lay := 15) (nA := 1) (As := [.int x1]) (rest := []) O hRm (kJ2_get _ O.2.2.2.2.2.2.2.2 _ _ _ _ _ _ b12 ht14 (x1) _ w) (lw_V q860 q796 q797 q110 q798) rfl rfl (by decide +kernel) ⟨Nat.le_of_ble_eq_true rfl, Nat.le_of_ble_eq_true rfl⟩ ck15 (by decide) rfl ht14 rfl rfl rfl (Nat.le_of_ble_eq_true rfl) dX1_proof_18 (kOk.f0 hk8)) (fun r15 w => ?_)
  have hk8 := kOk.s0 hk8
  obtain ⟨a18, k19, n20, h21, g22, w⟩ := w
  refine gx_castA (fty := .int) O h21 rfl (by decide) (fun _ h => by cases h) q1506 dX1_proof_21 ?_
  refine g_iload_n O dX1_proof_24 rfl ?_
  obtain ⟨i23, hi24, e25, w⟩ := w
  refine gx_iald (a := a18) (kk0 := k19) (len := n20) (nn := i23) O h21 hi24 g22 e25 dX1_proof_25 ?_
  exact gt_iret (f := xW0 z T L V P) (u := ()) O hQ (kOk.m hk8) rfl rfl w dX1_proof_26
-- X1_said
abbrev rX1_said : Room := { frames := 1250, cells := 24, slots := 96, locals := 37396 }
set_option maxHeartbeats 4000000 in
theorem kX1_said (l : Launch) (hfl : l.flags = flags0) (E : w_E) (z : Nat) (T L : Nat → Nat) (V : w_V) (P : w_P) (t : Nat) (hT : T t = 2) (x1 : Int32) (x2 : Int32) (x3 : Int32) (post : Int32 → w_V → Prop) (xp : String → w_V → w_P → Prop) (w : wX1_said E.2.2.2.2 T L V P t x1 x2 x3 post xp) : vx_Met l yX1_said (ws_ yX1_said cX1_said 5 (some .int)) rX1_said (va_Pc [.ref t, .int x1, .int x2, .int x3] (fun U => kenv E U ∧ wdW E (z, T, L, V, P) U.heap)) (va_Qi post (fun u t => wdW E ((xW1 z T L P) u) t.heap) (w_A E)) (xcX E (xB z T L xp)) 24 96 (w_A E) := by
  refine g_startX (w := (z, T, L, V, P)) hfl (by decide +kernel) rfl [some (.ref t), some (.int x1), some (.int x2), some (.int x3), none] rfl (fun _ h => h) (Nat.le_of_ble_eq_true rfl) (fun X hl hRm hEe O hN hQ => ?_)
  subst hl
  subst hEe
  have hk : kOk rX1_said 0 0 3 := ⟨Nat.le_refl _, Nat.le_refl _⟩
  unfold wX1_said at w
  refine g_aload_n O dX1_said_0 rfl ?_
  refine g_iload_n O dX1_said_1 rfl ?_
  refine g_xv0 O hN hQ (kOk.f hk (c := 1) (Nat.le_of_ble_eq_true rfl)) (grx_V (lay := 1) (nA := 1) (As := [.int x1]) (rest := []) O hRm (kX1_caseAt _ O.2.2.2.2.2.2.2.2 _ _ _ _ _ _ t hT (x1) _ xp w) (lw_V q1502 q1504 qs40 q106 q1505) rfl rfl (by decide +kernel) ⟨Nat.le_of_ble_eq_true rfl, Nat.le_of_ble_eq_true rfl⟩ ck1 (by decide) rfl hT rfl rfl rfl (Nat.le_of_ble_eq_true rfl) dX1_said_2 (kOk.f hk (c := 1) (Nat.le_of_ble_eq_true rfl))) (fun w => ?_)
  have hk4 := kOk.sub 1 hk (Nat.le_of_ble_eq_true rfl)
  refine g_aload_n O dX1_said_5 rfl ?_
  refine g_iload_n O dX1_said_6 rfl ?_
  refine g_xq0 O hN hQ (kOk.f hk4 (c := 1) (Nat.le_of_ble_eq_true rfl)) (grx_V (lay := 1) (nA := 1) (As := [.int x2]) (rest := []) O hRm (kX1_judgeAt _ O.2.2.2.2.2.2.2.2 _ _ _ _ _ _ t hT (x2) _ xp w) (lw_V q1461 q1463 qs39 q106 q1464) rfl rfl (by decide +kernel) ⟨Nat.le_of_ble_eq_true rfl, Nat.le_of_ble_eq_true rfl⟩ ck1 (by decide) rfl hT rfl rfl rfl (Nat.le_of_ble_eq_true rfl) dX1_said_7 (kOk.f hk4 (c := 1) (Nat.le_of_ble_eq_true rfl))) (fun r5 w => ?_)
  have hk9 := kOk.sub 1 hk4 (Nat.le_of_ble_eq_true rfl)
  obtain ⟨hr8, w⟩ := w
  refine g_pop O dX1_said_10 rfl ?_
  refine g_iload_n O dX1_said_11 rfl ?_
  refine g_iconst (v := 0) O dX1_said_12 (by decide) ?_
  refine g_iconst (v := 3) O dX1_said_13 (by decide) ?_
  refine g_ri0 (gr_S (nA := 3) (As := [.int x3, .int 0, .int 3]) (rest := []) O hRm (kX1_within _ O.2.2.2.2.2.2.2.2 _ _ _ _ _ _ (x3) (0) (3) _ w) (lw_S q1259 q1260 q106 q1261) rfl rfl (by decide +kernel) ⟨Nat.le_of_ble_eq_true rfl, Nat.le_of_ble_eq_true rfl⟩ rfl rfl rfl (Nat.le_of_ble_eq_true rfl) dX1_said_14 (kOk.f0 hk9)) (fun r10 w => ?_)
  have hk9 := kOk.s0 hk9
  refine g_xv0 O hN hQ (kOk.f hk9 (c := 1) (Nat.le_of_ble_eq_true rfl)) (grx_S (nA := 1) (As := [.int r10]) (rest := []) O hRm (kX1_there _ O.2.2.2.2.2.2.2.2 _ _ _ _ _ _ (r10) _ xp w) (lw_S q1262 q1263 q106 q1264) rfl rfl (by decide +kernel) ⟨Nat.le_of_ble_eq_true rfl, Nat.le_of_ble_eq_true rfl⟩ rfl rfl rfl (Nat.le_of_ble_eq_true rfl) dX1_said_17 (kOk.f hk9 (c := 1) (Nat.le_of_ble_eq_true rfl))) (fun w => ?_)
  have hk16 := kOk.sub 1 hk9 (Nat.le_of_ble_eq_true rfl)
  refine g_aload_n O dX1_said_20 rfl ?_
  refine g_ri1 (gr_V (lay := 1) (nA := 0) (As := []) (rest := []) O hRm (kX1_tries _ O.2.2.2.2.2.2.2.2 _ _ _ _ _ _ t hT _ w) (lw_V q1285 q1287 qs23 q106 q1288) rfl rfl (by decide +kernel) ⟨Nat.le_of_ble_eq_true rfl, Nat.le_of_ble_eq_true rfl⟩ ck1 (by decide) rfl hT rfl rfl rfl (Nat.le_of_ble_eq_true rfl) dX1_said_21 (kOk.f0 hk16)) (fun r17 V18 w => ?_)
  have hk16 := kOk.s0 hk16
  refine g_pop O dX1_said_24 rfl ?_
  refine g_iconst (v := 5) O dX1_said_25 (by decide) ?_
  refine g_iload_n O dX1_said_26 rfl ?_
  refine g_imul O dX1_said_27 ?_
  refine g_iload_n O dX1_said_28 rfl ?_
  refine g_iadd O dX1_said_29 ?_
  refine g_istore O dX1_said_30 (Nat.le_of_ble_eq_true rfl) rfl (lv' := [some (.ref t), some (.int x1), some (.int x2), some (.int x3), some (.int ((5 * x1) + x2))]) rfl ?_
  refine g_iload_n O dX1_said_32 rfl ?_
  refine g_if_ne (tgt := 49) O w dX1_said_33 (by decide) (fun w => ?_) (fun w => ?_)
  · refine g_iload_n O dX1_said_49 rfl ?_
    refine g_iconst (v := 1) O dX1_said_50 (by decide) ?_
    refine g_icmp_ne (tgt := 67) O w dX1_said_51 (by decide) (fun w => ?_) (fun w => ?_)
    · refine g_iload_n O dX1_said_67 rfl ?_
      refine g_iconst (v := 2) O dX1_said_68 (by decide) ?_
      refine g_icmp_ne (tgt := 85) O w dX1_said_69 (by decide) (fun w => ?_) (fun w => ?_)
      · refine g_aload_n O dX1_said_85 rfl ?_
        obtain ⟨b20, hp21, ht22, w⟩ := w
        refine gx_getR (lay := 1) (j := 5) O ck1 (by decide) rfl rfl hp21 (by decide) hT q815 dX1_said_86 ?_
        refine gx_getAN (lay := 6) (j := 10) O ck6 (by decide) rfl rfl (by decide) ht22 q758 dX1_said_89 ?_
        refine g_iload O dX1_said_92 rfl ?_
        obtain ⟨i23, hi24, e25, w⟩ := w
        refine gx_zald (a := b20) (kk0 := 11) (len := 30) (nn := i23) O (ha_own (lay := 6) (j := 10) (off := 9) (ty := 2) (len := 30) (by decide) ht22 rfl (by decide)) hi24 (by decide) e25 dX1_said_94 ?_
        refine g_if_eq (tgt := 102) O w dX1_said_95 (by decide) (fun w => ?_) (fun w => ?_)
        · refine g_iconst (v := 0) O dX1_said_102 (by decide) ?_
          exact gt_iret (f := xW1 z T L P) (u := V18) O hQ (kOk.m hk16) rfl rfl w dX1_said_103
        · refine g_iconst (v := 1) O dX1_said_98 (by decide) ?_
          refine g_goto (tgt := 103) O dX1_said_99 (by decide) ?_
          exact gt_iret (f := xW1 z T L P) (u := V18) O hQ (kOk.m hk16) rfl rfl w dX1_said_103
      · refine g_aload_n O dX1_said_72 rfl ?_
        obtain ⟨b26, hp27, ht28, w⟩ := w
        refine gx_getR (lay := 1) (j := 5) O ck1 (by decide) rfl rfl hp27 (by decide) hT q815 dX1_said_73 ?_
        refine gx_getAN (lay := 6) (j := 6) O ck6 (by decide) rfl rfl (by decide) ht28 q750 dX1_said_76 ?_
        refine g_iload O dX1_said_79 rfl ?_
        obtain ⟨i29, hi30, e31, w⟩ := w
        refine gx_iald (a := b26) (kk0 := 7) (len := 30) (nn := i29) O (ha_own (lay := 6) (j := 6) (off := 5) (ty := 0) (len := 30) (by decide) ht28 rfl (by decide)) hi30 (by decide) e31 dX1_said_81 ?_
        refine g_goto (tgt := 103) O dX1_said_82 (by decide) ?_
        exact gt_iret (f := xW1 z T L P) (u := V18) O hQ (kOk.m hk16) rfl rfl w dX1_said_103
    · refine g_aload_n O dX1_said_54 rfl ?_
      obtain ⟨b32, hp33, ht34, w⟩ := w
      refine gx_getR (lay := 1) (j := 5) O ck1 (by decide) rfl rfl hp33 (by decide) hT q815 dX1_said_55 ?_
      refine gx_getAN (lay := 6) (j := 5) O ck6 (by decide) rfl rfl (by decide) ht34 q748 dX1_said_58 ?_
      refine g_iload O dX1_said_61 rfl ?_
      obtain ⟨i35, hi36, e37, w⟩ := w
      refine gx_iald (a := b32) (kk0 := 6) (len := 30) (nn := i35) O (ha_own (lay := 6) (j := 5) (off := 4) (ty := 0) (len := 30) (by decide) ht34 rfl (by decide)) hi36 (by decide) e37 dX1_said_63 ?_
      refine g_goto (tgt := 103) O dX1_said_64 (by decide) ?_
      exact gt_iret (f := xW1 z T L P) (u := V18) O hQ (kOk.m hk16) rfl rfl w dX1_said_103
  · refine g_aload_n O dX1_said_36 rfl ?_
    obtain ⟨b38, hp39, ht40, w⟩ := w
    refine gx_getR (lay := 1) (j := 5) O ck1 (by decide) rfl rfl hp39 (by decide) hT q815 dX1_said_37 ?_
    refine gx_getAN (lay := 6) (j := 4) O ck6 (by decide) rfl rfl (by decide) ht40 q746 dX1_said_40 ?_
    refine g_iload O dX1_said_43 rfl ?_
    obtain ⟨i41, hi42, e43, w⟩ := w
    refine gx_iald (a := b38) (kk0 := 5) (len := 30) (nn := i41) O (ha_own (lay := 6) (j := 4) (off := 3) (ty := 0) (len := 30) (by decide) ht40 rfl (by decide)) hi42 (by decide) e43 dX1_said_45 ?_
    refine g_goto (tgt := 103) O dX1_said_46 (by decide) ?_
    exact gt_iret (f := xW1 z T L P) (u := V18) O hQ (kOk.m hk16) rfl rfl w dX1_said_103
-- X1_met
abbrev rX1_met : Room := { frames := 1250, cells := 24, slots := 96, locals := 37396 }
set_option maxHeartbeats 4000000 in
theorem vjX1_met_22 {X : Cx} {z : Nat} {T L : Nat → Nat} {V : w_V} {P : w_P} (O : Okc X cX1_met RX1 4 (some .int)) (hRm : cxR X = rX1_met) (t : Nat) (hT : T t = 2) (x1 : Int32) (x2 : Int32) (t0 : Int32) (post : Int32 → w_V → Prop) (xp : String → w_V → w_P → Prop) (hN : noTab X) {kc ks : Nat} (hk : kOk rX1_met kc ks 1) (hQ : cxMX X (va_Qi post (fun u t => wdW (cxE X) (xW1 z T L P u) t.heap) (w_A (cxE X))) (xB z T L xp) rX1_met.cells rX1_met.slots) (w : jX1_met_22 (cxE X).2.2.2.2 T L V P t x1 x2 t0 post xp) : gW X kc ks z T L V P 22 [some (.ref t), some (.int x1), some (.int x2), none] [.int t0] := by
  unfold jX1_met_22 at w
  refine g_xv0 O hN hQ (kOk.f hk (c := 1) (Nat.le_of_ble_eq_true rfl)) (grx_S (nA := 1) (As := [.int t0]) (rest := []) O hRm (kX1_right _ O.2.2.2.2.2.2.2.2 _ _ _ _ _ _ (t0) _ xp w) (lw_S q894 q895 q106 q896) rfl rfl (by decide +kernel) ⟨Nat.le_of_ble_eq_true rfl, Nat.le_of_ble_eq_true rfl⟩ rfl rfl rfl (Nat.le_of_ble_eq_true rfl) dX1_met_22 (kOk.f hk (c := 1) (Nat.le_of_ble_eq_true rfl))) (fun w => ?_)
  have hk14 := kOk.sub 1 hk (Nat.le_of_ble_eq_true rfl)
  refine g_aload_n O dX1_met_25 rfl ?_
  refine g_ri1 (gr_V (lay := 1) (nA := 0) (As := []) (rest := []) O hRm (kX1_tries _ O.2.2.2.2.2.2.2.2 _ _ _ _ _ _ t hT _ w) (lw_V q1285 q1287 qs23 q106 q1288) rfl rfl (by decide +kernel) ⟨Nat.le_of_ble_eq_true rfl, Nat.le_of_ble_eq_true rfl⟩ ck1 (by decide) rfl hT rfl rfl rfl (Nat.le_of_ble_eq_true rfl) dX1_met_26 (kOk.f0 hk14)) (fun r15 V16 w => ?_)
  have hk14 := kOk.s0 hk14
  refine g_pop O dX1_met_29 rfl ?_
  refine g_aload_n O dX1_met_30 rfl ?_
  obtain ⟨b18, hp19, ht20, w⟩ := w
  refine gx_getR (lay := 1) (j := 5) O ck1 (by decide) rfl rfl hp19 (by decide) hT q815 dX1_met_31 ?_
  refine gx_getAN (lay := 6) (j := 7) O ck6 (by decide) rfl rfl (by decide) ht20 q752 dX1_met_34 ?_
  refine g_iconst (v := 5) O dX1_met_37 (by decide) ?_
  refine g_iload_n O dX1_met_38 rfl ?_
  refine g_imul O dX1_met_39 ?_
  refine g_iload_n O dX1_met_40 rfl ?_
  refine g_iadd O dX1_met_41 ?_
  obtain ⟨i21, hi22, e23, w⟩ := w
  refine gx_iald (a := b18) (kk0 := 8) (len := 25) (nn := i21) O (ha_own (lay := 6) (j := 7) (off := 6) (ty := 0) (len := 25) (by decide) ht20 rfl (by decide)) hi22 (by decide) e23 dX1_met_42 ?_
  refine g_istore_n O dX1_met_43 (Nat.le_of_ble_eq_true rfl) rfl (lv' := [some (.ref t), some (.int x1), some (.int x2), some (.int (V16 b18 8 i21))]) rfl ?_
  refine g_iload_n O dX1_met_44 rfl ?_
  refine g_sipush (v := 9999) O dX1_met_45 (by decide) ?_
  refine g_icmp_lt (tgt := 55) O w dX1_met_48 (by decide) (fun w => ?_) (fun w => ?_)
  · refine g_iload_n O dX1_met_55 rfl ?_
    exact gt_iret (f := xW1 z T L P) (u := V16) O hQ (kOk.m hk14) rfl rfl w dX1_met_56
  · refine g_iconst (v := (-1)) O dX1_met_51 (by decide) ?_
    refine g_goto (tgt := 56) O dX1_met_52 (by decide) ?_
    exact gt_iret (f := xW1 z T L P) (u := V16) O hQ (kOk.m hk14) rfl rfl w dX1_met_56
set_option maxHeartbeats 4000000 in
theorem kX1_met (l : Launch) (hfl : l.flags = flags0) (E : w_E) (z : Nat) (T L : Nat → Nat) (V : w_V) (P : w_P) (t : Nat) (hT : T t = 2) (x1 : Int32) (x2 : Int32) (post : Int32 → w_V → Prop) (xp : String → w_V → w_P → Prop) (w : wX1_met E.2.2.2.2 T L V P t x1 x2 post xp) : vx_Met l yX1_met (ws_ yX1_met cX1_met 4 (some .int)) rX1_met (va_Pc [.ref t, .int x1, .int x2] (fun U => kenv E U ∧ wdW E (z, T, L, V, P) U.heap)) (va_Qi post (fun u t => wdW E ((xW1 z T L P) u) t.heap) (w_A E)) (xcX E (xB z T L xp)) 24 96 (w_A E) := by
  refine g_startX (w := (z, T, L, V, P)) hfl (by decide +kernel) rfl [some (.ref t), some (.int x1), some (.int x2), none] rfl (fun _ h => h) (Nat.le_of_ble_eq_true rfl) (fun X hl hRm hEe O hN hQ => ?_)
  subst hl
  subst hEe
  have hk : kOk rX1_met 0 0 3 := ⟨Nat.le_refl _, Nat.le_refl _⟩
  unfold wX1_met at w
  refine g_aload_n O dX1_met_0 rfl ?_
  refine g_iload_n O dX1_met_1 rfl ?_
  refine g_xq0 O hN hQ (kOk.f hk (c := 1) (Nat.le_of_ble_eq_true rfl)) (grx_V (lay := 1) (nA := 1) (As := [.int x1]) (rest := []) O hRm (kX1_judgeAt _ O.2.2.2.2.2.2.2.2 _ _ _ _ _ _ t hT (x1) _ xp w) (lw_V q1461 q1463 qs39 q106 q1464) rfl rfl (by decide +kernel) ⟨Nat.le_of_ble_eq_true rfl, Nat.le_of_ble_eq_true rfl⟩ ck1 (by decide) rfl hT rfl rfl rfl (Nat.le_of_ble_eq_true rfl) dX1_met_2 (kOk.f hk (c := 1) (Nat.le_of_ble_eq_true rfl))) (fun r1 w => ?_)
  have hk5 := kOk.sub 1 hk (Nat.le_of_ble_eq_true rfl)
  obtain ⟨hr4, w⟩ := w
  refine g_pop O dX1_met_5 rfl ?_
  refine g_aload_n O dX1_met_6 rfl ?_
  refine g_iload_n O dX1_met_7 rfl ?_
  refine g_xq0 O hN hQ (kOk.f hk5 (c := 1) (Nat.le_of_ble_eq_true rfl)) (grx_V (lay := 1) (nA := 1) (As := [.int x2]) (rest := []) O hRm (kX1_judgeAt _ O.2.2.2.2.2.2.2.2 _ _ _ _ _ _ t hT (x2) _ xp w) (lw_V q1461 q1463 qs39 q106 q1464) rfl rfl (by decide +kernel) ⟨Nat.le_of_ble_eq_true rfl, Nat.le_of_ble_eq_true rfl⟩ ck1 (by decide) rfl hT rfl rfl rfl (Nat.le_of_ble_eq_true rfl) dX1_met_8 (kOk.f hk5 (c := 1) (Nat.le_of_ble_eq_true rfl))) (fun r6 w => ?_)
  have hk10 := kOk.sub 1 hk5 (Nat.le_of_ble_eq_true rfl)
  obtain ⟨hr9, w⟩ := w
  refine g_pop O dX1_met_11 rfl ?_
  refine g_iload_n O dX1_met_12 rfl ?_
  refine g_iload_n O dX1_met_13 rfl ?_
  refine g_icmp_eq (tgt := 21) O w dX1_met_14 (by decide) (fun w => ?_) (fun w => ?_)
  · refine g_iconst (v := 0) O dX1_met_21 (by decide) ?_
    exact vjX1_met_22 O hRm (V := V) (P := P) t hT (x1) (x2) (0) post xp hN (kOk.le hk10 (Nat.le_of_ble_eq_true rfl)) hQ w
  · refine g_iconst (v := 1) O dX1_met_17 (by decide) ?_
    refine g_goto (tgt := 22) O dX1_met_18 (by decide) ?_
    exact vjX1_met_22 O hRm (V := V) (P := P) t hT (x1) (x2) (1) post xp hN (kOk.le hk10 (Nat.le_of_ble_eq_true rfl)) hQ w
-- X1_guilty
abbrev rX1_guilty : Room := { frames := 1250, cells := 16, slots := 64, locals := 37396 }
set_option maxHeartbeats 4000000 in
theorem kX1_guilty (l : Launch) (hfl : l.flags = flags0) (E : w_E) (z : Nat) (T L : Nat → Nat) (V : w_V) (P : w_P) (t : Nat) (hT : T t = 2) (x1 : Int32) (x2 : Int32) (post : Int32 → w_V → Prop) (xp : String → w_V → w_P → Prop) (w : wX1_guilty E.2.2.2.2 T L V P t x1 x2 post xp) : vx_Met l yX1_guilty (ws_ yX1_guilty cX1_guilty 3 (some .int)) rX1_guilty (va_Pc [.ref t, .int x1, .int x2] (fun U => kenv E U ∧ wdW E (z, T, L, V, P) U.heap)) (va_Qi post (fun u t => wdW E ((xW1 z T L P) u) t.heap) (w_A E)) (xcX E (xB z T L xp)) 16 64 (w_A E) := by
  refine g_startX (w := (z, T, L, V, P)) hfl (by decide +kernel) rfl [some (.ref t), some (.int x1), some (.int x2)] rfl (fun _ h => h) (Nat.le_of_ble_eq_true rfl) (fun X hl hRm hEe O hN hQ => ?_)
  subst hl
  subst hEe
  have hk : kOk rX1_guilty 0 0 2 := ⟨Nat.le_refl _, Nat.le_refl _⟩
  unfold wX1_guilty at w
  refine g_aload_n O dX1_guilty_0 rfl ?_
  refine g_iload_n O dX1_guilty_1 rfl ?_
  refine g_xv0 O hN hQ (kOk.f hk (c := 1) (Nat.le_of_ble_eq_true rfl)) (grx_V (lay := 1) (nA := 1) (As := [.int x1]) (rest := []) O hRm (kX1_caseAt _ O.2.2.2.2.2.2.2.2 _ _ _ _ _ _ t hT (x1) _ xp w) (lw_V q1502 q1504 qs40 q106 q1505) rfl rfl (by decide +kernel) ⟨Nat.le_of_ble_eq_true rfl, Nat.le_of_ble_eq_true rfl⟩ ck1 (by decide) rfl hT rfl rfl rfl (Nat.le_of_ble_eq_true rfl) dX1_guilty_2 (kOk.f hk (c := 1) (Nat.le_of_ble_eq_true rfl))) (fun w => ?_)
  have hk4 := kOk.sub 1 hk (Nat.le_of_ble_eq_true rfl)
  refine g_iload_n O dX1_guilty_5 rfl ?_
  refine g_iconst (v := 0) O dX1_guilty_6 (by decide) ?_
  refine g_iconst (v := 1) O dX1_guilty_7 (by decide) ?_
  refine g_ri0 (gr_S (nA := 3) (As := [.int x2, .int 0, .int 1]) (rest := []) O hRm (kX1_within _ O.2.2.2.2.2.2.2.2 _ _ _ _ _ _ (x2) (0) (1) _ w) (lw_S q1259 q1260 q106 q1261) rfl rfl (by decide +kernel) ⟨Nat.le_of_ble_eq_true rfl, Nat.le_of_ble_eq_true rfl⟩ rfl rfl rfl (Nat.le_of_ble_eq_true rfl) dX1_guilty_8 (kOk.f0 hk4)) (fun r5 w => ?_)
  have hk4 := kOk.s0 hk4
  refine g_xv0 O hN hQ (kOk.f hk4 (c := 1) (Nat.le_of_ble_eq_true rfl)) (grx_S (nA := 1) (As := [.int r5]) (rest := []) O hRm (kX1_there _ O.2.2.2.2.2.2.2.2 _ _ _ _ _ _ (r5) _ xp w) (lw_S q1262 q1263 q106 q1264) rfl rfl (by decide +kernel) ⟨Nat.le_of_ble_eq_true rfl, Nat.le_of_ble_eq_true rfl⟩ rfl rfl rfl (Nat.le_of_ble_eq_true rfl) dX1_guilty_11 (kOk.f hk4 (c := 1) (Nat.le_of_ble_eq_true rfl))) (fun w => ?_)
  have hk11 := kOk.sub 1 hk4 (Nat.le_of_ble_eq_true rfl)
  refine g_aload_n O dX1_guilty_14 rfl ?_
  refine g_ri1 (gr_V (lay := 1) (nA := 0) (As := []) (rest := []) O hRm (kX1_tries _ O.2.2.2.2.2.2.2.2 _ _ _ _ _ _ t hT _ w) (lw_V q1285 q1287 qs23 q106 q1288) rfl rfl (by decide +kernel) ⟨Nat.le_of_ble_eq_true rfl, Nat.le_of_ble_eq_true rfl⟩ ck1 (by decide) rfl hT rfl rfl rfl (Nat.le_of_ble_eq_true rfl) dX1_guilty_15 (kOk.f0 hk11)) (fun r12 V13 w => ?_)
  have hk11 := kOk.s0 hk11
  refine g_pop O dX1_guilty_18 rfl ?_
  refine g_iload_n O dX1_guilty_19 rfl ?_
  refine g_if_ne (tgt := 35) O w dX1_guilty_20 (by decide) (fun w => ?_) (fun w => ?_)
  · refine g_aload_n O dX1_guilty_35 rfl ?_
    obtain ⟨b15, hp16, ht17, w⟩ := w
    refine gx_getR (lay := 1) (j := 5) O ck1 (by decide) rfl rfl hp16 (by decide) hT q815 dX1_guilty_36 ?_
    refine gx_getAN (lay := 6) (j := 9) O ck6 (by decide) rfl rfl (by decide) ht17 q756 dX1_guilty_39 ?_
    refine g_iload_n O dX1_guilty_42 rfl ?_
    obtain ⟨i18, hi19, e20, w⟩ := w
    refine gx_iald (a := b15) (kk0 := 10) (len := 6) (nn := i18) O (ha_own (lay := 6) (j := 9) (off := 8) (ty := 0) (len := 6) (by decide) ht17 rfl (by decide)) hi19 (by decide) e20 dX1_guilty_43 ?_
    exact gt_iret (f := xW1 z T L P) (u := V13) O hQ (kOk.m hk11) rfl rfl w dX1_guilty_44
  · refine g_aload_n O dX1_guilty_23 rfl ?_
    obtain ⟨b21, hp22, ht23, w⟩ := w
    refine gx_getR (lay := 1) (j := 5) O ck1 (by decide) rfl rfl hp22 (by decide) hT q815 dX1_guilty_24 ?_
    refine gx_getAN (lay := 6) (j := 8) O ck6 (by decide) rfl rfl (by decide) ht23 q754 dX1_guilty_27 ?_
    refine g_iload_n O dX1_guilty_30 rfl ?_
    obtain ⟨i24, hi25, e26, w⟩ := w
    refine gx_iald (a := b21) (kk0 := 9) (len := 6) (nn := i24) O (ha_own (lay := 6) (j := 8) (off := 7) (ty := 0) (len := 6) (by decide) ht23 rfl (by decide)) hi25 (by decide) e26 dX1_guilty_31 ?_
    refine g_goto (tgt := 44) O dX1_guilty_32 (by decide) ?_
    exact gt_iret (f := xW1 z T L P) (u := V13) O hQ (kOk.m hk11) rfl rfl w dX1_guilty_44
-- X1_news
abbrev rX1_news : Room := { frames := 1250, cells := 16, slots := 64, locals := 37396 }
set_option maxHeartbeats 4000000 in
theorem vjX1_news_93 {X : Cx} {z : Nat} {T L : Nat → Nat} {V : w_V} {P : w_P} (O : Okc X cX1_news RX1 6 (some .int)) (hRm : cxR X = rX1_news) (t : Nat) (hT : T t = 2) (x1 : Int32) (x2 : Int32) (x3 : Int32) (x4 : Int32) (post : Int32 → w_V → Prop) (xp : String → w_V → w_P → Prop) (hN : noTab X) {kc ks : Nat} (hk : kOk rX1_news kc ks 0) (hQ : cxMX X (va_Qi post (fun u t => wdW (cxE X) (xW1 z T L P u) t.heap) (w_A (cxE X))) (xB z T L xp) rX1_news.cells rX1_news.slots) (kb : Int32 → Int32 → w_V → Prop) (hkb : ∀ (y3 : Int32) (y4 : Int32) (V2 : w_V), kb y3 y4 V2 → gW X kc ks z T L V2 P 22 [some (.ref t), some (.int x1), some (.int x2), some (.int y3), some (.int y4), none] []) (w : jX1_news_93 (cxE X).2.2.2.2 T L V P t x1 x2 x3 x4 post xp kb) : gW X kc ks z T L V P 93 [some (.ref t), some (.int x1), some (.int x2), some (.int x3), some (.int x4), none] [] := by
  unfold jX1_news_93 at w
  refine g_iinc (v := (x4 + 1)) O dX1_news_93 rfl rfl rfl (lv' := [some (.ref t), some (.int x1), some (.int x2), some (.int x3), some (.int (x4 + 1)), none]) rfl ?_
  refine g_goto (tgt := 22) O dX1_news_96 (by decide) ?_
  exact hkb (x3) ((x4 + 1)) (V) w
set_option maxHeartbeats 4000000 in
theorem vlX1_news_22 {X : Cx} {z : Nat} {T L : Nat → Nat} {P : w_P} (O : Okc X cX1_news RX1 6 (some .int)) (hRm : cxR X = rX1_news) (t : Nat) (hT : T t = 2) (x1 : Int32) (x2 : Int32) (post : Int32 → w_V → Prop) (xp : String → w_V → w_P → Prop) (hN : noTab X) {kc ks : Nat} (hk : kOk rX1_news kc ks 0) (hQ : cxMX X (va_Qi post (fun u t => wdW (cxE X) (xW1 z T L P u) t.heap) (w_A (cxE X))) (xB z T L xp) rX1_news.cells rX1_news.slots) (ke_99 : Int32 → w_V → Prop) (hke_99 : ∀ (y3 : Int32) (V2 : w_V), ke_99 y3 V2 → gW X kc ks z T L V2 P 99 [some (.ref t), some (.int x1), some (.int x2), some (.int y3), none, none] [])  : ∀ (n : Nat) (x3 : Int32) (x4 : Int32) (V : w_V), lX1_news_22 (cxE X).2.2.2.2 T L P t x1 x2 post xp ke_99 n x3 x4 V → gW X kc ks z T L V P 22 [some (.ref t), some (.int x1), some (.int x2), some (.int x3), some (.int x4), none] [] := by
  intro n
  induction n with
  | zero =>
    intro x3 x4 V w
    exact w.elim
  | succ n ih =>
    intro x3 x4 V w
    unfold lX1_news_22 at w
    refine g_iload O dX1_news_22 rfl ?_
    refine g_aload_n O dX1_news_24 rfl ?_
    obtain ⟨b12, hp13, ht14, w⟩ := w
    refine gx_getR (lay := 1) (j := 0) O ck1 (by decide) rfl rfl hp13 (by decide) hT q810 dX1_news_25 ?_
    obtain ⟨b15, hp16, ht17, w⟩ := w
    refine gx_getRN (lay := 2) (j := 6) O ck2 (by decide) rfl rfl hp16 (by decide) ht14 q541 dX1_news_28 ?_
    refine g_ri0 (gr_V (lay := 15) (nA := 0) (As := []) (rest := [.int x4]) O hRm (kJ2_size _ O.2.2.2.2.2.2.2.2 _ _ _ _ _ _ b15 ht17 _ w) (lw_V q1280 q792 q793 q110 q794) rfl rfl (by decide +kernel) ⟨Nat.le_of_ble_eq_true rfl, Nat.le_of_ble_eq_true rfl⟩ ck15 (by decide) rfl ht17 rfl rfl rfl (Nat.le_of_ble_eq_true rfl) dX1_news_31 (kOk.f0 hk)) (fun r18 w => ?_)
    have hk := kOk.s0 hk
    refine g_icmp_ge (tgt := 99) O w dX1_news_34 (by decide) (fun w => ?_) (fun w => ?_)
    · refine g_drop [4] (lv' := [some (.ref t), some (.int x1), some (.int x2), some (.int x3), none, none]) rfl ?_
      exact hke_99 (x3) (V) w
    · refine g_iconst (v := 5) O dX1_news_37 (by decide) ?_
      refine g_iload_n O dX1_news_38 rfl ?_
      refine g_imul O dX1_news_39 ?_
      refine g_iload O dX1_news_40 rfl ?_
      refine g_iadd O dX1_news_42 ?_
      refine g_istore O dX1_news_43 (Nat.le_of_ble_eq_true rfl) rfl (lv' := [some (.ref t), some (.int x1), some (.int x2), some (.int x3), some (.int x4), some (.int ((5 * x1) + x4))]) rfl ?_
      refine g_aload_n O dX1_news_45 rfl ?_
      obtain ⟨b21, hp22, ht23, w⟩ := w
      refine gx_getR (lay := 1) (j := 5) O ck1 (by decide) rfl rfl hp22 (by decide) hT q815 dX1_news_46 ?_
      refine gx_getAN (lay := 6) (j := 4) O ck6 (by decide) rfl rfl (by decide) ht23 q746 dX1_news_49 ?_
      refine g_iload O dX1_news_52 rfl ?_
      obtain ⟨i24, hi25, e26, w⟩ := w
      refine gx_iald (a := b21) (kk0 := 5) (len := 30) (nn := i24) O (ha_own (lay := 6) (j := 4) (off := 3) (ty := 0) (len := 30) (by decide) ht23 rfl (by decide)) hi25 (by decide) e26 dX1_news_54 ?_
      refine g_iconst (v := (-1)) O dX1_news_55 (by decide) ?_
      refine g_icmp_eq (tgt := 93) O w dX1_news_56 (by decide) (fun w => ?_) (fun w => ?_)
      · refine g_drop [5] (lv' := [some (.ref t), some (.int x1), some (.int x2), some (.int x3), some (.int x4), none]) rfl ?_
        exact vjX1_news_93 O hRm (V := V) (P := P) t hT (x1) (x2) (x3) (x4) post xp hN (kOk.le hk (Nat.le_of_ble_eq_true rfl)) hQ (lX1_news_22 (cxE X).2.2.2.2 T L P t x1 x2 post xp ke_99 n) ih w
      · refine g_iload_n O dX1_news_59 rfl ?_
        refine g_aload_n O dX1_news_60 rfl ?_
        obtain ⟨b27, hp28, ht29, w⟩ := w
        refine gx_getR (lay := 1) (j := 5) O ck1 (by decide) rfl rfl hp28 (by decide) hT q815 dX1_news_61 ?_
        refine gx_getAN (lay := 6) (j := 5) O ck6 (by decide) rfl rfl (by decide) ht29 q748 dX1_news_64 ?_
        refine g_iload O dX1_news_67 rfl ?_
        obtain ⟨i30, hi31, e32, w⟩ := w
        refine gx_iald (a := b27) (kk0 := 6) (len := 30) (nn := i30) O (ha_own (lay := 6) (j := 5) (off := 4) (ty := 0) (len := 30) (by decide) ht29 rfl (by decide)) hi31 (by decide) e32 dX1_news_69 ?_
        refine g_aload_n O dX1_news_70 rfl ?_
        obtain ⟨b33, hp34, ht35, w⟩ := w
        refine gx_getR (lay := 1) (j := 0) O ck1 (by decide) rfl rfl hp34 (by decide) hT q810 dX1_news_71 ?_
        refine g_aload_n O dX1_news_74 rfl ?_
        obtain ⟨b36, hp37, ht38, w⟩ := w
        refine gx_getR (lay := 1) (j := 5) O ck1 (by decide) rfl rfl hp37 (by decide) hT q815 dX1_news_75 ?_
        refine gx_getAN (lay := 6) (j := 6) O ck6 (by decide) rfl rfl (by decide) ht38 q750 dX1_news_78 ?_
        refine g_iload O dX1_news_81 rfl ?_
        obtain ⟨i39, hi40, e41, w⟩ := w
        refine gx_iald (a := b36) (kk0 := 7) (len := 30) (nn := i39) O (ha_own (lay := 6) (j := 6) (off := 5) (ty := 0) (len := 30) (by decide) ht38 rfl (by decide)) hi40 (by decide) e41 dX1_news_83 ?_
        refine g_iload_n O dX1_news_84 rfl ?_
        refine g_ri0 (gr_V (lay := 2) (nA := 2) (As := [.int (V b36 7 i39), .int x2]) (rest := [.int (V b27 6 i30), .int x3]) O hRm (kX2_news _ O.2.2.2.2.2.2.2.2 _ _ _ _ _ _ b33 ht35 ((V b36 7 i39)) (x2) _ w) (lw_V q1453 q1425 q1426 q107 q1427) rfl rfl (by decide +kernel) ⟨Nat.le_of_ble_eq_true rfl, Nat.le_of_ble_eq_true rfl⟩ ck2 (by decide) rfl ht35 rfl rfl rfl (Nat.le_of_ble_eq_true rfl) dX1_news_85 (kOk.f0 hk)) (fun r42 w => ?_)
        have hk := kOk.s0 hk
        refine g_iadd O dX1_news_88 ?_
        refine g_mmin O q1535 hRm (Nat.le_of_ble_eq_true rfl) (Nat.le_of_ble_eq_true rfl) (kOk.m hk) rfl dX1_news_89 ?_
        refine g_istore_n O dX1_news_92 (Nat.le_of_ble_eq_true rfl) rfl (lv' := [some (.ref t), some (.int x1), some (.int x2), some (.int (if ((V b27 6 i30) + r42) < x3 then ((V b27 6 i30) + r42) else x3)), some (.int x4), some (.int ((5 * x1) + x4))]) rfl ?_
        refine g_drop [5] (lv' := [some (.ref t), some (.int x1), some (.int x2), some (.int (if ((V b27 6 i30) + r42) < x3 then ((V b27 6 i30) + r42) else x3)), some (.int x4), none]) rfl ?_
        exact vjX1_news_93 O hRm (V := V) (P := P) t hT (x1) (x2) ((if ((V b27 6 i30) + r42) < x3 then ((V b27 6 i30) + r42) else x3)) (x4) post xp hN (kOk.le hk (Nat.le_of_ble_eq_true rfl)) hQ (lX1_news_22 (cxE X).2.2.2.2 T L P t x1 x2 post xp ke_99 n) ih w
set_option maxHeartbeats 4000000 in
theorem vjX1_news_172 {X : Cx} {z : Nat} {T L : Nat → Nat} {V : w_V} {P : w_P} (O : Okc X cX1_news RX1 6 (some .int)) (hRm : cxR X = rX1_news) (t : Nat) (hT : T t = 2) (x1 : Int32) (x2 : Int32) (x3 : Int32) (x4 : Int32) (post : Int32 → w_V → Prop) (xp : String → w_V → w_P → Prop) (hN : noTab X) {kc ks : Nat} (hk : kOk rX1_news kc ks 0) (hQ : cxMX X (va_Qi post (fun u t => wdW (cxE X) (xW1 z T L P u) t.heap) (w_A (cxE X))) (xB z T L xp) rX1_news.cells rX1_news.slots) (kb : Int32 → Int32 → w_V → Prop) (hkb : ∀ (y3 : Int32) (y4 : Int32) (V2 : w_V), kb y3 y4 V2 → gW X kc ks z T L V2 P 102 [some (.ref t), some (.int x1), some (.int x2), some (.int y3), some (.int y4), none] []) (w : jX1_news_172 (cxE X).2.2.2.2 T L V P t x1 x2 x3 x4 post xp kb) : gW X kc ks z T L V P 172 [some (.ref t), some (.int x1), some (.int x2), some (.int x3), some (.int x4), none] [] := by
  unfold jX1_news_172 at w
  refine g_iinc (v := (x4 + 1)) O dX1_news_172 rfl rfl rfl (lv' := [some (.ref t), some (.int x1), some (.int x2), some (.int x3), some (.int (x4 + 1)), none]) rfl ?_
  refine g_goto (tgt := 102) O dX1_news_175 (by decide) ?_
  exact hkb (x3) ((x4 + 1)) (V) w
set_option maxHeartbeats 4000000 in
theorem vlX1_news_102 {X : Cx} {z : Nat} {T L : Nat → Nat} {P : w_P} (O : Okc X cX1_news RX1 6 (some .int)) (hRm : cxR X = rX1_news) (t : Nat) (hT : T t = 2) (x1 : Int32) (x2 : Int32) (post : Int32 → w_V → Prop) (xp : String → w_V → w_P → Prop) (hN : noTab X) {kc ks : Nat} (hk : kOk rX1_news kc ks 0) (hQ : cxMX X (va_Qi post (fun u t => wdW (cxE X) (xW1 z T L P u) t.heap) (w_A (cxE X))) (xB z T L xp) rX1_news.cells rX1_news.slots) (ke_178 : Int32 → w_V → Prop) (hke_178 : ∀ (y3 : Int32) (V2 : w_V), ke_178 y3 V2 → gW X kc ks z T L V2 P 178 [some (.ref t), none, none, some (.int y3), none, none] [])  : ∀ (n : Nat) (x3 : Int32) (x4 : Int32) (V : w_V), lX1_news_102 (cxE X).2.2.2.2 T L P t x1 x2 post xp ke_178 n x3 x4 V → gW X kc ks z T L V P 102 [some (.ref t), some (.int x1), some (.int x2), some (.int x3), some (.int x4), none] [] := by
  intro n
  induction n with
  | zero =>
    intro x3 x4 V w
    exact w.elim
  | succ n ih =>
    intro x3 x4 V w
    unfold lX1_news_102 at w
    refine g_iload O dX1_news_102 rfl ?_
    refine g_aload_n O dX1_news_104 rfl ?_
    obtain ⟨b47, hp48, ht49, w⟩ := w
    refine gx_getR (lay := 1) (j := 3) O ck1 (by decide) rfl rfl hp48 (by decide) hT q813 dX1_news_105 ?_
    refine gx_getIN (lay := 5) (j := 5) O ck5 (by decide) rfl rfl (by decide) ht49 q597 dX1_news_108 ?_
    refine g_icmp_ge (tgt := 178) O w dX1_news_111 (by decide) (fun w => ?_) (fun w => ?_)
    · refine g_drop [1, 2, 4] (lv' := [some (.ref t), none, none, some (.int x3), none, none]) rfl ?_
      exact hke_178 (x3) (V) w
    · refine g_aload_n O dX1_news_114 rfl ?_
      obtain ⟨b50, hp51, ht52, w⟩ := w
      refine gx_getR (lay := 1) (j := 3) O ck1 (by decide) rfl rfl hp51 (by decide) hT q813 dX1_news_115 ?_
      refine gx_getAN (lay := 5) (j := 1) O ck5 (by decide) rfl rfl (by decide) ht52 q588 dX1_news_118 ?_
      refine g_iconst (v := 3) O dX1_news_121 (by decide) ?_
      refine g_iload O dX1_news_122 rfl ?_
      refine g_imul O dX1_news_124 ?_
      obtain ⟨i53, hi54, e55, w⟩ := w
      refine gx_iald (a := b50) (kk0 := 2) (len := 15) (nn := i53) O (ha_own (lay := 5) (j := 1) (off := 2) (ty := 0) (len := 15) (by decide) ht52 rfl (by decide)) hi54 (by decide) e55 dX1_news_125 ?_
      refine g_iload_n O dX1_news_126 rfl ?_
      refine g_icmp_ne (tgt := 172) O w dX1_news_127 (by decide) (fun w => ?_) (fun w => ?_)
      · exact vjX1_news_172 O hRm (V := V) (P := P) t hT (x1) (x2) (x3) (x4) post xp hN (kOk.le hk (Nat.le_of_ble_eq_true rfl)) hQ (lX1_news_102 (cxE X).2.2.2.2 T L P t x1 x2 post xp ke_178 n) ih w
      · refine g_iload_n O dX1_news_130 rfl ?_
        refine g_aload_n O dX1_news_131 rfl ?_
        obtain ⟨b56, hp57, ht58, w⟩ := w
        refine gx_getR (lay := 1) (j := 3) O ck1 (by decide) rfl rfl hp57 (by decide) hT q813 dX1_news_132 ?_
        refine gx_getAN (lay := 5) (j := 1) O ck5 (by decide) rfl rfl (by decide) ht58 q588 dX1_news_135 ?_
        refine g_iconst (v := 3) O dX1_news_138 (by decide) ?_
        refine g_iload O dX1_news_139 rfl ?_
        refine g_imul O dX1_news_141 ?_
        refine g_iconst (v := 2) O dX1_news_142 (by decide) ?_
        refine g_iadd O dX1_news_143 ?_
        obtain ⟨i59, hi60, e61, w⟩ := w
        refine gx_iald (a := b56) (kk0 := 2) (len := 15) (nn := i59) O (ha_own (lay := 5) (j := 1) (off := 2) (ty := 0) (len := 15) (by decide) ht58 rfl (by decide)) hi60 (by decide) e61 dX1_news_144 ?_
        refine g_aload_n O dX1_news_145 rfl ?_
        obtain ⟨b62, hp63, ht64, w⟩ := w
        refine gx_getR (lay := 1) (j := 0) O ck1 (by decide) rfl rfl hp63 (by decide) hT q810 dX1_news_146 ?_
        refine g_aload_n O dX1_news_149 rfl ?_
        obtain ⟨b65, hp66, ht67, w⟩ := w
        refine gx_getR (lay := 1) (j := 3) O ck1 (by decide) rfl rfl hp66 (by decide) hT q813 dX1_news_150 ?_
        refine gx_getAN (lay := 5) (j := 1) O ck5 (by decide) rfl rfl (by decide) ht67 q588 dX1_news_153 ?_
        refine g_iconst (v := 3) O dX1_news_156 (by decide) ?_
        refine g_iload O dX1_news_157 rfl ?_
        refine g_imul O dX1_news_159 ?_
        refine g_iconst (v := 1) O dX1_news_160 (by decide) ?_
        refine g_iadd O dX1_news_161 ?_
        obtain ⟨i68, hi69, e70, w⟩ := w
        refine gx_iald (a := b65) (kk0 := 2) (len := 15) (nn := i68) O (ha_own (lay := 5) (j := 1) (off := 2) (ty := 0) (len := 15) (by decide) ht67 rfl (by decide)) hi69 (by decide) e70 dX1_news_162 ?_
        refine g_iload_n O dX1_news_163 rfl ?_
        refine g_ri0 (gr_V (lay := 2) (nA := 2) (As := [.int (V b65 2 i68), .int x2]) (rest := [.int (V b56 2 i59), .int x3]) O hRm (kX2_news _ O.2.2.2.2.2.2.2.2 _ _ _ _ _ _ b62 ht64 ((V b65 2 i68)) (x2) _ w) (lw_V q1453 q1425 q1426 q107 q1427) rfl rfl (by decide +kernel) ⟨Nat.le_of_ble_eq_true rfl, Nat.le_of_ble_eq_true rfl⟩ ck2 (by decide) rfl ht64 rfl rfl rfl (Nat.le_of_ble_eq_true rfl) dX1_news_164 (kOk.f0 hk)) (fun r71 w => ?_)
        have hk := kOk.s0 hk
        refine g_iadd O dX1_news_167 ?_
        refine g_mmin O q1535 hRm (Nat.le_of_ble_eq_true rfl) (Nat.le_of_ble_eq_true rfl) (kOk.m hk) rfl dX1_news_168 ?_
        refine g_istore_n O dX1_news_171 (Nat.le_of_ble_eq_true rfl) rfl (lv' := [some (.ref t), some (.int x1), some (.int x2), some (.int (if ((V b56 2 i59) + r71) < x3 then ((V b56 2 i59) + r71) else x3)), some (.int x4), none]) rfl ?_
        exact vjX1_news_172 O hRm (V := V) (P := P) t hT (x1) (x2) ((if ((V b56 2 i59) + r71) < x3 then ((V b56 2 i59) + r71) else x3)) (x4) post xp hN (kOk.le hk (Nat.le_of_ble_eq_true rfl)) hQ (lX1_news_102 (cxE X).2.2.2.2 T L P t x1 x2 post xp ke_178 n) ih w
set_option maxHeartbeats 4000000 in
theorem kX1_news (l : Launch) (hfl : l.flags = flags0) (E : w_E) (z : Nat) (T L : Nat → Nat) (V : w_V) (P : w_P) (t : Nat) (hT : T t = 2) (x1 : Int32) (x2 : Int32) (post : Int32 → w_V → Prop) (xp : String → w_V → w_P → Prop) (w : wX1_news E.2.2.2.2 T L V P t x1 x2 post xp) : vx_Met l yX1_news (ws_ yX1_news cX1_news 6 (some .int)) rX1_news (va_Pc [.ref t, .int x1, .int x2] (fun U => kenv E U ∧ wdW E (z, T, L, V, P) U.heap)) (va_Qi post (fun u t => wdW E ((xW1 z T L P) u) t.heap) (w_A E)) (xcX E (xB z T L xp)) 16 64 (w_A E) := by
  refine g_startX (w := (z, T, L, V, P)) hfl (by decide +kernel) rfl [some (.ref t), some (.int x1), some (.int x2), none, none, none] rfl (fun _ h => h) (Nat.le_of_ble_eq_true rfl) (fun X hl hRm hEe O hN hQ => ?_)
  subst hl
  subst hEe
  have hk : kOk rX1_news 0 0 2 := ⟨Nat.le_refl _, Nat.le_refl _⟩
  unfold wX1_news at w
  refine g_aload_n O dX1_news_0 rfl ?_
  refine g_iload_n O dX1_news_1 rfl ?_
  refine g_xv0 O hN hQ (kOk.f hk (c := 1) (Nat.le_of_ble_eq_true rfl)) (grx_V (lay := 1) (nA := 1) (As := [.int x1]) (rest := []) O hRm (kX1_caseAt _ O.2.2.2.2.2.2.2.2 _ _ _ _ _ _ t hT (x1) _ xp w) (lw_V q1502 q1504 qs40 q106 q1505) rfl rfl (by decide +kernel) ⟨Nat.le_of_ble_eq_true rfl, Nat.le_of_ble_eq_true rfl⟩ ck1 (by decide) rfl hT rfl rfl rfl (Nat.le_of_ble_eq_true rfl) dX1_news_2 (kOk.f hk (c := 1) (Nat.le_of_ble_eq_true rfl))) (fun w => ?_)
  have hk4 := kOk.sub 1 hk (Nat.le_of_ble_eq_true rfl)
  refine g_aload_n O dX1_news_5 rfl ?_
  refine g_iload_n O dX1_news_6 rfl ?_
  refine g_xv0 O hN hQ (kOk.f hk4 (c := 1) (Nat.le_of_ble_eq_true rfl)) (grx_V (lay := 1) (nA := 1) (As := [.int x2]) (rest := []) O hRm (kX1_townAt _ O.2.2.2.2.2.2.2.2 _ _ _ _ _ _ t hT (x2) _ xp w) (lw_V q1448 q1450 qs38 q106 q1451) rfl rfl (by decide +kernel) ⟨Nat.le_of_ble_eq_true rfl, Nat.le_of_ble_eq_true rfl⟩ ck1 (by decide) rfl hT rfl rfl rfl (Nat.le_of_ble_eq_true rfl) dX1_news_7 (kOk.f hk4 (c := 1) (Nat.le_of_ble_eq_true rfl))) (fun w => ?_)
  have hk8 := kOk.sub 1 hk4 (Nat.le_of_ble_eq_true rfl)
  refine g_aload_n O dX1_news_10 rfl ?_
  refine g_ri1 (gr_V (lay := 1) (nA := 0) (As := []) (rest := []) O hRm (kX1_tries _ O.2.2.2.2.2.2.2.2 _ _ _ _ _ _ t hT _ w) (lw_V q1285 q1287 qs23 q106 q1288) rfl rfl (by decide +kernel) ⟨Nat.le_of_ble_eq_true rfl, Nat.le_of_ble_eq_true rfl⟩ ck1 (by decide) rfl hT rfl rfl rfl (Nat.le_of_ble_eq_true rfl) dX1_news_11 (kOk.f0 hk8)) (fun r9 V10 w => ?_)
  have hk8 := kOk.s0 hk8
  refine g_pop O dX1_news_14 rfl ?_
  refine g_sipush (v := 9999) O dX1_news_15 (by decide) ?_
  refine g_istore_n O dX1_news_18 (Nat.le_of_ble_eq_true rfl) rfl (lv' := [some (.ref t), some (.int x1), some (.int x2), some (.int 9999), none, none]) rfl ?_
  refine g_iconst (v := 0) O dX1_news_19 (by decide) ?_
  refine g_istore O dX1_news_20 (Nat.le_of_ble_eq_true rfl) rfl (lv' := [some (.ref t), some (.int x1), some (.int x2), some (.int 9999), some (.int 0), none]) rfl ?_
  obtain ⟨n77, w⟩ := w
  refine vlX1_news_22 O hRm (P := P) t hT (x1) (x2) post xp hN (kOk.le hk8 (Nat.le_of_ble_eq_true rfl)) hQ _ (fun y45 V46 w => ?_) n77 (9999) (0) (V10) w
  refine g_iconst (v := 0) O dX1_news_99 (by decide) ?_
  refine g_istore O dX1_news_100 (Nat.le_of_ble_eq_true rfl) rfl (lv' := [some (.ref t), some (.int x1), some (.int x2), some (.int y45), some (.int 0), none]) rfl ?_
  obtain ⟨n76, w⟩ := w
  refine vlX1_news_102 O hRm (P := P) t hT (x1) (x2) post xp hN (kOk.le hk8 (Nat.le_of_ble_eq_true rfl)) hQ _ (fun y74 V75 w => ?_) n76 (y45) (0) (V46) w
  refine g_iload_n O dX1_news_178 rfl ?_
  refine g_sipush (v := 9999) O dX1_news_179 (by decide) ?_
  refine g_icmp_lt (tgt := 189) O w dX1_news_182 (by decide) (fun w => ?_) (fun w => ?_)
  · refine g_iload_n O dX1_news_189 rfl ?_
    exact gt_iret (f := xW1 z T L P) (u := V75) O hQ (kOk.m hk8) rfl rfl w dX1_news_190
  · refine g_iconst (v := (-1)) O dX1_news_185 (by decide) ?_
    refine g_goto (tgt := 190) O dX1_news_186 (by decide) ?_
    exact gt_iret (f := xW1 z T L P) (u := V75) O hQ (kOk.m hk8) rfl rfl w dX1_news_190
-- X1_start
abbrev rX1_start : Room := { frames := 8, cells := 8, slots := 32, locals := 141 }
set_option maxHeartbeats 4000000 in
theorem kX1_start (l : Launch) (hfl : l.flags = flags0) (E : w_E) (z : Nat) (T L : Nat → Nat) (V : w_V) (P : w_P) (t : Nat) (hT : T t = 2) (x1 : Int32) (x2 : Int32) (post : Int32 → w_V → w_P → Prop) (xp : String → w_V → w_P → Prop) (w : wX1_start E.2.2.2.2 T L V P t x1 x2 post xp) : vx_Met l yX1_start (ws_ yX1_start cX1_start 4 (some .int)) rX1_start (va_Pc [.ref t, .int x1, .int x2] (fun U => kenv E U ∧ wdW E (z, T, L, V, P) U.heap)) (va_Qi (fun x (u : w_V × w_P) => post x u.1 u.2) (fun u t => wdW E ((xW2 z T L) u) t.heap) (w_A E)) (xcX E (xB z T L xp)) 8 32 (w_A E) := by
  refine g_startX (w := (z, T, L, V, P)) hfl (by decide +kernel) rfl [some (.ref t), some (.int x1), some (.int x2), none] rfl (fun _ h => h) (Nat.le_of_ble_eq_true rfl) (fun X hl hRm hEe O hN hQ => ?_)
  subst hl
  subst hEe
  have hk : kOk rX1_start 0 0 1 := ⟨Nat.le_refl _, Nat.le_refl _⟩
  unfold wX1_start at w
  refine g_aload_n O dX1_start_0 rfl ?_
  refine g_iload_n O dX1_start_1 rfl ?_
  refine g_xq0 O hN hQ (kOk.f hk (c := 1) (Nat.le_of_ble_eq_true rfl)) (grx_V (lay := 1) (nA := 1) (As := [.int x1]) (rest := []) O hRm (kX1_judgeAt _ O.2.2.2.2.2.2.2.2 _ _ _ _ _ _ t hT (x1) _ xp w) (lw_V q1461 q1463 qs39 q106 q1464) rfl rfl (by decide +kernel) ⟨Nat.le_of_ble_eq_true rfl, Nat.le_of_ble_eq_true rfl⟩ ck1 (by decide) rfl hT rfl rfl rfl (Nat.le_of_ble_eq_true rfl) dX1_start_2 (kOk.f hk (c := 1) (Nat.le_of_ble_eq_true rfl))) (fun r1 w => ?_)
  have hk5 := kOk.sub 1 hk (Nat.le_of_ble_eq_true rfl)
  obtain ⟨hr4, w⟩ := w
  refine g_pop O dX1_start_5 rfl ?_
  refine g_iload_n O dX1_start_6 rfl ?_
  refine g_iconst (v := 0) O dX1_start_7 (by decide) ?_
  refine g_bipush (v := 60) O dX1_start_8 (by decide) ?_
  refine g_ri0 (gr_S (nA := 3) (As := [.int x2, .int 0, .int 60]) (rest := []) O hRm (kX1_within _ O.2.2.2.2.2.2.2.2 _ _ _ _ _ _ (x2) (0) (60) _ w) (lw_S q1259 q1260 q106 q1261) rfl rfl (by decide +kernel) ⟨Nat.le_of_ble_eq_true rfl, Nat.le_of_ble_eq_true rfl⟩ rfl rfl rfl (Nat.le_of_ble_eq_true rfl) dX1_start_10 (kOk.f0 hk5)) (fun r6 w => ?_)
  have hk5 := kOk.s0 hk5
  refine g_if_ne (tgt := 22) O w dX1_start_13 (by decide) (fun w => ?_) (fun w => ?_)
  · refine g_aload_n O dX1_start_22 rfl ?_
    obtain ⟨b9, hp10, ht11, w⟩ := w
    refine gx_getR (lay := 1) (j := 1) O ck1 (by decide) rfl rfl hp10 (by decide) hT q811 dX1_start_23 ?_
    refine g_rv2 (gr_V (lay := 4) (nA := 0) (As := []) (rest := []) O hRm (kX5_keeps _ O.2.2.2.2.2.2.2.2 _ _ _ _ _ _ b9 ht11 _ w) (lw_V q1547 q1548 q1549 q130 q1550) rfl rfl (by decide +kernel) ⟨Nat.le_of_ble_eq_true rfl, Nat.le_of_ble_eq_true rfl⟩ ck4 (by decide) rfl ht11 rfl rfl rfl (Nat.le_of_ble_eq_true rfl) dX1_start_26 (kOk.f0 hk5)) (fun V13 P14 w => ?_)
    have hk5 := kOk.s0 hk5
    refine g_aload_n O dX1_start_29 rfl ?_
    obtain ⟨b15, hp16, ht17, w⟩ := w
    refine gx_getR (lay := 1) (j := 3) O ck1 (by decide) rfl rfl hp16 (by decide) hT q813 dX1_start_30 ?_
    refine gx_getAN (lay := 5) (j := 0) O ck5 (by decide) rfl rfl (by decide) ht17 q585 dX1_start_33 ?_
    refine g_iload_n O dX1_start_36 rfl ?_
    obtain ⟨i18, hi19, e20, w⟩ := w
    refine gx_iald (a := b15) (kk0 := 1) (len := 5) (nn := i18) O (ha_own (lay := 5) (j := 0) (off := 1) (ty := 0) (len := 5) (by decide) ht17 rfl (by decide)) hi19 (by decide) e20 dX1_start_37 ?_
    refine g_istore_n O dX1_start_38 (Nat.le_of_ble_eq_true rfl) rfl (lv' := [some (.ref t), some (.int x1), some (.int x2), some (.int (V13 b15 1 i18))]) rfl ?_
    refine g_aload_n O dX1_start_39 rfl ?_
    obtain ⟨b21, hp22, ht23, w⟩ := w
    refine gx_getR (lay := 1) (j := 3) O ck1 (by decide) rfl rfl hp22 (by decide) hT q813 dX1_start_40 ?_
    refine gx_getAN (lay := 5) (j := 0) O ck5 (by decide) rfl rfl (by decide) ht23 q585 dX1_start_43 ?_
    refine g_iload_n O dX1_start_46 rfl ?_
    refine g_iload_n O dX1_start_47 rfl ?_
    obtain ⟨i24, hi25, e26, w⟩ := w
    refine gx_iast (a := b21) (kk0 := 1) (len := 5) (nn := i24) O (ha_own (lay := 5) (j := 0) (off := 1) (ty := 0) (len := 5) (by decide) ht23 rfl (by decide)) hi25 (by decide) e26 dX1_start_48 ?_
    refine g_nV w (fun V27 w _ => ?_)
    refine g_iload_n O dX1_start_49 rfl ?_
    exact gt_iret (f := xW2 z T L) (u := (V27, P14)) O hQ (kOk.m hk5) rfl rfl w dX1_start_50
  · refine g_aload_n O dX1_start_16 rfl ?_
    refine g_iconst (v := 1) O dX1_start_17 (by decide) ?_
    refine g_ri1 (gr_V (lay := 1) (nA := 1) (As := [.int 1]) (rest := []) O hRm (kX1_refuses _ O.2.2.2.2.2.2.2.2 _ _ _ _ _ _ t hT (1) _ w) (lw_V q1543 q1545 qs41 q106 q1546) rfl rfl (by decide +kernel) ⟨Nat.le_of_ble_eq_true rfl, Nat.le_of_ble_eq_true rfl⟩ ck1 (by decide) rfl hT rfl rfl rfl (Nat.le_of_ble_eq_true rfl) dX1_start_18 (kOk.f0 hk5)) (fun r28 V29 w => ?_)
    have hk5 := kOk.s0 hk5
    exact gt_iret (f := xW2 z T L) (u := (V29, P)) O hQ (kOk.m hk5) rfl rfl w dX1_start_21
-- X1_inn
abbrev rX1_inn : Room := { frames := 8, cells := 8, slots := 32, locals := 141 }
set_option maxHeartbeats 4000000 in
theorem vjX1_inn_25 {X : Cx} {z : Nat} {T L : Nat → Nat} {V : w_V} {P : w_P} (O : Okc X cX1_inn RX1 3 (some .boolean)) (hRm : cxR X = rX1_inn) (t : Nat) (hT : T t = 2) (x1 : Int32) (x2 : Int32) (t0 : Int32) (post : Int32 → w_V → w_P → Prop) (xp : String → w_V → w_P → Prop) (hN : noTab X) {kc ks : Nat} (hk : kOk rX1_inn kc ks 0) (hQ : cxMX X (va_Qi (fun x (u : w_V × w_P) => post x u.1 u.2) (fun u t => wdW (cxE X) (xW2 z T L u) t.heap) (w_A (cxE X))) (xB z T L xp) rX1_inn.cells rX1_inn.slots) (w : jX1_inn_25 (cxE X).2.2.2.2 T L V P t x1 x2 t0 post xp) : gW X kc ks z T L V P 25 [some (.ref t), some (.int x1), some (.int x2)] [.int t0] := by
  unfold jX1_inn_25 at w
  refine g_iload_n O dX1_inn_25 rfl ?_
  refine g_icmp_ne (tgt := 37) O w dX1_inn_26 (by decide) (fun w => ?_) (fun w => ?_)
  · refine g_aload_n O dX1_inn_37 rfl ?_
    obtain ⟨b8, hp9, ht10, w⟩ := w
    refine gx_getR (lay := 1) (j := 1) O ck1 (by decide) rfl rfl hp9 (by decide) hT q811 dX1_inn_38 ?_
    refine g_rv2 (gr_V (lay := 4) (nA := 0) (As := []) (rest := []) O hRm (kX5_keeps _ O.2.2.2.2.2.2.2.2 _ _ _ _ _ _ b8 ht10 _ w) (lw_V q1547 q1548 q1549 q130 q1550) rfl rfl (by decide +kernel) ⟨Nat.le_of_ble_eq_true rfl, Nat.le_of_ble_eq_true rfl⟩ ck4 (by decide) rfl ht10 rfl rfl rfl (Nat.le_of_ble_eq_true rfl) dX1_inn_41 (kOk.f0 hk)) (fun V12 P13 w => ?_)
    have hk := kOk.s0 hk
    refine g_aload_n O dX1_inn_44 rfl ?_
    obtain ⟨b14, hp15, ht16, w⟩ := w
    refine gx_getR (lay := 1) (j := 3) O ck1 (by decide) rfl rfl hp15 (by decide) hT q813 dX1_inn_45 ?_
    refine g_dup O dX1_inn_48 rfl ?_
    refine gx_getIN (lay := 5) (j := 4) O ck5 (by decide) rfl rfl (by decide) ht16 q594 dX1_inn_49 ?_
    refine g_iconst (v := 1) O dX1_inn_52 (by decide) ?_
    refine g_iload_n O dX1_inn_53 rfl ?_
    refine g_ishl O dX1_inn_54 ?_
    refine g_ixor O dX1_inn_55 ?_
    refine gx_putIN (lay := 5) (j := 4) (ty := .int) O ck5 (by decide) rfl rfl (by decide) ht16 q594 rfl rfl rfl rfl dX1_inn_56 ?_
    refine g_nV w (fun V17 w _ => ?_)
    refine g_iconst (v := 1) O dX1_inn_59 (by decide) ?_
    exact gt_iret (f := xW2 z T L) (u := (V17, P13)) O hQ (kOk.m hk) rfl rfl w dX1_inn_60
  · refine g_aload_n O dX1_inn_29 rfl ?_
    refine g_iconst (v := 1) O dX1_inn_30 (by decide) ?_
    refine g_ri1 (gr_V (lay := 1) (nA := 1) (As := [.int 1]) (rest := []) O hRm (kX1_refuses _ O.2.2.2.2.2.2.2.2 _ _ _ _ _ _ t hT (1) _ w) (lw_V q1543 q1545 qs41 q106 q1546) rfl rfl (by decide +kernel) ⟨Nat.le_of_ble_eq_true rfl, Nat.le_of_ble_eq_true rfl⟩ ck1 (by decide) rfl hT rfl rfl rfl (Nat.le_of_ble_eq_true rfl) dX1_inn_31 (kOk.f0 hk)) (fun r18 V19 w => ?_)
    have hk := kOk.s0 hk
    refine g_pop O dX1_inn_34 rfl ?_
    refine g_iconst (v := 0) O dX1_inn_35 (by decide) ?_
    exact gt_iret (f := xW2 z T L) (u := (V19, P)) O hQ (kOk.m hk) rfl rfl w dX1_inn_36
set_option maxHeartbeats 4000000 in
theorem kX1_inn (l : Launch) (hfl : l.flags = flags0) (E : w_E) (z : Nat) (T L : Nat → Nat) (V : w_V) (P : w_P) (t : Nat) (hT : T t = 2) (x1 : Int32) (x2 : Int32) (post : Int32 → w_V → w_P → Prop) (xp : String → w_V → w_P → Prop) (w : wX1_inn E.2.2.2.2 T L V P t x1 x2 post xp) : vx_Met l yX1_inn (ws_ yX1_inn cX1_inn 3 (some .boolean)) rX1_inn (va_Pc [.ref t, .int x1, .int x2] (fun U => kenv E U ∧ wdW E (z, T, L, V, P) U.heap)) (va_Qi (fun x (u : w_V × w_P) => post x u.1 u.2) (fun u t => wdW E ((xW2 z T L) u) t.heap) (w_A E)) (xcX E (xB z T L xp)) 8 32 (w_A E) := by
  refine g_startX (w := (z, T, L, V, P)) hfl (by decide +kernel) rfl [some (.ref t), some (.int x1), some (.int x2)] rfl (fun _ h => h) (Nat.le_of_ble_eq_true rfl) (fun X hl hRm hEe O hN hQ => ?_)
  subst hl
  subst hEe
  have hk : kOk rX1_inn 0 0 1 := ⟨Nat.le_refl _, Nat.le_refl _⟩
  unfold wX1_inn at w
  refine g_aload_n O dX1_inn_0 rfl ?_
  refine g_iload_n O dX1_inn_1 rfl ?_
  refine g_xv0 O hN hQ (kOk.f hk (c := 1) (Nat.le_of_ble_eq_true rfl)) (grx_V (lay := 1) (nA := 1) (As := [.int x1]) (rest := []) O hRm (kX1_townAt _ O.2.2.2.2.2.2.2.2 _ _ _ _ _ _ t hT (x1) _ xp w) (lw_V q1448 q1450 qs38 q106 q1451) rfl rfl (by decide +kernel) ⟨Nat.le_of_ble_eq_true rfl, Nat.le_of_ble_eq_true rfl⟩ ck1 (by decide) rfl hT rfl rfl rfl (Nat.le_of_ble_eq_true rfl) dX1_inn_2 (kOk.f hk (c := 1) (Nat.le_of_ble_eq_true rfl))) (fun w => ?_)
  have hk4 := kOk.sub 1 hk (Nat.le_of_ble_eq_true rfl)
  refine g_aload_n O dX1_inn_5 rfl ?_
  obtain ⟨b5, hp6, ht7, w⟩ := w
  refine gx_getR (lay := 1) (j := 3) O ck1 (by decide) rfl rfl hp6 (by decide) hT q813 dX1_inn_6 ?_
  refine gx_getIN (lay := 5) (j := 4) O ck5 (by decide) rfl rfl (by decide) ht7 q594 dX1_inn_9 ?_
  refine g_iload_n O dX1_inn_12 rfl ?_
  refine g_ishr O dX1_inn_13 ?_
  refine g_iconst (v := 1) O dX1_inn_14 (by decide) ?_
  refine g_iand O dX1_inn_15 ?_
  refine g_iconst (v := 1) O dX1_inn_16 (by decide) ?_
  refine g_icmp_ne (tgt := 24) O w dX1_inn_17 (by decide) (fun w => ?_) (fun w => ?_)
  · refine g_iconst (v := 0) O dX1_inn_24 (by decide) ?_
    exact vjX1_inn_25 O hRm (V := V) (P := P) t hT (x1) (x2) (0) post xp hN (kOk.le hk4 (Nat.le_of_ble_eq_true rfl)) hQ w
  · refine g_iconst (v := 1) O dX1_inn_20 (by decide) ?_
    refine g_goto (tgt := 25) O dX1_inn_21 (by decide) ?_
    exact vjX1_inn_25 O hRm (V := V) (P := P) t hT (x1) (x2) (1) post xp hN (kOk.le hk4 (Nat.le_of_ble_eq_true rfl)) hQ w
-- X1_word
abbrev rX1_word : Room := { frames := 8, cells := 16, slots := 64, locals := 141 }
set_option maxHeartbeats 4000000 in
theorem vjX1_word_31 {X : Cx} {z : Nat} {T L : Nat → Nat} {V : w_V} {P : w_P} (O : Okc X cX1_word RX1 4 (some .int)) (hRm : cxR X = rX1_word) (t : Nat) (hT : T t = 2) (post : Int32 → w_V → w_P → Prop) (xp : String → w_V → w_P → Prop) (hN : noTab X) {kc ks : Nat} (hk : kOk rX1_word kc ks 0) (hQ : cxMX X (va_Qi (fun x (u : w_V × w_P) => post x u.1 u.2) (fun u t => wdW (cxE X) (xW2 z T L u) t.heap) (w_A (cxE X))) (xB z T L xp) rX1_word.cells rX1_word.slots) (w : jX1_word_31 (cxE X).2.2.2.2 T L V P t post xp) : gW X kc ks z T L V P 31 [some (.ref t), none, none, none] [] := by
  unfold jX1_word_31 at w
  refine g_aload_n O dX1_word_31 rfl ?_
  refine g_iconst (v := 1) O dX1_word_32 (by decide) ?_
  refine g_ri1 (gr_V (lay := 1) (nA := 1) (As := [.int 1]) (rest := []) O hRm (kX1_refuses _ O.2.2.2.2.2.2.2.2 _ _ _ _ _ _ t hT (1) _ w) (lw_V q1543 q1545 qs41 q106 q1546) rfl rfl (by decide +kernel) ⟨Nat.le_of_ble_eq_true rfl, Nat.le_of_ble_eq_true rfl⟩ ck1 (by decide) rfl hT rfl rfl rfl (Nat.le_of_ble_eq_true rfl) dX1_word_33 (kOk.f0 hk)) (fun r12 V13 w => ?_)
  have hk := kOk.s0 hk
  exact gt_iret (f := xW2 z T L) (u := (V13, P)) O hQ (kOk.m hk) rfl rfl w dX1_word_36
set_option maxHeartbeats 4000000 in
theorem kX1_word (l : Launch) (hfl : l.flags = flags0) (E : w_E) (z : Nat) (T L : Nat → Nat) (V : w_V) (P : w_P) (t : Nat) (hT : T t = 2) (x1 : Int32) (x2 : Int32) (x3 : Int32) (post : Int32 → w_V → w_P → Prop) (xp : String → w_V → w_P → Prop) (w : wX1_word E.2.2.2.2 T L V P t x1 x2 x3 post xp) : vx_Met l yX1_word (ws_ yX1_word cX1_word 4 (some .int)) rX1_word (va_Pc [.ref t, .int x1, .int x2, .int x3] (fun U => kenv E U ∧ wdW E (z, T, L, V, P) U.heap)) (va_Qi (fun x (u : w_V × w_P) => post x u.1 u.2) (fun u t => wdW E ((xW2 z T L) u) t.heap) (w_A E)) (xcX E (xB z T L xp)) 16 64 (w_A E) := by
  refine g_startX (w := (z, T, L, V, P)) hfl (by decide +kernel) rfl [some (.ref t), some (.int x1), some (.int x2), some (.int x3)] rfl (fun _ h => h) (Nat.le_of_ble_eq_true rfl) (fun X hl hRm hEe O hN hQ => ?_)
  subst hl
  subst hEe
  have hk : kOk rX1_word 0 0 2 := ⟨Nat.le_refl _, Nat.le_refl _⟩
  unfold wX1_word at w
  refine g_aload_n O dX1_word_0 rfl ?_
  refine g_iload_n O dX1_word_1 rfl ?_
  refine g_xv0 O hN hQ (kOk.f hk (c := 1) (Nat.le_of_ble_eq_true rfl)) (grx_V (lay := 1) (nA := 1) (As := [.int x1]) (rest := []) O hRm (kX1_caseAt _ O.2.2.2.2.2.2.2.2 _ _ _ _ _ _ t hT (x1) _ xp w) (lw_V q1502 q1504 qs40 q106 q1505) rfl rfl (by decide +kernel) ⟨Nat.le_of_ble_eq_true rfl, Nat.le_of_ble_eq_true rfl⟩ ck1 (by decide) rfl hT rfl rfl rfl (Nat.le_of_ble_eq_true rfl) dX1_word_2 (kOk.f hk (c := 1) (Nat.le_of_ble_eq_true rfl))) (fun w => ?_)
  have hk4 := kOk.sub 1 hk (Nat.le_of_ble_eq_true rfl)
  refine g_aload_n O dX1_word_5 rfl ?_
  refine g_iload_n O dX1_word_6 rfl ?_
  refine g_xv0 O hN hQ (kOk.f hk4 (c := 1) (Nat.le_of_ble_eq_true rfl)) (grx_V (lay := 1) (nA := 1) (As := [.int x2]) (rest := []) O hRm (kX1_townAt _ O.2.2.2.2.2.2.2.2 _ _ _ _ _ _ t hT (x2) _ xp w) (lw_V q1448 q1450 qs38 q106 q1451) rfl rfl (by decide +kernel) ⟨Nat.le_of_ble_eq_true rfl, Nat.le_of_ble_eq_true rfl⟩ ck1 (by decide) rfl hT rfl rfl rfl (Nat.le_of_ble_eq_true rfl) dX1_word_7 (kOk.f hk4 (c := 1) (Nat.le_of_ble_eq_true rfl))) (fun w => ?_)
  have hk8 := kOk.sub 1 hk4 (Nat.le_of_ble_eq_true rfl)
  refine g_aload_n O dX1_word_10 rfl ?_
  obtain ⟨b9, hp10, ht11, w⟩ := w
  refine gx_getR (lay := 1) (j := 3) O ck1 (by decide) rfl rfl hp10 (by decide) hT q813 dX1_word_11 ?_
  refine gx_getIN (lay := 5) (j := 5) O ck5 (by decide) rfl rfl (by decide) ht11 q597 dX1_word_14 ?_
  refine g_iconst (v := 4) O dX1_word_17 (by decide) ?_
  refine g_icmp_eq (tgt := 31) O w dX1_word_18 (by decide) (fun w => ?_) (fun w => ?_)
  · refine g_drop [1, 2, 3] (lv' := [some (.ref t), none, none, none]) rfl ?_
    exact vjX1_word_31 O hRm (V := V) (P := P) t hT post xp hN (kOk.le hk8 (Nat.le_of_ble_eq_true rfl)) hQ w
  · refine g_iload_n O dX1_word_21 rfl ?_
    refine g_iconst (v := 0) O dX1_word_22 (by decide) ?_
    refine g_bipush (v := 99) O dX1_word_23 (by decide) ?_
    refine g_ri0 (gr_S (nA := 3) (As := [.int x3, .int 0, .int 99]) (rest := []) O hRm (kX1_within _ O.2.2.2.2.2.2.2.2 _ _ _ _ _ _ (x3) (0) (99) _ w) (lw_S q1259 q1260 q106 q1261) rfl rfl (by decide +kernel) ⟨Nat.le_of_ble_eq_true rfl, Nat.le_of_ble_eq_true rfl⟩ rfl rfl rfl (Nat.le_of_ble_eq_true rfl) dX1_word_25 (kOk.f0 hk8)) (fun r15 w => ?_)
    have hk8 := kOk.s0 hk8
    refine g_if_ne (tgt := 37) O w dX1_word_28 (by decide) (fun w => ?_) (fun w => ?_)
    · refine g_aload_n O dX1_word_37 rfl ?_
      obtain ⟨b18, hp19, ht20, w⟩ := w
      refine gx_getR (lay := 1) (j := 1) O ck1 (by decide) rfl rfl hp19 (by decide) hT q811 dX1_word_38 ?_
      refine g_rv2 (gr_V (lay := 4) (nA := 0) (As := []) (rest := []) O hRm (kX5_keeps _ O.2.2.2.2.2.2.2.2 _ _ _ _ _ _ b18 ht20 _ w) (lw_V q1547 q1548 q1549 q130 q1550) rfl rfl (by decide +kernel) ⟨Nat.le_of_ble_eq_true rfl, Nat.le_of_ble_eq_true rfl⟩ ck4 (by decide) rfl ht20 rfl rfl rfl (Nat.le_of_ble_eq_true rfl) dX1_word_41 (kOk.f0 hk8)) (fun V22 P23 w => ?_)
      have hk8 := kOk.s0 hk8
      refine g_aload_n O dX1_word_44 rfl ?_
      obtain ⟨b24, hp25, ht26, w⟩ := w
      refine gx_getR (lay := 1) (j := 3) O ck1 (by decide) rfl rfl hp25 (by decide) hT q813 dX1_word_45 ?_
      refine g_iload_n O dX1_word_48 rfl ?_
      refine g_iload_n O dX1_word_49 rfl ?_
      refine g_iload_n O dX1_word_50 rfl ?_
      refine g_rv1 (gr_V (lay := 5) (nA := 3) (As := [.int x1, .int x2, .int x3]) (rest := []) O hRm (kX6_sends _ O.2.2.2.2.2.2.2.2 _ _ _ _ _ _ b24 ht26 (x1) (x2) (x3) _ w) (lw_V q1574 q1575 q1576 q131 q1577) rfl rfl (by decide +kernel) ⟨Nat.le_of_ble_eq_true rfl, Nat.le_of_ble_eq_true rfl⟩ ck5 (by decide) rfl ht26 rfl rfl rfl (Nat.le_of_ble_eq_true rfl) dX1_word_51 (kOk.f0 hk8)) (fun V28 w => ?_)
      have hk8 := kOk.s0 hk8
      refine g_aload_n O dX1_word_54 rfl ?_
      obtain ⟨b30, hp31, ht32, w⟩ := w
      refine gx_getR (lay := 1) (j := 3) O ck1 (by decide) rfl rfl hp31 (by decide) hT q813 dX1_word_55 ?_
      refine gx_getIN (lay := 5) (j := 5) O ck5 (by decide) rfl rfl (by decide) ht32 q597 dX1_word_58 ?_
      exact gt_iret (f := xW2 z T L) (u := (V28, P23)) O hQ (kOk.m hk8) rfl rfl w dX1_word_61
    · refine g_drop [1, 2, 3] (lv' := [some (.ref t), none, none, none]) rfl ?_
      exact vjX1_word_31 O hRm (V := V) (P := P) t hT post xp hN (kOk.le hk8 (Nat.le_of_ble_eq_true rfl)) hQ w
-- X1_feast
abbrev rX1_feast : Room := { frames := 8, cells := 8, slots := 32, locals := 141 }
set_option maxHeartbeats 4000000 in
theorem vjX1_feast_31 {X : Cx} {z : Nat} {T L : Nat → Nat} {V : w_V} {P : w_P} (O : Okc X cX1_feast RX1 4 (some .int)) (hRm : cxR X = rX1_feast) (t : Nat) (hT : T t = 2) (post : Int32 → w_V → w_P → Prop) (xp : String → w_V → w_P → Prop) (hN : noTab X) {kc ks : Nat} (hk : kOk rX1_feast kc ks 0) (hQ : cxMX X (va_Qi (fun x (u : w_V × w_P) => post x u.1 u.2) (fun u t => wdW (cxE X) (xW2 z T L u) t.heap) (w_A (cxE X))) (xB z T L xp) rX1_feast.cells rX1_feast.slots) (w : jX1_feast_31 (cxE X).2.2.2.2 T L V P t post xp) : gW X kc ks z T L V P 31 [some (.ref t), none, none, none] [] := by
  unfold jX1_feast_31 at w
  refine g_aload_n O dX1_feast_31 rfl ?_
  refine g_iconst (v := 1) O dX1_feast_32 (by decide) ?_
  refine g_ri1 (gr_V (lay := 1) (nA := 1) (As := [.int 1]) (rest := []) O hRm (kX1_refuses _ O.2.2.2.2.2.2.2.2 _ _ _ _ _ _ t hT (1) _ w) (lw_V q1543 q1545 qs41 q106 q1546) rfl rfl (by decide +kernel) ⟨Nat.le_of_ble_eq_true rfl, Nat.le_of_ble_eq_true rfl⟩ ck1 (by decide) rfl hT rfl rfl rfl (Nat.le_of_ble_eq_true rfl) dX1_feast_33 (kOk.f0 hk)) (fun r8 V9 w => ?_)
  have hk := kOk.s0 hk
  exact gt_iret (f := xW2 z T L) (u := (V9, P)) O hQ (kOk.m hk) rfl rfl w dX1_feast_36
set_option maxHeartbeats 4000000 in
theorem kX1_feast (l : Launch) (hfl : l.flags = flags0) (E : w_E) (z : Nat) (T L : Nat → Nat) (V : w_V) (P : w_P) (t : Nat) (hT : T t = 2) (x1 : Int32) (x2 : Int32) (x3 : Int32) (post : Int32 → w_V → w_P → Prop) (xp : String → w_V → w_P → Prop) (w : wX1_feast E.2.2.2.2 T L V P t x1 x2 x3 post xp) : vx_Met l yX1_feast (ws_ yX1_feast cX1_feast 4 (some .int)) rX1_feast (va_Pc [.ref t, .int x1, .int x2, .int x3] (fun U => kenv E U ∧ wdW E (z, T, L, V, P) U.heap)) (va_Qi (fun x (u : w_V × w_P) => post x u.1 u.2) (fun u t => wdW E ((xW2 z T L) u) t.heap) (w_A E)) (xcX E (xB z T L xp)) 8 32 (w_A E) := by
  refine g_startX (w := (z, T, L, V, P)) hfl (by decide +kernel) rfl [some (.ref t), some (.int x1), some (.int x2), some (.int x3)] rfl (fun _ h => h) (Nat.le_of_ble_eq_true rfl) (fun X hl hRm hEe O hN hQ => ?_)
  subst hl
  subst hEe
  have hk : kOk rX1_feast 0 0 1 := ⟨Nat.le_refl _, Nat.le_refl _⟩
  unfold wX1_feast at w
  refine g_aload_n O dX1_feast_0 rfl ?_
  refine g_iload_n O dX1_feast_1 rfl ?_
  refine g_xv0 O hN hQ (kOk.f hk (c := 1) (Nat.le_of_ble_eq_true rfl)) (grx_V (lay := 1) (nA := 1) (As := [.int x1]) (rest := []) O hRm (kX1_townAt _ O.2.2.2.2.2.2.2.2 _ _ _ _ _ _ t hT (x1) _ xp w) (lw_V q1448 q1450 qs38 q106 q1451) rfl rfl (by decide +kernel) ⟨Nat.le_of_ble_eq_true rfl, Nat.le_of_ble_eq_true rfl⟩ ck1 (by decide) rfl hT rfl rfl rfl (Nat.le_of_ble_eq_true rfl) dX1_feast_2 (kOk.f hk (c := 1) (Nat.le_of_ble_eq_true rfl))) (fun w => ?_)
  have hk4 := kOk.sub 1 hk (Nat.le_of_ble_eq_true rfl)
  refine g_aload_n O dX1_feast_5 rfl ?_
  obtain ⟨b5, hp6, ht7, w⟩ := w
  refine gx_getR (lay := 1) (j := 3) O ck1 (by decide) rfl rfl hp6 (by decide) hT q813 dX1_feast_6 ?_
  refine gx_getIN (lay := 5) (j := 6) O ck5 (by decide) rfl rfl (by decide) ht7 q599 dX1_feast_9 ?_
  refine g_iconst (v := 4) O dX1_feast_12 (by decide) ?_
  refine g_icmp_eq (tgt := 31) O w dX1_feast_13 (by decide) (fun w => ?_) (fun w => ?_)
  · refine g_drop [1, 2, 3] (lv' := [some (.ref t), none, none, none]) rfl ?_
    exact vjX1_feast_31 O hRm (V := V) (P := P) t hT post xp hN (kOk.le hk4 (Nat.le_of_ble_eq_true rfl)) hQ w
  · refine g_iload_n O dX1_feast_16 rfl ?_
    refine g_if_lt (tgt := 31) O w dX1_feast_17 (by decide) (fun w => ?_) (fun w => ?_)
    · refine g_drop [1, 2, 3] (lv' := [some (.ref t), none, none, none]) rfl ?_
      exact vjX1_feast_31 O hRm (V := V) (P := P) t hT post xp hN (kOk.le hk4 (Nat.le_of_ble_eq_true rfl)) hQ w
    · refine g_iload_n O dX1_feast_20 rfl ?_
      refine g_bipush (v := 99) O dX1_feast_21 (by decide) ?_
      refine g_icmp_gt (tgt := 31) O w dX1_feast_23 (by decide) (fun w => ?_) (fun w => ?_)
      · refine g_drop [1, 2, 3] (lv' := [some (.ref t), none, none, none]) rfl ?_
        exact vjX1_feast_31 O hRm (V := V) (P := P) t hT post xp hN (kOk.le hk4 (Nat.le_of_ble_eq_true rfl)) hQ w
      · refine g_iload_n O dX1_feast_26 rfl ?_
        refine g_iload_n O dX1_feast_27 rfl ?_
        refine g_icmp_ge (tgt := 37) O w dX1_feast_28 (by decide) (fun w => ?_) (fun w => ?_)
        · refine g_aload_n O dX1_feast_37 rfl ?_
          obtain ⟨b11, hp12, ht13, w⟩ := w
          refine gx_getR (lay := 1) (j := 1) O ck1 (by decide) rfl rfl hp12 (by decide) hT q811 dX1_feast_38 ?_
          refine g_rv2 (gr_V (lay := 4) (nA := 0) (As := []) (rest := []) O hRm (kX5_keeps _ O.2.2.2.2.2.2.2.2 _ _ _ _ _ _ b11 ht13 _ w) (lw_V q1547 q1548 q1549 q130 q1550) rfl rfl (by decide +kernel) ⟨Nat.le_of_ble_eq_true rfl, Nat.le_of_ble_eq_true rfl⟩ ck4 (by decide) rfl ht13 rfl rfl rfl (Nat.le_of_ble_eq_true rfl) dX1_feast_41 (kOk.f0 hk4)) (fun V15 P16 w => ?_)
          have hk4 := kOk.s0 hk4
          refine g_aload_n O dX1_feast_44 rfl ?_
          obtain ⟨b17, hp18, ht19, w⟩ := w
          refine gx_getR (lay := 1) (j := 3) O ck1 (by decide) rfl rfl hp18 (by decide) hT q813 dX1_feast_45 ?_
          refine g_iload_n O dX1_feast_48 rfl ?_
          refine g_iload_n O dX1_feast_49 rfl ?_
          refine g_iload_n O dX1_feast_50 rfl ?_
          refine g_rv1 (gr_V (lay := 5) (nA := 3) (As := [.int x1, .int x2, .int x3]) (rest := []) O hRm (kX6_feasts _ O.2.2.2.2.2.2.2.2 _ _ _ _ _ _ b17 ht19 (x1) (x2) (x3) _ w) (lw_V q1588 q1589 q1590 q131 q1591) rfl rfl (by decide +kernel) ⟨Nat.le_of_ble_eq_true rfl, Nat.le_of_ble_eq_true rfl⟩ ck5 (by decide) rfl ht19 rfl rfl rfl (Nat.le_of_ble_eq_true rfl) dX1_feast_51 (kOk.f0 hk4)) (fun V21 w => ?_)
          have hk4 := kOk.s0 hk4
          refine g_aload_n O dX1_feast_54 rfl ?_
          obtain ⟨b23, hp24, ht25, w⟩ := w
          refine gx_getR (lay := 1) (j := 3) O ck1 (by decide) rfl rfl hp24 (by decide) hT q813 dX1_feast_55 ?_
          refine gx_getIN (lay := 5) (j := 6) O ck5 (by decide) rfl rfl (by decide) ht25 q599 dX1_feast_58 ?_
          exact gt_iret (f := xW2 z T L) (u := (V21, P16)) O hQ (kOk.m hk4) rfl rfl w dX1_feast_61
        · refine g_drop [1, 2, 3] (lv' := [some (.ref t), none, none, none]) rfl ?_
          exact vjX1_feast_31 O hRm (V := V) (P := P) t hT post xp hN (kOk.le hk4 (Nat.le_of_ble_eq_true rfl)) hQ w
-- X1_flood
abbrev rX1_flood : Room := { frames := 8, cells := 8, slots := 32, locals := 141 }
set_option maxHeartbeats 4000000 in
theorem vjX1_flood_36 {X : Cx} {z : Nat} {T L : Nat → Nat} {V : w_V} {P : w_P} (O : Okc X cX1_flood RX1 4 (some .int)) (hRm : cxR X = rX1_flood) (t : Nat) (hT : T t = 2) (post : Int32 → w_V → w_P → Prop) (xp : String → w_V → w_P → Prop) (hN : noTab X) {kc ks : Nat} (hk : kOk rX1_flood kc ks 0) (hQ : cxMX X (va_Qi (fun x (u : w_V × w_P) => post x u.1 u.2) (fun u t => wdW (cxE X) (xW2 z T L u) t.heap) (w_A (cxE X))) (xB z T L xp) rX1_flood.cells rX1_flood.slots) (w : jX1_flood_36 (cxE X).2.2.2.2 T L V P t post xp) : gW X kc ks z T L V P 36 [some (.ref t), none, none, none] [] := by
  unfold jX1_flood_36 at w
  refine g_aload_n O dX1_flood_36 rfl ?_
  refine g_iconst (v := 1) O dX1_flood_37 (by decide) ?_
  refine g_ri1 (gr_V (lay := 1) (nA := 1) (As := [.int 1]) (rest := []) O hRm (kX1_refuses _ O.2.2.2.2.2.2.2.2 _ _ _ _ _ _ t hT (1) _ w) (lw_V q1543 q1545 qs41 q106 q1546) rfl rfl (by decide +kernel) ⟨Nat.le_of_ble_eq_true rfl, Nat.le_of_ble_eq_true rfl⟩ ck1 (by decide) rfl hT rfl rfl rfl (Nat.le_of_ble_eq_true rfl) dX1_flood_38 (kOk.f0 hk)) (fun r8 V9 w => ?_)
  have hk := kOk.s0 hk
  exact gt_iret (f := xW2 z T L) (u := (V9, P)) O hQ (kOk.m hk) rfl rfl w dX1_flood_41
set_option maxHeartbeats 4000000 in
theorem kX1_flood (l : Launch) (hfl : l.flags = flags0) (E : w_E) (z : Nat) (T L : Nat → Nat) (V : w_V) (P : w_P) (t : Nat) (hT : T t = 2) (x1 : Int32) (x2 : Int32) (x3 : Int32) (post : Int32 → w_V → w_P → Prop) (xp : String → w_V → w_P → Prop) (w : wX1_flood E.2.2.2.2 T L V P t x1 x2 x3 post xp) : vx_Met l yX1_flood (ws_ yX1_flood cX1_flood 4 (some .int)) rX1_flood (va_Pc [.ref t, .int x1, .int x2, .int x3] (fun U => kenv E U ∧ wdW E (z, T, L, V, P) U.heap)) (va_Qi (fun x (u : w_V × w_P) => post x u.1 u.2) (fun u t => wdW E ((xW2 z T L) u) t.heap) (w_A E)) (xcX E (xB z T L xp)) 8 32 (w_A E) := by
  refine g_startX (w := (z, T, L, V, P)) hfl (by decide +kernel) rfl [some (.ref t), some (.int x1), some (.int x2), some (.int x3)] rfl (fun _ h => h) (Nat.le_of_ble_eq_true rfl) (fun X hl hRm hEe O hN hQ => ?_)
  subst hl
  subst hEe
  have hk : kOk rX1_flood 0 0 1 := ⟨Nat.le_refl _, Nat.le_refl _⟩
  unfold wX1_flood at w
  refine g_aload_n O dX1_flood_0 rfl ?_
  refine g_iload_n O dX1_flood_1 rfl ?_
  refine g_xv0 O hN hQ (kOk.f hk (c := 1) (Nat.le_of_ble_eq_true rfl)) (grx_V (lay := 1) (nA := 1) (As := [.int x1]) (rest := []) O hRm (kX1_townAt _ O.2.2.2.2.2.2.2.2 _ _ _ _ _ _ t hT (x1) _ xp w) (lw_V q1448 q1450 qs38 q106 q1451) rfl rfl (by decide +kernel) ⟨Nat.le_of_ble_eq_true rfl, Nat.le_of_ble_eq_true rfl⟩ ck1 (by decide) rfl hT rfl rfl rfl (Nat.le_of_ble_eq_true rfl) dX1_flood_2 (kOk.f hk (c := 1) (Nat.le_of_ble_eq_true rfl))) (fun w => ?_)
  have hk4 := kOk.sub 1 hk (Nat.le_of_ble_eq_true rfl)
  refine g_aload_n O dX1_flood_5 rfl ?_
  obtain ⟨b5, hp6, ht7, w⟩ := w
  refine gx_getR (lay := 1) (j := 3) O ck1 (by decide) rfl rfl hp6 (by decide) hT q813 dX1_flood_6 ?_
  refine gx_getIN (lay := 5) (j := 7) O ck5 (by decide) rfl rfl (by decide) ht7 q602 dX1_flood_9 ?_
  refine g_iconst (v := 4) O dX1_flood_12 (by decide) ?_
  refine g_icmp_eq (tgt := 36) O w dX1_flood_13 (by decide) (fun w => ?_) (fun w => ?_)
  · refine g_drop [1, 2, 3] (lv' := [some (.ref t), none, none, none]) rfl ?_
    exact vjX1_flood_36 O hRm (V := V) (P := P) t hT post xp hN (kOk.le hk4 (Nat.le_of_ble_eq_true rfl)) hQ w
  · refine g_iload_n O dX1_flood_16 rfl ?_
    refine g_iconst (v := 0) O dX1_flood_17 (by decide) ?_
    refine g_bipush (v := 99) O dX1_flood_18 (by decide) ?_
    refine g_ri0 (gr_S (nA := 3) (As := [.int x2, .int 0, .int 99]) (rest := []) O hRm (kX1_within _ O.2.2.2.2.2.2.2.2 _ _ _ _ _ _ (x2) (0) (99) _ w) (lw_S q1259 q1260 q106 q1261) rfl rfl (by decide +kernel) ⟨Nat.le_of_ble_eq_true rfl, Nat.le_of_ble_eq_true rfl⟩ rfl rfl rfl (Nat.le_of_ble_eq_true rfl) dX1_flood_20 (kOk.f0 hk4)) (fun r11 w => ?_)
    have hk4 := kOk.s0 hk4
    refine g_if_eq (tgt := 36) O w dX1_flood_23 (by decide) (fun w => ?_) (fun w => ?_)
    · refine g_drop [1, 2, 3] (lv' := [some (.ref t), none, none, none]) rfl ?_
      exact vjX1_flood_36 O hRm (V := V) (P := P) t hT post xp hN (kOk.le hk4 (Nat.le_of_ble_eq_true rfl)) hQ w
    · refine g_iload_n O dX1_flood_26 rfl ?_
      refine g_iconst (v := 0) O dX1_flood_27 (by decide) ?_
      refine g_bipush (v := 20) O dX1_flood_28 (by decide) ?_
      refine g_ri0 (gr_S (nA := 3) (As := [.int x3, .int 0, .int 20]) (rest := []) O hRm (kX1_within _ O.2.2.2.2.2.2.2.2 _ _ _ _ _ _ (x3) (0) (20) _ w) (lw_S q1259 q1260 q106 q1261) rfl rfl (by decide +kernel) ⟨Nat.le_of_ble_eq_true rfl, Nat.le_of_ble_eq_true rfl⟩ rfl rfl rfl (Nat.le_of_ble_eq_true rfl) dX1_flood_30 (kOk.f0 hk4)) (fun r14 w => ?_)
      have hk4 := kOk.s0 hk4
      refine g_if_ne (tgt := 42) O w dX1_flood_33 (by decide) (fun w => ?_) (fun w => ?_)
      · refine g_aload_n O dX1_flood_42 rfl ?_
        obtain ⟨b17, hp18, ht19, w⟩ := w
        refine gx_getR (lay := 1) (j := 1) O ck1 (by decide) rfl rfl hp18 (by decide) hT q811 dX1_flood_43 ?_
        refine g_rv2 (gr_V (lay := 4) (nA := 0) (As := []) (rest := []) O hRm (kX5_keeps _ O.2.2.2.2.2.2.2.2 _ _ _ _ _ _ b17 ht19 _ w) (lw_V q1547 q1548 q1549 q130 q1550) rfl rfl (by decide +kernel) ⟨Nat.le_of_ble_eq_true rfl, Nat.le_of_ble_eq_true rfl⟩ ck4 (by decide) rfl ht19 rfl rfl rfl (Nat.le_of_ble_eq_true rfl) dX1_flood_46 (kOk.f0 hk4)) (fun V21 P22 w => ?_)
        have hk4 := kOk.s0 hk4
        refine g_aload_n O dX1_flood_49 rfl ?_
        obtain ⟨b23, hp24, ht25, w⟩ := w
        refine gx_getR (lay := 1) (j := 3) O ck1 (by decide) rfl rfl hp24 (by decide) hT q813 dX1_flood_50 ?_
        refine g_iload_n O dX1_flood_53 rfl ?_
        refine g_iload_n O dX1_flood_54 rfl ?_
        refine g_iload_n O dX1_flood_55 rfl ?_
        refine g_rv1 (gr_V (lay := 5) (nA := 3) (As := [.int x1, .int x2, .int x3]) (rest := []) O hRm (kX6_floods _ O.2.2.2.2.2.2.2.2 _ _ _ _ _ _ b23 ht25 (x1) (x2) (x3) _ w) (lw_V q1599 q1600 q1601 q131 q1602) rfl rfl (by decide +kernel) ⟨Nat.le_of_ble_eq_true rfl, Nat.le_of_ble_eq_true rfl⟩ ck5 (by decide) rfl ht25 rfl rfl rfl (Nat.le_of_ble_eq_true rfl) dX1_flood_56 (kOk.f0 hk4)) (fun V27 w => ?_)
        have hk4 := kOk.s0 hk4
        refine g_aload_n O dX1_flood_59 rfl ?_
        obtain ⟨b29, hp30, ht31, w⟩ := w
        refine gx_getR (lay := 1) (j := 3) O ck1 (by decide) rfl rfl hp30 (by decide) hT q813 dX1_flood_60 ?_
        refine gx_getIN (lay := 5) (j := 7) O ck5 (by decide) rfl rfl (by decide) ht31 q602 dX1_flood_63 ?_
        exact gt_iret (f := xW2 z T L) (u := (V27, P22)) O hQ (kOk.m hk4) rfl rfl w dX1_flood_66
      · refine g_drop [1, 2, 3] (lv' := [some (.ref t), none, none, none]) rfl ?_
        exact vjX1_flood_36 O hRm (V := V) (P := P) t hT post xp hN (kOk.le hk4 (Nat.le_of_ble_eq_true rfl)) hQ w
-- X1_burn
abbrev rX1_burn : Room := { frames := 1249, cells := 8, slots := 32, locals := 37376 }
set_option maxHeartbeats 4000000 in
theorem vjX1_burn_99 {X : Cx} {z : Nat} {T L : Nat → Nat} {V : w_V} {P : w_P} (O : Okc X cX1_burn RX1 6 (some .int)) (hRm : cxR X = rX1_burn) (t : Nat) (hT : T t = 2) (x1 : Int32) (x2 : Int32) (x3 : Int32) (x4 : Int32) (post : Int32 → w_V → Prop) (xp : String → w_V → w_P → Prop) (hN : noTab X) {kc ks : Nat} (hk : kOk rX1_burn kc ks 0) (hQ : cxMX X (va_Qi post (fun u t => wdW (cxE X) (xW1 z T L P u) t.heap) (w_A (cxE X))) (xB z T L xp) rX1_burn.cells rX1_burn.slots) (kb : Int32 → Int32 → Int32 → w_V → Prop) (hkb : ∀ (y2 : Int32) (y3 : Int32) (y4 : Int32) (V2 : w_V), kb y2 y3 y4 V2 → gW X kc ks z T L V2 P 16 [some (.ref t), some (.int x1), some (.int y2), some (.int y3), some (.int y4), none] []) (w : jX1_burn_99 (cxE X).2.2.2.2 T L V P t x1 x2 x3 x4 post xp kb) : gW X kc ks z T L V P 99 [some (.ref t), some (.int x1), some (.int x2), some (.int x3), some (.int x4), none] [] := by
  unfold jX1_burn_99 at w
  refine g_iinc (v := (x4 + 1)) O dX1_burn_99 rfl rfl rfl (lv' := [some (.ref t), some (.int x1), some (.int x2), some (.int x3), some (.int (x4 + 1)), none]) rfl ?_
  refine g_goto (tgt := 16) O dX1_burn_102 (by decide) ?_
  exact hkb (x2) (x3) ((x4 + 1)) (V) w
set_option maxHeartbeats 4000000 in
theorem vlX1_burn_16 {X : Cx} {z : Nat} {T L : Nat → Nat} {P : w_P} (O : Okc X cX1_burn RX1 6 (some .int)) (hRm : cxR X = rX1_burn) (t : Nat) (hT : T t = 2) (x1 : Int32) (post : Int32 → w_V → Prop) (xp : String → w_V → w_P → Prop) (hN : noTab X) {kc ks : Nat} (hk : kOk rX1_burn kc ks 0) (hQ : cxMX X (va_Qi post (fun u t => wdW (cxE X) (xW1 z T L P u) t.heap) (w_A (cxE X))) (xB z T L xp) rX1_burn.cells rX1_burn.slots) (ke_105 : Int32 → Int32 → w_V → Prop) (hke_105 : ∀ (y2 : Int32) (y3 : Int32) (V2 : w_V), ke_105 y2 y3 V2 → gW X kc ks z T L V2 P 105 [some (.ref t), some (.int x1), some (.int y2), some (.int y3), none, none] [])  : ∀ (n : Nat) (x2 : Int32) (x3 : Int32) (x4 : Int32) (V : w_V), lX1_burn_16 (cxE X).2.2.2.2 T L P t x1 post xp ke_105 n x2 x3 x4 V → gW X kc ks z T L V P 16 [some (.ref t), some (.int x1), some (.int x2), some (.int x3), some (.int x4), none] [] := by
  intro n
  induction n with
  | zero =>
    intro x2 x3 x4 V w
    exact w.elim
  | succ n ih =>
    intro x2 x3 x4 V w
    unfold lX1_burn_16 at w
    refine g_iload O dX1_burn_16 rfl ?_
    refine g_aload_n O dX1_burn_18 rfl ?_
    obtain ⟨b8, hp9, ht10, w⟩ := w
    refine gx_getR (lay := 1) (j := 0) O ck1 (by decide) rfl rfl hp9 (by decide) hT q810 dX1_burn_19 ?_
    refine gx_getIN (lay := 2) (j := 0) O ck2 (by decide) rfl rfl (by decide) ht10 q525 dX1_burn_22 ?_
    refine g_icmp_ge (tgt := 105) O w dX1_burn_25 (by decide) (fun w => ?_) (fun w => ?_)
    · refine g_drop [4] (lv' := [some (.ref t), some (.int x1), some (.int x2), some (.int x3), none, none]) rfl ?_
      exact hke_105 (x2) (x3) (V) w
    · refine g_aload_n O dX1_burn_28 rfl ?_
      obtain ⟨b11, hp12, ht13, w⟩ := w
      refine gx_getR (lay := 1) (j := 3) O ck1 (by decide) rfl rfl hp12 (by decide) hT q813 dX1_burn_29 ?_
      refine gx_getIN (lay := 5) (j := 4) O ck5 (by decide) rfl rfl (by decide) ht13 q594 dX1_burn_32 ?_
      refine g_iload O dX1_burn_35 rfl ?_
      refine g_ishr O dX1_burn_37 ?_
      refine g_iconst (v := 1) O dX1_burn_38 (by decide) ?_
      refine g_iand O dX1_burn_39 ?_
      refine g_if_ne (tgt := 46) O w dX1_burn_40 (by decide) (fun w => ?_) (fun w => ?_)
      · refine g_aload_n O dX1_burn_46 rfl ?_
        obtain ⟨b14, hp15, ht16, w⟩ := w
        refine gx_getR (lay := 1) (j := 4) O ck1 (by decide) rfl rfl hp15 (by decide) hT q814 dX1_burn_47 ?_
        refine g_aload_n O dX1_burn_50 rfl ?_
        obtain ⟨b17, hp18, ht19, w⟩ := w
        refine gx_getR (lay := 1) (j := 3) O ck1 (by decide) rfl rfl hp18 (by decide) hT q813 dX1_burn_51 ?_
        refine g_rv1 (gr_V (lay := 5) (nA := 1) (As := [.ref b17]) (rest := []) O hRm (kX6_like _ O.2.2.2.2.2.2.2.2 _ _ _ _ _ _ b14 ht16 b17 ht19 _ w) (lw_V q861 q862 q863 q131 q864) rfl rfl (by decide +kernel) ⟨Nat.le_of_ble_eq_true rfl, Nat.le_of_ble_eq_true rfl⟩ ck5 (by decide) rfl ht16 rfl rfl rfl (Nat.le_of_ble_eq_true rfl) dX1_burn_54 (kOk.f0 hk)) (fun V21 w => ?_)
        have hk := kOk.s0 hk
        refine g_aload_n O dX1_burn_57 rfl ?_
        obtain ⟨b23, hp24, ht25, w⟩ := w
        refine gx_getR (lay := 1) (j := 4) O ck1 (by decide) rfl rfl hp24 (by decide) hT q814 dX1_burn_58 ?_
        refine g_dup O dX1_burn_61 rfl ?_
        refine gx_getIN (lay := 5) (j := 4) O ck5 (by decide) rfl rfl (by decide) ht25 q594 dX1_burn_62 ?_
        refine g_iconst (v := 1) O dX1_burn_65 (by decide) ?_
        refine g_iload O dX1_burn_66 rfl ?_
        refine g_ishl O dX1_burn_68 ?_
        refine g_iconst (v := (-1)) O dX1_burn_69 (by decide) ?_
        refine g_ixor O dX1_burn_70 ?_
        refine g_iand O dX1_burn_71 ?_
        refine gx_putIN (lay := 5) (j := 4) (ty := .int) O ck5 (by decide) rfl rfl (by decide) ht25 q594 rfl rfl rfl rfl dX1_burn_72 ?_
        refine g_nV w (fun V26 w _ => ?_)
        refine g_aload_n O dX1_burn_75 rfl ?_
        obtain ⟨b27, hp28, ht29, w⟩ := w
        refine gx_getR (lay := 1) (j := 5) O ck1 (by decide) rfl rfl hp28 (by decide) hT q815 dX1_burn_76 ?_
        refine g_ri1 (gr_V (lay := 6) (nA := 0) (As := []) (rest := []) O hRm (kX7_all _ O.2.2.2.2.2.2.2.2 _ _ _ _ _ _ b27 ht29 _ w) (lw_V q1289 q1290 q1291 q132 q1292) rfl rfl (by decide +kernel) ⟨Nat.le_of_ble_eq_true rfl, Nat.le_of_ble_eq_true rfl⟩ ck6 (by decide) rfl ht29 rfl rfl rfl (Nat.le_of_ble_eq_true rfl) dX1_burn_79 (kOk.f0 hk)) (fun r30 V31 w => ?_)
        have hk := kOk.s0 hk
        refine g_istore O dX1_burn_82 (Nat.le_of_ble_eq_true rfl) rfl (lv' := [some (.ref t), some (.int x1), some (.int x2), some (.int x3), some (.int x4), some (.int r30)]) rfl ?_
        refine g_iload O dX1_burn_84 rfl ?_
        refine g_iload_n O dX1_burn_86 rfl ?_
        refine g_icmp_gt (tgt := 93) O w dX1_burn_87 (by decide) (fun w => ?_) (fun w => ?_)
        · refine g_iload O dX1_burn_93 rfl ?_
          refine g_istore_n O dX1_burn_95 (Nat.le_of_ble_eq_true rfl) rfl (lv' := [some (.ref t), some (.int x1), some (.int x4), some (.int x3), some (.int x4), some (.int r30)]) rfl ?_
          refine g_iload O dX1_burn_96 rfl ?_
          refine g_istore_n O dX1_burn_98 (Nat.le_of_ble_eq_true rfl) rfl (lv' := [some (.ref t), some (.int x1), some (.int x4), some (.int r30), some (.int x4), some (.int r30)]) rfl ?_
          refine g_drop [5] (lv' := [some (.ref t), some (.int x1), some (.int x4), some (.int r30), some (.int x4), none]) rfl ?_
          exact vjX1_burn_99 O hRm (V := V31) (P := P) t hT (x1) (x4) (r30) (x4) post xp hN (kOk.le hk (Nat.le_of_ble_eq_true rfl)) hQ (lX1_burn_16 (cxE X).2.2.2.2 T L P t x1 post xp ke_105 n) ih w
        · refine g_goto (tgt := 99) O dX1_burn_90 (by decide) ?_
          refine g_drop [5] (lv' := [some (.ref t), some (.int x1), some (.int x2), some (.int x3), some (.int x4), none]) rfl ?_
          exact vjX1_burn_99 O hRm (V := V31) (P := P) t hT (x1) (x2) (x3) (x4) post xp hN (kOk.le hk (Nat.le_of_ble_eq_true rfl)) hQ (lX1_burn_16 (cxE X).2.2.2.2 T L P t x1 post xp ke_105 n) ih w
      · refine g_goto (tgt := 99) O dX1_burn_43 (by decide) ?_
        exact vjX1_burn_99 O hRm (V := V) (P := P) t hT (x1) (x2) (x3) (x4) post xp hN (kOk.le hk (Nat.le_of_ble_eq_true rfl)) hQ (lX1_burn_16 (cxE X).2.2.2.2 T L P t x1 post xp ke_105 n) ih w
set_option maxHeartbeats 4000000 in
theorem kX1_burn (l : Launch) (hfl : l.flags = flags0) (E : w_E) (z : Nat) (T L : Nat → Nat) (V : w_V) (P : w_P) (t : Nat) (hT : T t = 2) (x1 : Int32) (post : Int32 → w_V → Prop) (xp : String → w_V → w_P → Prop) (w : wX1_burn E.2.2.2.2 T L V P t x1 post xp) : vx_Met l yX1_burn (ws_ yX1_burn cX1_burn 6 (some .int)) rX1_burn (va_Pc [.ref t, .int x1] (fun U => kenv E U ∧ wdW E (z, T, L, V, P) U.heap)) (va_Qi post (fun u t => wdW E ((xW1 z T L P) u) t.heap) (w_A E)) (xcX E (xB z T L xp)) 8 32 (w_A E) := by
  refine g_startX (w := (z, T, L, V, P)) hfl (by decide +kernel) rfl [some (.ref t), some (.int x1), none, none, none, none] rfl (fun _ h => h) (Nat.le_of_ble_eq_true rfl) (fun X hl hRm hEe O hN hQ => ?_)
  subst hl
  subst hEe
  have hk : kOk rX1_burn 0 0 1 := ⟨Nat.le_refl _, Nat.le_refl _⟩
  unfold wX1_burn at w
  refine g_iload_n O dX1_burn_0 rfl ?_
  refine g_iconst (v := 0) O dX1_burn_1 (by decide) ?_
  refine g_iconst (v := 1) O dX1_burn_2 (by decide) ?_
  refine g_ri0 (gr_S (nA := 3) (As := [.int x1, .int 0, .int 1]) (rest := []) O hRm (kX1_within _ O.2.2.2.2.2.2.2.2 _ _ _ _ _ _ (x1) (0) (1) _ w) (lw_S q1259 q1260 q106 q1261) rfl rfl (by decide +kernel) ⟨Nat.le_of_ble_eq_true rfl, Nat.le_of_ble_eq_true rfl⟩ rfl rfl rfl (Nat.le_of_ble_eq_true rfl) dX1_burn_3 (kOk.f0 hk)) (fun r1 w => ?_)
  have hk := kOk.s0 hk
  refine g_xv0 O hN hQ (kOk.f hk (c := 1) (Nat.le_of_ble_eq_true rfl)) (grx_S (nA := 1) (As := [.int r1]) (rest := []) O hRm (kX1_there _ O.2.2.2.2.2.2.2.2 _ _ _ _ _ _ (r1) _ xp w) (lw_S q1262 q1263 q106 q1264) rfl rfl (by decide +kernel) ⟨Nat.le_of_ble_eq_true rfl, Nat.le_of_ble_eq_true rfl⟩ rfl rfl rfl (Nat.le_of_ble_eq_true rfl) dX1_burn_6 (kOk.f hk (c := 1) (Nat.le_of_ble_eq_true rfl))) (fun w => ?_)
  have hk7 := kOk.sub 1 hk (Nat.le_of_ble_eq_true rfl)
  refine g_iconst (v := (-1)) O dX1_burn_9 (by decide) ?_
  refine g_istore_n O dX1_burn_10 (Nat.le_of_ble_eq_true rfl) rfl (lv' := [some (.ref t), some (.int x1), some (.int (-1)), none, none, none]) rfl ?_
  refine g_iconst (v := (-1)) O dX1_burn_11 (by decide) ?_
  refine g_istore_n O dX1_burn_12 (Nat.le_of_ble_eq_true rfl) rfl (lv' := [some (.ref t), some (.int x1), some (.int (-1)), some (.int (-1)), none, none]) rfl ?_
  refine g_iconst (v := 0) O dX1_burn_13 (by decide) ?_
  refine g_istore O dX1_burn_14 (Nat.le_of_ble_eq_true rfl) rfl (lv' := [some (.ref t), some (.int x1), some (.int (-1)), some (.int (-1)), some (.int 0), none]) rfl ?_
  obtain ⟨n36, w⟩ := w
  refine vlX1_burn_16 O hRm (P := P) t hT (x1) post xp hN (kOk.le hk7 (Nat.le_of_ble_eq_true rfl)) hQ _ (fun y33 y34 V35 w => ?_) n36 ((-1)) ((-1)) (0) (V) w
  refine g_iload_n O dX1_burn_105 rfl ?_
  refine g_if_ne (tgt := 113) O w dX1_burn_106 (by decide) (fun w => ?_) (fun w => ?_)
  · refine g_iload_n O dX1_burn_113 rfl ?_
    exact gt_iret (f := xW1 z T L P) (u := V35) O hQ (kOk.m hk7) rfl rfl w dX1_burn_114
  · refine g_iload_n O dX1_burn_109 rfl ?_
    refine g_goto (tgt := 114) O dX1_burn_110 (by decide) ?_
    exact gt_iret (f := xW1 z T L P) (u := V35) O hQ (kOk.m hk7) rfl rfl w dX1_burn_114
-- X1_when
abbrev rX1_when : Room := { frames := 1249, cells := 16, slots := 64, locals := 37376 }
set_option maxHeartbeats 4000000 in
theorem vjX1_when_78 {X : Cx} {z : Nat} {T L : Nat → Nat} {V : w_V} {P : w_P} (O : Okc X cX1_when RX1 7 (some .int)) (hRm : cxR X = rX1_when) (t : Nat) (hT : T t = 2) (x1 : Int32) (x2 : Int32) (x3 : Int32) (x4 : Int32) (x5 : Int32) (post : Int32 → w_V → Prop) (xp : String → w_V → w_P → Prop) (hN : noTab X) {kc ks : Nat} (hk : kOk rX1_when kc ks 0) (hQ : cxMX X (va_Qi post (fun u t => wdW (cxE X) (xW1 z T L P u) t.heap) (w_A (cxE X))) (xB z T L xp) rX1_when.cells rX1_when.slots) (kb : Int32 → Int32 → Int32 → w_V → Prop) (hkb : ∀ (y3 : Int32) (y4 : Int32) (y5 : Int32) (V2 : w_V), kb y3 y4 y5 V2 → gW X kc ks z T L V2 P 23 [some (.ref t), some (.int x1), some (.int x2), some (.int y3), some (.int y4), some (.int y5), none] []) (w : jX1_when_78 (cxE X).2.2.2.2 T L V P t x1 x2 x3 x4 x5 post xp kb) : gW X kc ks z T L V P 78 [some (.ref t), some (.int x1), some (.int x2), some (.int x3), some (.int x4), some (.int x5), none] [] := by
  unfold jX1_when_78 at w
  refine g_iinc (v := (x5 + 1)) O dX1_when_78 rfl rfl rfl (lv' := [some (.ref t), some (.int x1), some (.int x2), some (.int x3), some (.int x4), some (.int (x5 + 1)), none]) rfl ?_
  refine g_goto (tgt := 23) O dX1_when_81 (by decide) ?_
  exact hkb (x3) (x4) ((x5 + 1)) (V) w
set_option maxHeartbeats 4000000 in
theorem vlX1_when_23 {X : Cx} {z : Nat} {T L : Nat → Nat} {P : w_P} (O : Okc X cX1_when RX1 7 (some .int)) (hRm : cxR X = rX1_when) (t : Nat) (hT : T t = 2) (x1 : Int32) (x2 : Int32) (post : Int32 → w_V → Prop) (xp : String → w_V → w_P → Prop) (hN : noTab X) {kc ks : Nat} (hk : kOk rX1_when kc ks 0) (hQ : cxMX X (va_Qi post (fun u t => wdW (cxE X) (xW1 z T L P u) t.heap) (w_A (cxE X))) (xB z T L xp) rX1_when.cells rX1_when.slots) (ke_84 : Int32 → Int32 → w_V → Prop) (hke_84 : ∀ (y3 : Int32) (y4 : Int32) (V2 : w_V), ke_84 y3 y4 V2 → gW X kc ks z T L V2 P 84 [some (.ref t), none, some (.int x2), some (.int y3), some (.int y4), none, none] [])  : ∀ (n : Nat) (x3 : Int32) (x4 : Int32) (x5 : Int32) (V : w_V), lX1_when_23 (cxE X).2.2.2.2 T L P t x1 x2 post xp ke_84 n x3 x4 x5 V → gW X kc ks z T L V P 23 [some (.ref t), some (.int x1), some (.int x2), some (.int x3), some (.int x4), some (.int x5), none] [] := by
  intro n
  induction n with
  | zero =>
    intro x3 x4 x5 V w
    exact w.elim
  | succ n ih =>
    intro x3 x4 x5 V w
    unfold lX1_when_23 at w
    refine g_iload O dX1_when_23 rfl ?_
    refine g_bipush (v := 60) O dX1_when_25 (by decide) ?_
    refine g_icmp_gt (tgt := 84) O w dX1_when_27 (by decide) (fun w => ?_) (fun w => ?_)
    · refine g_drop [1, 5] (lv' := [some (.ref t), none, some (.int x2), some (.int x3), some (.int x4), none, none]) rfl ?_
      exact hke_84 (x3) (x4) (V) w
    · refine g_aload_n O dX1_when_30 rfl ?_
      obtain ⟨b13, hp14, ht15, w⟩ := w
      refine gx_getR (lay := 1) (j := 4) O ck1 (by decide) rfl rfl hp14 (by decide) hT q814 dX1_when_31 ?_
      refine g_aload_n O dX1_when_34 rfl ?_
      obtain ⟨b16, hp17, ht18, w⟩ := w
      refine gx_getR (lay := 1) (j := 3) O ck1 (by decide) rfl rfl hp17 (by decide) hT q813 dX1_when_35 ?_
      refine g_rv1 (gr_V (lay := 5) (nA := 1) (As := [.ref b16]) (rest := []) O hRm (kX6_like _ O.2.2.2.2.2.2.2.2 _ _ _ _ _ _ b13 ht15 b16 ht18 _ w) (lw_V q861 q862 q863 q131 q864) rfl rfl (by decide +kernel) ⟨Nat.le_of_ble_eq_true rfl, Nat.le_of_ble_eq_true rfl⟩ ck5 (by decide) rfl ht15 rfl rfl rfl (Nat.le_of_ble_eq_true rfl) dX1_when_38 (kOk.f0 hk)) (fun V20 w => ?_)
      have hk := kOk.s0 hk
      refine g_aload_n O dX1_when_41 rfl ?_
      obtain ⟨b22, hp23, ht24, w⟩ := w
      refine gx_getR (lay := 1) (j := 4) O ck1 (by decide) rfl rfl hp23 (by decide) hT q814 dX1_when_42 ?_
      refine gx_getAN (lay := 5) (j := 0) O ck5 (by decide) rfl rfl (by decide) ht24 q585 dX1_when_45 ?_
      refine g_iload_n O dX1_when_48 rfl ?_
      refine g_iload O dX1_when_49 rfl ?_
      obtain ⟨i25, hi26, e27, w⟩ := w
      refine gx_iast (a := b22) (kk0 := 1) (len := 5) (nn := i25) O (ha_own (lay := 5) (j := 0) (off := 1) (ty := 0) (len := 5) (by decide) ht24 rfl (by decide)) hi26 (by decide) e27 dX1_when_51 ?_
      refine g_nV w (fun V28 w _ => ?_)
      refine g_aload_n O dX1_when_52 rfl ?_
      obtain ⟨b29, hp30, ht31, w⟩ := w
      refine gx_getR (lay := 1) (j := 5) O ck1 (by decide) rfl rfl hp30 (by decide) hT q815 dX1_when_53 ?_
      refine g_ri1 (gr_V (lay := 6) (nA := 0) (As := []) (rest := []) O hRm (kX7_all _ O.2.2.2.2.2.2.2.2 _ _ _ _ _ _ b29 ht31 _ w) (lw_V q1289 q1290 q1291 q132 q1292) rfl rfl (by decide +kernel) ⟨Nat.le_of_ble_eq_true rfl, Nat.le_of_ble_eq_true rfl⟩ ck6 (by decide) rfl ht31 rfl rfl rfl (Nat.le_of_ble_eq_true rfl) dX1_when_56 (kOk.f0 hk)) (fun r32 V33 w => ?_)
      have hk := kOk.s0 hk
      refine g_istore O dX1_when_59 (Nat.le_of_ble_eq_true rfl) rfl (lv' := [some (.ref t), some (.int x1), some (.int x2), some (.int x3), some (.int x4), some (.int x5), some (.int r32)]) rfl ?_
      refine g_iload O dX1_when_61 rfl ?_
      refine g_iload O dX1_when_63 rfl ?_
      refine g_icmp_gt (tgt := 71) O w dX1_when_65 (by decide) (fun w => ?_) (fun w => ?_)
      · refine g_iload O dX1_when_71 rfl ?_
        refine g_istore_n O dX1_when_73 (Nat.le_of_ble_eq_true rfl) rfl (lv' := [some (.ref t), some (.int x1), some (.int x2), some (.int x5), some (.int x4), some (.int x5), some (.int r32)]) rfl ?_
        refine g_iload O dX1_when_74 rfl ?_
        refine g_istore O dX1_when_76 (Nat.le_of_ble_eq_true rfl) rfl (lv' := [some (.ref t), some (.int x1), some (.int x2), some (.int x5), some (.int r32), some (.int x5), some (.int r32)]) rfl ?_
        refine g_drop [6] (lv' := [some (.ref t), some (.int x1), some (.int x2), some (.int x5), some (.int r32), some (.int x5), none]) rfl ?_
        exact vjX1_when_78 O hRm (V := V33) (P := P) t hT (x1) (x2) (x5) (r32) (x5) post xp hN (kOk.le hk (Nat.le_of_ble_eq_true rfl)) hQ (lX1_when_23 (cxE X).2.2.2.2 T L P t x1 x2 post xp ke_84 n) ih w
      · refine g_goto (tgt := 78) O dX1_when_68 (by decide) ?_
        refine g_drop [6] (lv' := [some (.ref t), some (.int x1), some (.int x2), some (.int x3), some (.int x4), some (.int x5), none]) rfl ?_
        exact vjX1_when_78 O hRm (V := V33) (P := P) t hT (x1) (x2) (x3) (x4) (x5) post xp hN (kOk.le hk (Nat.le_of_ble_eq_true rfl)) hQ (lX1_when_23 (cxE X).2.2.2.2 T L P t x1 x2 post xp ke_84 n) ih w
set_option maxHeartbeats 4000000 in
theorem kX1_when (l : Launch) (hfl : l.flags = flags0) (E : w_E) (z : Nat) (T L : Nat → Nat) (V : w_V) (P : w_P) (t : Nat) (hT : T t = 2) (x1 : Int32) (x2 : Int32) (post : Int32 → w_V → Prop) (xp : String → w_V → w_P → Prop) (w : wX1_when E.2.2.2.2 T L V P t x1 x2 post xp) : vx_Met l yX1_when (ws_ yX1_when cX1_when 7 (some .int)) rX1_when (va_Pc [.ref t, .int x1, .int x2] (fun U => kenv E U ∧ wdW E (z, T, L, V, P) U.heap)) (va_Qi post (fun u t => wdW E ((xW1 z T L P) u) t.heap) (w_A E)) (xcX E (xB z T L xp)) 16 64 (w_A E) := by
  refine g_startX (w := (z, T, L, V, P)) hfl (by decide +kernel) rfl [some (.ref t), some (.int x1), some (.int x2), none, none, none, none] rfl (fun _ h => h) (Nat.le_of_ble_eq_true rfl) (fun X hl hRm hEe O hN hQ => ?_)
  subst hl
  subst hEe
  have hk : kOk rX1_when 0 0 2 := ⟨Nat.le_refl _, Nat.le_refl _⟩
  unfold wX1_when at w
  refine g_aload_n O dX1_when_0 rfl ?_
  refine g_iload_n O dX1_when_1 rfl ?_
  refine g_xq0 O hN hQ (kOk.f hk (c := 1) (Nat.le_of_ble_eq_true rfl)) (grx_V (lay := 1) (nA := 1) (As := [.int x1]) (rest := []) O hRm (kX1_judgeAt _ O.2.2.2.2.2.2.2.2 _ _ _ _ _ _ t hT (x1) _ xp w) (lw_V q1461 q1463 qs39 q106 q1464) rfl rfl (by decide +kernel) ⟨Nat.le_of_ble_eq_true rfl, Nat.le_of_ble_eq_true rfl⟩ ck1 (by decide) rfl hT rfl rfl rfl (Nat.le_of_ble_eq_true rfl) dX1_when_2 (kOk.f hk (c := 1) (Nat.le_of_ble_eq_true rfl))) (fun r1 w => ?_)
  have hk5 := kOk.sub 1 hk (Nat.le_of_ble_eq_true rfl)
  obtain ⟨hr4, w⟩ := w
  refine g_pop O dX1_when_5 rfl ?_
  refine g_iload_n O dX1_when_6 rfl ?_
  refine g_iconst (v := 0) O dX1_when_7 (by decide) ?_
  refine g_iconst (v := 1) O dX1_when_8 (by decide) ?_
  refine g_ri0 (gr_S (nA := 3) (As := [.int x2, .int 0, .int 1]) (rest := []) O hRm (kX1_within _ O.2.2.2.2.2.2.2.2 _ _ _ _ _ _ (x2) (0) (1) _ w) (lw_S q1259 q1260 q106 q1261) rfl rfl (by decide +kernel) ⟨Nat.le_of_ble_eq_true rfl, Nat.le_of_ble_eq_true rfl⟩ rfl rfl rfl (Nat.le_of_ble_eq_true rfl) dX1_when_9 (kOk.f0 hk5)) (fun r6 w => ?_)
  have hk5 := kOk.s0 hk5
  refine g_xv0 O hN hQ (kOk.f hk5 (c := 1) (Nat.le_of_ble_eq_true rfl)) (grx_S (nA := 1) (As := [.int r6]) (rest := []) O hRm (kX1_there _ O.2.2.2.2.2.2.2.2 _ _ _ _ _ _ (r6) _ xp w) (lw_S q1262 q1263 q106 q1264) rfl rfl (by decide +kernel) ⟨Nat.le_of_ble_eq_true rfl, Nat.le_of_ble_eq_true rfl⟩ rfl rfl rfl (Nat.le_of_ble_eq_true rfl) dX1_when_12 (kOk.f hk5 (c := 1) (Nat.le_of_ble_eq_true rfl))) (fun w => ?_)
  have hk12 := kOk.sub 1 hk5 (Nat.le_of_ble_eq_true rfl)
  refine g_iconst (v := (-1)) O dX1_when_15 (by decide) ?_
  refine g_istore_n O dX1_when_16 (Nat.le_of_ble_eq_true rfl) rfl (lv' := [some (.ref t), some (.int x1), some (.int x2), some (.int (-1)), none, none, none]) rfl ?_
  refine g_iconst (v := (-1)) O dX1_when_17 (by decide) ?_
  refine g_istore O dX1_when_18 (Nat.le_of_ble_eq_true rfl) rfl (lv' := [some (.ref t), some (.int x1), some (.int x2), some (.int (-1)), some (.int (-1)), none, none]) rfl ?_
  refine g_iconst (v := 0) O dX1_when_20 (by decide) ?_
  refine g_istore O dX1_when_21 (Nat.le_of_ble_eq_true rfl) rfl (lv' := [some (.ref t), some (.int x1), some (.int x2), some (.int (-1)), some (.int (-1)), some (.int 0), none]) rfl ?_
  obtain ⟨n38, w⟩ := w
  refine vlX1_when_23 O hRm (P := P) t hT (x1) (x2) post xp hN (kOk.le hk12 (Nat.le_of_ble_eq_true rfl)) hQ _ (fun y35 y36 V37 w => ?_) n38 ((-1)) ((-1)) (0) (V) w
  refine g_iload_n O dX1_when_84 rfl ?_
  refine g_if_ne (tgt := 92) O w dX1_when_85 (by decide) (fun w => ?_) (fun w => ?_)
  · refine g_iload O dX1_when_92 rfl ?_
    exact gt_iret (f := xW1 z T L P) (u := V37) O hQ (kOk.m hk12) rfl rfl w dX1_when_94
  · refine g_iload_n O dX1_when_88 rfl ?_
    refine g_goto (tgt := 94) O dX1_when_89 (by decide) ?_
    exact gt_iret (f := xW1 z T L P) (u := V37) O hQ (kOk.m hk12) rfl rfl w dX1_when_94
-- X1_round
abbrev rX1_round : Room := { frames := 1250, cells := 8, slots := 32, locals := 37396 }
set_option maxHeartbeats 4000000 in
theorem kX1_round (l : Launch) (hfl : l.flags = flags0) (E : w_E) (z : Nat) (T L : Nat → Nat) (V : w_V) (P : w_P) (t : Nat) (hT : T t = 2) (x1 : Int32) (post : Int32 → w_V → Prop) (xp : String → w_V → w_P → Prop) (w : wX1_round E.2.2.2.2 T L V P t x1 post xp) : vx_Met l yX1_round (ws_ yX1_round cX1_round 3 (some .int)) rX1_round (va_Pc [.ref t, .int x1] (fun U => kenv E U ∧ wdW E (z, T, L, V, P) U.heap)) (va_Qi post (fun u t => wdW E ((xW1 z T L P) u) t.heap) (w_A E)) (xcX E (xB z T L xp)) 8 32 (w_A E) := by
  refine g_startX (w := (z, T, L, V, P)) hfl (by decide +kernel) rfl [some (.ref t), some (.int x1), none] rfl (fun _ h => h) (Nat.le_of_ble_eq_true rfl) (fun X hl hRm hEe O hN hQ => ?_)
  subst hl
  subst hEe
  have hk : kOk rX1_round 0 0 1 := ⟨Nat.le_refl _, Nat.le_refl _⟩
  unfold wX1_round at w
  refine g_aload_n O dX1_round_0 rfl ?_
  refine g_iload_n O dX1_round_1 rfl ?_
  refine g_xq0 O hN hQ (kOk.f hk (c := 1) (Nat.le_of_ble_eq_true rfl)) (grx_V (lay := 1) (nA := 1) (As := [.int x1]) (rest := []) O hRm (kX1_judgeAt _ O.2.2.2.2.2.2.2.2 _ _ _ _ _ _ t hT (x1) _ xp w) (lw_V q1461 q1463 qs39 q106 q1464) rfl rfl (by decide +kernel) ⟨Nat.le_of_ble_eq_true rfl, Nat.le_of_ble_eq_true rfl⟩ ck1 (by decide) rfl hT rfl rfl rfl (Nat.le_of_ble_eq_true rfl) dX1_round_2 (kOk.f hk (c := 1) (Nat.le_of_ble_eq_true rfl))) (fun r1 w => ?_)
  have hk5 := kOk.sub 1 hk (Nat.le_of_ble_eq_true rfl)
  obtain ⟨hr4, w⟩ := w
  refine g_pop O dX1_round_5 rfl ?_
  refine g_aload_n O dX1_round_6 rfl ?_
  refine g_ri1 (gr_V (lay := 1) (nA := 0) (As := []) (rest := []) O hRm (kX1_tries _ O.2.2.2.2.2.2.2.2 _ _ _ _ _ _ t hT _ w) (lw_V q1285 q1287 qs23 q106 q1288) rfl rfl (by decide +kernel) ⟨Nat.le_of_ble_eq_true rfl, Nat.le_of_ble_eq_true rfl⟩ ck1 (by decide) rfl hT rfl rfl rfl (Nat.le_of_ble_eq_true rfl) dX1_round_7 (kOk.f0 hk5)) (fun r6 V7 w => ?_)
  have hk5 := kOk.s0 hk5
  refine g_istore_n O dX1_round_10 (Nat.le_of_ble_eq_true rfl) rfl (lv' := [some (.ref t), some (.int x1), some (.int r6)]) rfl ?_
  refine g_aload_n O dX1_round_11 rfl ?_
  obtain ⟨b9, hp10, ht11, w⟩ := w
  refine gx_getR (lay := 1) (j := 4) O ck1 (by decide) rfl rfl hp10 (by decide) hT q814 dX1_round_12 ?_
  refine g_iconst (v := 1) O dX1_round_15 (by decide) ?_
  refine g_iload_n O dX1_round_16 rfl ?_
  refine g_ishl O dX1_round_17 ?_
  refine gx_putIN (lay := 5) (j := 8) (ty := .int) O ck5 (by decide) rfl rfl (by decide) ht11 q605 rfl rfl rfl rfl dX1_round_18 ?_
  refine g_nV w (fun V12 w _ => ?_)
  refine g_aload_n O dX1_round_21 rfl ?_
  obtain ⟨b13, hp14, ht15, w⟩ := w
  refine gx_getR (lay := 1) (j := 5) O ck1 (by decide) rfl rfl hp14 (by decide) hT q815 dX1_round_22 ?_
  refine g_ri1 (gr_V (lay := 6) (nA := 0) (As := []) (rest := []) O hRm (kX7_all _ O.2.2.2.2.2.2.2.2 _ _ _ _ _ _ b13 ht15 _ w) (lw_V q1289 q1290 q1291 q132 q1292) rfl rfl (by decide +kernel) ⟨Nat.le_of_ble_eq_true rfl, Nat.le_of_ble_eq_true rfl⟩ ck6 (by decide) rfl ht15 rfl rfl rfl (Nat.le_of_ble_eq_true rfl) dX1_round_25 (kOk.f0 hk5)) (fun r16 V17 w => ?_)
  have hk5 := kOk.s0 hk5
  refine g_iload_n O dX1_round_28 rfl ?_
  refine g_isub O dX1_round_29 ?_
  exact gt_iret (f := xW1 z T L P) (u := V17) O hQ (kOk.m hk5) rfl rfl w dX1_round_30
-- X1_free
abbrev rX1_free : Room := { frames := 1251, cells := 16, slots := 64, locals := 37418 }
set_option maxHeartbeats 4000000 in
theorem vlX1_free_36 {X : Cx} {z : Nat} {T L : Nat → Nat} {P : w_P} (O : Okc X cX1_free RX1 5 (some .int)) (hRm : cxR X = rX1_free) (t : Nat) (hT : T t = 2) (x1 : Int32) (x2 : Int32) (x3 : Int32) (post : Int32 → w_V → Prop) (xp : String → w_V → w_P → Prop) (hN : noTab X) {kc ks : Nat} (hk : kOk rX1_free kc ks 0) (hQ : cxMX X (va_Qi post (fun u t => wdW (cxE X) (xW1 z T L P u) t.heap) (w_A (cxE X))) (xB z T L xp) rX1_free.cells rX1_free.slots) (ke_78 : Int32 → w_V → Prop) (hke_78 : ∀ (y4 : Int32) (V2 : w_V), ke_78 y4 V2 → gW X kc ks z T L V2 P 78 [some (.ref t), none, some (.int x2), some (.int x3), some (.int y4)] []) (ke_95 : w_V → Prop) (hke_95 : ∀ (V2 : w_V), ke_95 V2 → gW X kc ks z T L V2 P 95 [some (.ref t), some (.int x1), some (.int x2), some (.int x3), none] [])  : ∀ (n : Nat) (x4 : Int32) (V : w_V), lX1_free_36 (cxE X).2.2.2.2 T L P t x1 x2 x3 post xp ke_78 ke_95 n x4 V → gW X kc ks z T L V P 36 [some (.ref t), some (.int x1), some (.int x2), some (.int x3), some (.int x4)] [] := by
  intro n
  induction n with
  | zero =>
    intro x4 V w
    exact w.elim
  | succ n ih =>
    intro x4 V w
    unfold lX1_free_36 at w
    refine g_iload O dX1_free_36 rfl ?_
    refine g_aload_n O dX1_free_38 rfl ?_
    obtain ⟨b15, hp16, ht17, w⟩ := w
    refine gx_getR (lay := 1) (j := 0) O ck1 (by decide) rfl rfl hp16 (by decide) hT q810 dX1_free_39 ?_
    refine gx_getIN (lay := 2) (j := 0) O ck2 (by decide) rfl rfl (by decide) ht17 q525 dX1_free_42 ?_
    refine g_icmp_ge (tgt := 95) O w dX1_free_45 (by decide) (fun w => ?_) (fun w => ?_)
    · refine g_drop [4] (lv' := [some (.ref t), some (.int x1), some (.int x2), some (.int x3), none]) rfl ?_
      exact hke_95 (V) w
    · refine g_aload_n O dX1_free_48 rfl ?_
      obtain ⟨b18, hp19, ht20, w⟩ := w
      refine gx_getR (lay := 1) (j := 4) O ck1 (by decide) rfl rfl hp19 (by decide) hT q814 dX1_free_49 ?_
      refine g_aload_n O dX1_free_52 rfl ?_
      obtain ⟨b21, hp22, ht23, w⟩ := w
      refine gx_getR (lay := 1) (j := 3) O ck1 (by decide) rfl rfl hp22 (by decide) hT q813 dX1_free_53 ?_
      refine g_rv1 (gr_V (lay := 5) (nA := 1) (As := [.ref b21]) (rest := []) O hRm (kX6_like _ O.2.2.2.2.2.2.2.2 _ _ _ _ _ _ b18 ht20 b21 ht23 _ w) (lw_V q861 q862 q863 q131 q864) rfl rfl (by decide +kernel) ⟨Nat.le_of_ble_eq_true rfl, Nat.le_of_ble_eq_true rfl⟩ ck5 (by decide) rfl ht20 rfl rfl rfl (Nat.le_of_ble_eq_true rfl) dX1_free_56 (kOk.f0 hk)) (fun V25 w => ?_)
      have hk := kOk.s0 hk
      refine g_aload_n O dX1_free_59 rfl ?_
      obtain ⟨b27, hp28, ht29, w⟩ := w
      refine gx_getR (lay := 1) (j := 4) O ck1 (by decide) rfl rfl hp28 (by decide) hT q814 dX1_free_60 ?_
      refine g_iload_n O dX1_free_63 rfl ?_
      refine g_iload O dX1_free_64 rfl ?_
      refine g_iload_n O dX1_free_66 rfl ?_
      refine g_rv1 (gr_V (lay := 5) (nA := 3) (As := [.int x1, .int x4, .int x3]) (rest := []) O hRm (kX6_sends _ O.2.2.2.2.2.2.2.2 _ _ _ _ _ _ b27 ht29 (x1) (x4) (x3) _ w) (lw_V q1574 q1575 q1576 q131 q1577) rfl rfl (by decide +kernel) ⟨Nat.le_of_ble_eq_true rfl, Nat.le_of_ble_eq_true rfl⟩ ck5 (by decide) rfl ht29 rfl rfl rfl (Nat.le_of_ble_eq_true rfl) dX1_free_67 (kOk.f0 hk)) (fun V31 w => ?_)
      have hk := kOk.s0 hk
      refine g_aload_n O dX1_free_70 rfl ?_
      refine g_iload_n O dX1_free_71 rfl ?_
      refine g_ri1 (gr_V (lay := 1) (nA := 1) (As := [.int x1]) (rest := []) O hRm (kX1_isGuilty _ O.2.2.2.2.2.2.2.2 _ _ _ _ _ _ t hT (x1) _ w) (lw_V q1635 q1637 qs44 q106 q1638) rfl rfl (by decide +kernel) ⟨Nat.le_of_ble_eq_true rfl, Nat.le_of_ble_eq_true rfl⟩ ck1 (by decide) rfl hT rfl rfl rfl (Nat.le_of_ble_eq_true rfl) dX1_free_72 (kOk.f0 hk)) (fun r33 V34 w => ?_)
      have hk := kOk.s0 hk
      refine g_if_ne (tgt := 89) O w dX1_free_75 (by decide) (fun w => ?_) (fun w => ?_)
      · refine g_iinc (v := (x4 + 1)) O dX1_free_89 rfl rfl rfl (lv' := [some (.ref t), some (.int x1), some (.int x2), some (.int x3), some (.int (x4 + 1))]) rfl ?_
        refine g_goto (tgt := 36) O dX1_free_92 (by decide) ?_
        exact ih ((x4 + 1)) (V34) w
      · refine g_drop [1] (lv' := [some (.ref t), none, some (.int x2), some (.int x3), some (.int x4)]) rfl ?_
        exact hke_78 (x4) (V34) w
set_option maxHeartbeats 4000000 in
theorem vlX1_free_27 {X : Cx} {z : Nat} {T L : Nat → Nat} {P : w_P} (O : Okc X cX1_free RX1 5 (some .int)) (hRm : cxR X = rX1_free) (t : Nat) (hT : T t = 2) (x1 : Int32) (x2 : Int32) (post : Int32 → w_V → Prop) (xp : String → w_V → w_P → Prop) (hN : noTab X) {kc ks : Nat} (hk : kOk rX1_free kc ks 0) (hQ : cxMX X (va_Qi post (fun u t => wdW (cxE X) (xW1 z T L P u) t.heap) (w_A (cxE X))) (xB z T L xp) rX1_free.cells rX1_free.slots) (ke_78 : Int32 → Int32 → w_V → Prop) (hke_78 : ∀ (y3 : Int32) (y4 : Int32) (V2 : w_V), ke_78 y3 y4 V2 → gW X kc ks z T L V2 P 78 [some (.ref t), none, some (.int x2), some (.int y3), some (.int y4)] [])  : ∀ (n : Nat) (x3 : Int32) (V : w_V), lX1_free_27 (cxE X).2.2.2.2 T L P t x1 x2 post xp ke_78 n x3 V → gW X kc ks z T L V P 27 [some (.ref t), some (.int x1), some (.int x2), some (.int x3), none] [] := by
  intro n
  induction n with
  | zero =>
    intro x3 V w
    exact w.elim
  | succ n ih =>
    intro x3 V w
    unfold lX1_free_27 at w
    refine g_iload_n O dX1_free_27 rfl ?_
    refine g_bipush (v := 60) O dX1_free_28 (by decide) ?_
    refine g_icmp_gt (tgt := 101) O w dX1_free_30 (by decide) (fun w => ?_) (fun w => ?_)
    · refine g_iconst (v := (-1)) O dX1_free_101 (by decide) ?_
      exact gt_iret (f := xW1 z T L P) (u := V) O hQ (kOk.m hk) rfl rfl w dX1_free_102
    · refine g_iconst (v := 0) O dX1_free_33 (by decide) ?_
      refine g_istore O dX1_free_34 (Nat.le_of_ble_eq_true rfl) rfl (lv' := [some (.ref t), some (.int x1), some (.int x2), some (.int x3), some (.int 0)]) rfl ?_
      obtain ⟨n39, w⟩ := w
      refine vlX1_free_36 O hRm (P := P) t hT (x1) (x2) (x3) post xp hN (kOk.le hk (Nat.le_of_ble_eq_true rfl)) hQ _ (fun y36 V37 w => ?_) _ (fun V38 w => ?_) n39 (0) (V) w
      · exact hke_78 (x3) (y36) (V37) w
      · refine g_iinc (v := (x3 + 1)) O dX1_free_95 rfl rfl rfl (lv' := [some (.ref t), some (.int x1), some (.int x2), some (.int (x3 + 1)), none]) rfl ?_
        refine g_goto (tgt := 27) O dX1_free_98 (by decide) ?_
        exact ih ((x3 + 1)) (V38) w
set_option maxHeartbeats 4000000 in
theorem kX1_free (l : Launch) (hfl : l.flags = flags0) (E : w_E) (z : Nat) (T L : Nat → Nat) (V : w_V) (P : w_P) (t : Nat) (hT : T t = 2) (x1 : Int32) (x2 : Int32) (post : Int32 → w_V → Prop) (xp : String → w_V → w_P → Prop) (w : wX1_free E.2.2.2.2 T L V P t x1 x2 post xp) : vx_Met l yX1_free (ws_ yX1_free cX1_free 5 (some .int)) rX1_free (va_Pc [.ref t, .int x1, .int x2] (fun U => kenv E U ∧ wdW E (z, T, L, V, P) U.heap)) (va_Qi post (fun u t => wdW E ((xW1 z T L P) u) t.heap) (w_A E)) (xcX E (xB z T L xp)) 16 64 (w_A E) := by
  refine g_startX (w := (z, T, L, V, P)) hfl (by decide +kernel) rfl [some (.ref t), some (.int x1), some (.int x2), none, none] rfl (fun _ h => h) (Nat.le_of_ble_eq_true rfl) (fun X hl hRm hEe O hN hQ => ?_)
  subst hl
  subst hEe
  have hk : kOk rX1_free 0 0 2 := ⟨Nat.le_refl _, Nat.le_refl _⟩
  unfold wX1_free at w
  refine g_aload_n O dX1_free_0 rfl ?_
  refine g_iload_n O dX1_free_1 rfl ?_
  refine g_xv0 O hN hQ (kOk.f hk (c := 1) (Nat.le_of_ble_eq_true rfl)) (grx_V (lay := 1) (nA := 1) (As := [.int x1]) (rest := []) O hRm (kX1_caseAt _ O.2.2.2.2.2.2.2.2 _ _ _ _ _ _ t hT (x1) _ xp w) (lw_V q1502 q1504 qs40 q106 q1505) rfl rfl (by decide +kernel) ⟨Nat.le_of_ble_eq_true rfl, Nat.le_of_ble_eq_true rfl⟩ ck1 (by decide) rfl hT rfl rfl rfl (Nat.le_of_ble_eq_true rfl) dX1_free_2 (kOk.f hk (c := 1) (Nat.le_of_ble_eq_true rfl))) (fun w => ?_)
  have hk4 := kOk.sub 1 hk (Nat.le_of_ble_eq_true rfl)
  refine g_iload_n O dX1_free_5 rfl ?_
  refine g_iconst (v := 0) O dX1_free_6 (by decide) ?_
  refine g_iconst (v := 1) O dX1_free_7 (by decide) ?_
  refine g_ri0 (gr_S (nA := 3) (As := [.int x2, .int 0, .int 1]) (rest := []) O hRm (kX1_within _ O.2.2.2.2.2.2.2.2 _ _ _ _ _ _ (x2) (0) (1) _ w) (lw_S q1259 q1260 q106 q1261) rfl rfl (by decide +kernel) ⟨Nat.le_of_ble_eq_true rfl, Nat.le_of_ble_eq_true rfl⟩ rfl rfl rfl (Nat.le_of_ble_eq_true rfl) dX1_free_8 (kOk.f0 hk4)) (fun r5 w => ?_)
  have hk4 := kOk.s0 hk4
  refine g_xv0 O hN hQ (kOk.f hk4 (c := 1) (Nat.le_of_ble_eq_true rfl)) (grx_S (nA := 1) (As := [.int r5]) (rest := []) O hRm (kX1_there _ O.2.2.2.2.2.2.2.2 _ _ _ _ _ _ (r5) _ xp w) (lw_S q1262 q1263 q106 q1264) rfl rfl (by decide +kernel) ⟨Nat.le_of_ble_eq_true rfl, Nat.le_of_ble_eq_true rfl⟩ rfl rfl rfl (Nat.le_of_ble_eq_true rfl) dX1_free_11 (kOk.f hk4 (c := 1) (Nat.le_of_ble_eq_true rfl))) (fun w => ?_)
  have hk11 := kOk.sub 1 hk4 (Nat.le_of_ble_eq_true rfl)
  refine g_aload_n O dX1_free_14 rfl ?_
  refine g_iload_n O dX1_free_15 rfl ?_
  refine g_ri1 (gr_V (lay := 1) (nA := 1) (As := [.int x1]) (rest := []) O hRm (kX1_isGuiltyNow _ O.2.2.2.2.2.2.2.2 _ _ _ _ _ _ t hT (x1) _ w) (lw_V q1631 q1633 qs43 q106 q1634) rfl rfl (by decide +kernel) ⟨Nat.le_of_ble_eq_true rfl, Nat.le_of_ble_eq_true rfl⟩ ck1 (by decide) rfl hT rfl rfl rfl (Nat.le_of_ble_eq_true rfl) dX1_free_16 (kOk.f0 hk11)) (fun r12 V13 w => ?_)
  have hk11 := kOk.s0 hk11
  refine g_if_ne (tgt := 25) O w dX1_free_19 (by decide) (fun w => ?_) (fun w => ?_)
  · refine g_iconst (v := 0) O dX1_free_25 (by decide) ?_
    refine g_istore_n O dX1_free_26 (Nat.le_of_ble_eq_true rfl) rfl (lv' := [some (.ref t), some (.int x1), some (.int x2), some (.int 0), none]) rfl ?_
    obtain ⟨n43, w⟩ := w
    refine vlX1_free_27 O hRm (P := P) t hT (x1) (x2) post xp hN (kOk.le hk11 (Nat.le_of_ble_eq_true rfl)) hQ _ (fun y40 y41 V42 w => ?_) n43 (0) (V13) w
    refine g_iload_n O dX1_free_78 rfl ?_
    refine g_if_ne (tgt := 86) O w dX1_free_79 (by decide) (fun w => ?_) (fun w => ?_)
    · refine g_iload O dX1_free_86 rfl ?_
      exact gt_iret (f := xW1 z T L P) (u := V42) O hQ (kOk.m hk11) rfl rfl w dX1_free_88
    · refine g_iload_n O dX1_free_82 rfl ?_
      refine g_goto (tgt := 88) O dX1_free_83 (by decide) ?_
      exact gt_iret (f := xW1 z T L P) (u := V42) O hQ (kOk.m hk11) rfl rfl w dX1_free_88
  · refine g_bipush (v := (-2)) O dX1_free_22 (by decide) ?_
    exact gt_iret (f := xW1 z T L P) (u := V13) O hQ (kOk.m hk11) rfl rfl w dX1_free_24
-- X1_mercy
abbrev rX1_mercy : Room := { frames := 1250, cells := 8, slots := 32, locals := 37397 }
set_option maxHeartbeats 4000000 in
theorem vjX1_mercy_92 {X : Cx} {z : Nat} {T L : Nat → Nat} {V : w_V} {P : w_P} (O : Okc X cX1_mercy RX1 4 (some .int)) (hRm : cxR X = rX1_mercy) (t : Nat) (hT : T t = 2) (x1 : Int32) (x2 : Int32) (x3 : Int32) (post : Int32 → w_V → Prop) (xp : String → w_V → w_P → Prop) (hN : noTab X) {kc ks : Nat} (hk : kOk rX1_mercy kc ks 0) (hQ : cxMX X (va_Qi post (fun u t => wdW (cxE X) (xW1 z T L P u) t.heap) (w_A (cxE X))) (xB z T L xp) rX1_mercy.cells rX1_mercy.slots) (kb : Int32 → Int32 → w_V → Prop) (hkb : ∀ (y2 : Int32) (y3 : Int32) (V2 : w_V), kb y2 y3 V2 → gW X kc ks z T L V2 P 9 [some (.ref t), some (.int x1), some (.int y2), some (.int y3)] []) (w : jX1_mercy_92 (cxE X).2.2.2.2 T L V P t x1 x2 x3 post xp kb) : gW X kc ks z T L V P 92 [some (.ref t), some (.int x1), some (.int x2), some (.int x3)] [] := by
  unfold jX1_mercy_92 at w
  refine g_iinc (v := (x3 + 1)) O dX1_mercy_92 rfl rfl rfl (lv' := [some (.ref t), some (.int x1), some (.int x2), some (.int (x3 + 1))]) rfl ?_
  refine g_goto (tgt := 9) O dX1_mercy_95 (by decide) ?_
  exact hkb (x2) ((x3 + 1)) (V) w
set_option maxHeartbeats 4000000 in
theorem vjX1_mercy_44 {X : Cx} {z : Nat} {T L : Nat → Nat} {V : w_V} {P : w_P} (O : Okc X cX1_mercy RX1 4 (some .int)) (hRm : cxR X = rX1_mercy) (t : Nat) (hT : T t = 2) (x1 : Int32) (x2 : Int32) (x3 : Int32) (post : Int32 → w_V → Prop) (xp : String → w_V → w_P → Prop) (hN : noTab X) {kc ks : Nat} (hk : kOk rX1_mercy kc ks 0) (hQ : cxMX X (va_Qi post (fun u t => wdW (cxE X) (xW1 z T L P u) t.heap) (w_A (cxE X))) (xB z T L xp) rX1_mercy.cells rX1_mercy.slots) (kb : Int32 → Int32 → w_V → Prop) (hkb : ∀ (y2 : Int32) (y3 : Int32) (V2 : w_V), kb y2 y3 V2 → gW X kc ks z T L V2 P 9 [some (.ref t), some (.int x1), some (.int y2), some (.int y3)] []) (w : jX1_mercy_44 (cxE X).2.2.2.2 T L V P t x1 x2 x3 post xp kb) : gW X kc ks z T L V P 44 [some (.ref t), some (.int x1), some (.int x2), some (.int x3)] [] := by
  unfold jX1_mercy_44 at w
  refine g_aload_n O dX1_mercy_44 rfl ?_
  obtain ⟨b14, hp15, ht16, w⟩ := w
  refine gx_getR (lay := 1) (j := 4) O ck1 (by decide) rfl rfl hp15 (by decide) hT q814 dX1_mercy_45 ?_
  refine g_aload_n O dX1_mercy_48 rfl ?_
  obtain ⟨b17, hp18, ht19, w⟩ := w
  refine gx_getR (lay := 1) (j := 3) O ck1 (by decide) rfl rfl hp18 (by decide) hT q813 dX1_mercy_49 ?_
  refine g_rv1 (gr_V (lay := 5) (nA := 1) (As := [.ref b17]) (rest := []) O hRm (kX6_like _ O.2.2.2.2.2.2.2.2 _ _ _ _ _ _ b14 ht16 b17 ht19 _ w) (lw_V q861 q862 q863 q131 q864) rfl rfl (by decide +kernel) ⟨Nat.le_of_ble_eq_true rfl, Nat.le_of_ble_eq_true rfl⟩ ck5 (by decide) rfl ht16 rfl rfl rfl (Nat.le_of_ble_eq_true rfl) dX1_mercy_52 (kOk.f0 hk)) (fun V21 w => ?_)
  have hk := kOk.s0 hk
  refine g_aload_n O dX1_mercy_55 rfl ?_
  obtain ⟨b23, hp24, ht25, w⟩ := w
  refine gx_getR (lay := 1) (j := 4) O ck1 (by decide) rfl rfl hp24 (by decide) hT q814 dX1_mercy_56 ?_
  refine g_iload_n O dX1_mercy_59 rfl ?_
  refine gx_putIN (lay := 5) (j := 11) (ty := .int) O ck5 (by decide) rfl rfl (by decide) ht25 q614 rfl rfl rfl rfl dX1_mercy_60 ?_
  refine g_nV w (fun V26 w _ => ?_)
  refine g_aload_n O dX1_mercy_63 rfl ?_
  obtain ⟨b27, hp28, ht29, w⟩ := w
  refine gx_getR (lay := 1) (j := 4) O ck1 (by decide) rfl rfl hp28 (by decide) hT q814 dX1_mercy_64 ?_
  refine g_iload_n O dX1_mercy_67 rfl ?_
  refine gx_putIN (lay := 5) (j := 10) (ty := .int) O ck5 (by decide) rfl rfl (by decide) ht29 q611 rfl rfl rfl rfl dX1_mercy_68 ?_
  refine g_nV w (fun V30 w _ => ?_)
  refine g_aload_n O dX1_mercy_71 rfl ?_
  refine g_iload_n O dX1_mercy_72 rfl ?_
  refine g_ri0 (gr_V (lay := 1) (nA := 1) (As := [.int x3]) (rest := []) O hRm (kX1_reaches _ O.2.2.2.2.2.2.2.2 _ _ _ _ _ _ t hT (x3) _ w) (lw_V q1652 q1654 qs45 q106 q1655) rfl rfl (by decide +kernel) ⟨Nat.le_of_ble_eq_true rfl, Nat.le_of_ble_eq_true rfl⟩ ck1 (by decide) rfl hT rfl rfl rfl (Nat.le_of_ble_eq_true rfl) dX1_mercy_73 (kOk.f0 hk)) (fun r31 w => ?_)
  have hk := kOk.s0 hk
  refine g_if_eq (tgt := 92) O w dX1_mercy_76 (by decide) (fun w => ?_) (fun w => ?_)
  · exact vjX1_mercy_92 O hRm (V := V30) (P := P) t hT (x1) (x2) (x3) post xp hN (kOk.le hk (Nat.le_of_ble_eq_true rfl)) hQ kb hkb w
  · refine g_aload_n O dX1_mercy_79 rfl ?_
    refine g_iload_n O dX1_mercy_80 rfl ?_
    refine g_ri1 (gr_V (lay := 1) (nA := 1) (As := [.int x1]) (rest := []) O hRm (kX1_isGuilty _ O.2.2.2.2.2.2.2.2 _ _ _ _ _ _ t hT (x1) _ w) (lw_V q1635 q1637 qs44 q106 q1638) rfl rfl (by decide +kernel) ⟨Nat.le_of_ble_eq_true rfl, Nat.le_of_ble_eq_true rfl⟩ ck1 (by decide) rfl hT rfl rfl rfl (Nat.le_of_ble_eq_true rfl) dX1_mercy_81 (kOk.f0 hk)) (fun r34 V35 w => ?_)
    have hk := kOk.s0 hk
    refine g_if_eq (tgt := 90) O w dX1_mercy_84 (by decide) (fun w => ?_) (fun w => ?_)
    · refine g_iload_n O dX1_mercy_90 rfl ?_
      refine g_istore_n O dX1_mercy_91 (Nat.le_of_ble_eq_true rfl) rfl (lv' := [some (.ref t), some (.int x1), some (.int x3), some (.int x3)]) rfl ?_
      exact vjX1_mercy_92 O hRm (V := V35) (P := P) t hT (x1) (x3) (x3) post xp hN (kOk.le hk (Nat.le_of_ble_eq_true rfl)) hQ kb hkb w
    · refine g_goto (tgt := 92) O dX1_mercy_87 (by decide) ?_
      exact vjX1_mercy_92 O hRm (V := V35) (P := P) t hT (x1) (x2) (x3) post xp hN (kOk.le hk (Nat.le_of_ble_eq_true rfl)) hQ kb hkb w
set_option maxHeartbeats 4000000 in
theorem vlX1_mercy_9 {X : Cx} {z : Nat} {T L : Nat → Nat} {P : w_P} (O : Okc X cX1_mercy RX1 4 (some .int)) (hRm : cxR X = rX1_mercy) (t : Nat) (hT : T t = 2) (x1 : Int32) (post : Int32 → w_V → Prop) (xp : String → w_V → w_P → Prop) (hN : noTab X) {kc ks : Nat} (hk : kOk rX1_mercy kc ks 0) (hQ : cxMX X (va_Qi post (fun u t => wdW (cxE X) (xW1 z T L P u) t.heap) (w_A (cxE X))) (xB z T L xp) rX1_mercy.cells rX1_mercy.slots)  : ∀ (n : Nat) (x2 : Int32) (x3 : Int32) (V : w_V), lX1_mercy_9 (cxE X).2.2.2.2 T L P t x1 post xp n x2 x3 V → gW X kc ks z T L V P 9 [some (.ref t), some (.int x1), some (.int x2), some (.int x3)] [] := by
  intro n
  induction n with
  | zero =>
    intro x2 x3 V w
    exact w.elim
  | succ n ih =>
    intro x2 x3 V w
    unfold lX1_mercy_9 at w
    refine g_iload_n O dX1_mercy_9 rfl ?_
    refine g_iconst (v := 1) O dX1_mercy_10 (by decide) ?_
    refine g_aload_n O dX1_mercy_11 rfl ?_
    obtain ⟨b5, hp6, ht7, w⟩ := w
    refine gx_getR (lay := 1) (j := 0) O ck1 (by decide) rfl rfl hp6 (by decide) hT q810 dX1_mercy_12 ?_
    obtain ⟨b8, hp9, ht10, w⟩ := w
    refine gx_getRN (lay := 2) (j := 6) O ck2 (by decide) rfl rfl hp9 (by decide) ht7 q541 dX1_mercy_15 ?_
    refine g_ri0 (gr_V (lay := 15) (nA := 0) (As := []) (rest := [.int 1, .int x3]) O hRm (kJ2_size _ O.2.2.2.2.2.2.2.2 _ _ _ _ _ _ b8 ht10 _ w) (lw_V q1280 q792 q793 q110 q794) rfl rfl (by decide +kernel) ⟨Nat.le_of_ble_eq_true rfl, Nat.le_of_ble_eq_true rfl⟩ ck15 (by decide) rfl ht10 rfl rfl rfl (Nat.le_of_ble_eq_true rfl) dX1_mercy_18 (kOk.f0 hk)) (fun r11 w => ?_)
    have hk := kOk.s0 hk
    refine g_ishl O dX1_mercy_21 ?_
    refine g_icmp_ge (tgt := 98) O w dX1_mercy_22 (by decide) (fun w => ?_) (fun w => ?_)
    · refine g_iload_n O dX1_mercy_98 rfl ?_
      exact gt_iret (f := xW1 z T L P) (u := V) O hQ (kOk.m hk) rfl rfl w dX1_mercy_99
    · refine g_iload_n O dX1_mercy_25 rfl ?_
      refine g_iconst (v := (-1)) O dX1_mercy_26 (by decide) ?_
      refine g_icmp_eq (tgt := 44) O w dX1_mercy_27 (by decide) (fun w => ?_) (fun w => ?_)
      · exact vjX1_mercy_44 O hRm (V := V) (P := P) t hT (x1) (x2) (x3) post xp hN (kOk.le hk (Nat.le_of_ble_eq_true rfl)) hQ (lX1_mercy_9 (cxE X).2.2.2.2 T L P t x1 post xp n) ih w
      · refine g_iload_n O dX1_mercy_30 rfl ?_
        refine g_ri0 (gr_S (nA := 1) (As := [.int x3]) (rest := []) O hRm (kJ16_bitCount _ O.2.2.2.2.2.2.2.2 _ _ _ _ _ _ (x3) _ w) (lw_S q1646 q1647 q126 q1648) rfl rfl (by decide +kernel) ⟨Nat.le_of_ble_eq_true rfl, Nat.le_of_ble_eq_true rfl⟩ rfl rfl rfl (Nat.le_of_ble_eq_true rfl) dX1_mercy_31 (kOk.f0 hk)) (fun r37 w => ?_)
        have hk := kOk.s0 hk
        refine g_iload_n O dX1_mercy_34 rfl ?_
        refine g_ri0 (gr_S (nA := 1) (As := [.int x2]) (rest := [.int r37]) O hRm (kJ16_bitCount _ O.2.2.2.2.2.2.2.2 _ _ _ _ _ _ (x2) _ w) (lw_S q1646 q1647 q126 q1648) rfl rfl (by decide +kernel) ⟨Nat.le_of_ble_eq_true rfl, Nat.le_of_ble_eq_true rfl⟩ rfl rfl rfl (Nat.le_of_ble_eq_true rfl) dX1_mercy_35 (kOk.f0 hk)) (fun r40 w => ?_)
        have hk := kOk.s0 hk
        refine g_icmp_lt (tgt := 44) O w dX1_mercy_38 (by decide) (fun w => ?_) (fun w => ?_)
        · exact vjX1_mercy_44 O hRm (V := V) (P := P) t hT (x1) (x2) (x3) post xp hN (kOk.le hk (Nat.le_of_ble_eq_true rfl)) hQ (lX1_mercy_9 (cxE X).2.2.2.2 T L P t x1 post xp n) ih w
        · refine g_goto (tgt := 92) O dX1_mercy_41 (by decide) ?_
          exact vjX1_mercy_92 O hRm (V := V) (P := P) t hT (x1) (x2) (x3) post xp hN (kOk.le hk (Nat.le_of_ble_eq_true rfl)) hQ (lX1_mercy_9 (cxE X).2.2.2.2 T L P t x1 post xp n) ih w
set_option maxHeartbeats 4000000 in
theorem kX1_mercy (l : Launch) (hfl : l.flags = flags0) (E : w_E) (z : Nat) (T L : Nat → Nat) (V : w_V) (P : w_P) (t : Nat) (hT : T t = 2) (x1 : Int32) (post : Int32 → w_V → Prop) (xp : String → w_V → w_P → Prop) (w : wX1_mercy E.2.2.2.2 T L V P t x1 post xp) : vx_Met l yX1_mercy (ws_ yX1_mercy cX1_mercy 4 (some .int)) rX1_mercy (va_Pc [.ref t, .int x1] (fun U => kenv E U ∧ wdW E (z, T, L, V, P) U.heap)) (va_Qi post (fun u t => wdW E ((xW1 z T L P) u) t.heap) (w_A E)) (xcX E (xB z T L xp)) 8 32 (w_A E) := by
  refine g_startX (w := (z, T, L, V, P)) hfl (by decide +kernel) rfl [some (.ref t), some (.int x1), none, none] rfl (fun _ h => h) (Nat.le_of_ble_eq_true rfl) (fun X hl hRm hEe O hN hQ => ?_)
  subst hl
  subst hEe
  have hk : kOk rX1_mercy 0 0 1 := ⟨Nat.le_refl _, Nat.le_refl _⟩
  unfold wX1_mercy at w
  refine g_aload_n O dX1_mercy_0 rfl ?_
  refine g_iload_n O dX1_mercy_1 rfl ?_
  refine g_xv0 O hN hQ (kOk.f hk (c := 1) (Nat.le_of_ble_eq_true rfl)) (grx_V (lay := 1) (nA := 1) (As := [.int x1]) (rest := []) O hRm (kX1_caseAt _ O.2.2.2.2.2.2.2.2 _ _ _ _ _ _ t hT (x1) _ xp w) (lw_V q1502 q1504 qs40 q106 q1505) rfl rfl (by decide +kernel) ⟨Nat.le_of_ble_eq_true rfl, Nat.le_of_ble_eq_true rfl⟩ ck1 (by decide) rfl hT rfl rfl rfl (Nat.le_of_ble_eq_true rfl) dX1_mercy_2 (kOk.f hk (c := 1) (Nat.le_of_ble_eq_true rfl))) (fun w => ?_)
  have hk4 := kOk.sub 1 hk (Nat.le_of_ble_eq_true rfl)
  refine g_iconst (v := (-1)) O dX1_mercy_5 (by decide) ?_
  refine g_istore_n O dX1_mercy_6 (Nat.le_of_ble_eq_true rfl) rfl (lv' := [some (.ref t), some (.int x1), some (.int (-1)), none]) rfl ?_
  refine g_iconst (v := 0) O dX1_mercy_7 (by decide) ?_
  refine g_istore_n O dX1_mercy_8 (Nat.le_of_ble_eq_true rfl) rfl (lv' := [some (.ref t), some (.int x1), some (.int (-1)), some (.int 0)]) rfl ?_
  obtain ⟨n43, w⟩ := w
  exact vlX1_mercy_9 O hRm (P := P) t hT (x1) post xp hN (kOk.le hk4 (Nat.le_of_ble_eq_true rfl)) hQ n43 ((-1)) (0) (V) w
-- X1_deaf
abbrev rX1_deaf : Room := { frames := 1249, cells := 8, slots := 32, locals := 37376 }
set_option maxHeartbeats 4000000 in
theorem kX1_deaf (l : Launch) (hfl : l.flags = flags0) (E : w_E) (z : Nat) (T L : Nat → Nat) (V : w_V) (P : w_P) (t : Nat) (hT : T t = 2) (x1 : Int32) (post : Int32 → w_V → Prop) (xp : String → w_V → w_P → Prop) (w : wX1_deaf E.2.2.2.2 T L V P t x1 post xp) : vx_Met l yX1_deaf (ws_ yX1_deaf cX1_deaf 2 (some .int)) rX1_deaf (va_Pc [.ref t, .int x1] (fun U => kenv E U ∧ wdW E (z, T, L, V, P) U.heap)) (va_Qi post (fun u t => wdW E ((xW1 z T L P) u) t.heap) (w_A E)) (xcX E (xB z T L xp)) 8 32 (w_A E) := by
  refine g_startX (w := (z, T, L, V, P)) hfl (by decide +kernel) rfl [some (.ref t), some (.int x1)] rfl (fun _ h => h) (Nat.le_of_ble_eq_true rfl) (fun X hl hRm hEe O hN hQ => ?_)
  subst hl
  subst hEe
  have hk : kOk rX1_deaf 0 0 1 := ⟨Nat.le_refl _, Nat.le_refl _⟩
  unfold wX1_deaf at w
  refine g_aload_n O dX1_deaf_0 rfl ?_
  refine g_iload_n O dX1_deaf_1 rfl ?_
  refine g_xq0 O hN hQ (kOk.f hk (c := 1) (Nat.le_of_ble_eq_true rfl)) (grx_V (lay := 1) (nA := 1) (As := [.int x1]) (rest := []) O hRm (kX1_judgeAt _ O.2.2.2.2.2.2.2.2 _ _ _ _ _ _ t hT (x1) _ xp w) (lw_V q1461 q1463 qs39 q106 q1464) rfl rfl (by decide +kernel) ⟨Nat.le_of_ble_eq_true rfl, Nat.le_of_ble_eq_true rfl⟩ ck1 (by decide) rfl hT rfl rfl rfl (Nat.le_of_ble_eq_true rfl) dX1_deaf_2 (kOk.f hk (c := 1) (Nat.le_of_ble_eq_true rfl))) (fun r1 w => ?_)
  have hk5 := kOk.sub 1 hk (Nat.le_of_ble_eq_true rfl)
  obtain ⟨hr4, w⟩ := w
  refine g_pop O dX1_deaf_5 rfl ?_
  refine g_aload_n O dX1_deaf_6 rfl ?_
  obtain ⟨b6, hp7, ht8, w⟩ := w
  refine gx_getR (lay := 1) (j := 4) O ck1 (by decide) rfl rfl hp7 (by decide) hT q814 dX1_deaf_7 ?_
  refine g_aload_n O dX1_deaf_10 rfl ?_
  obtain ⟨b9, hp10, ht11, w⟩ := w
  refine gx_getR (lay := 1) (j := 3) O ck1 (by decide) rfl rfl hp10 (by decide) hT q813 dX1_deaf_11 ?_
  refine g_rv1 (gr_V (lay := 5) (nA := 1) (As := [.ref b9]) (rest := []) O hRm (kX6_like _ O.2.2.2.2.2.2.2.2 _ _ _ _ _ _ b6 ht8 b9 ht11 _ w) (lw_V q861 q862 q863 q131 q864) rfl rfl (by decide +kernel) ⟨Nat.le_of_ble_eq_true rfl, Nat.le_of_ble_eq_true rfl⟩ ck5 (by decide) rfl ht8 rfl rfl rfl (Nat.le_of_ble_eq_true rfl) dX1_deaf_14 (kOk.f0 hk5)) (fun V13 w => ?_)
  have hk5 := kOk.s0 hk5
  refine g_aload_n O dX1_deaf_17 rfl ?_
  obtain ⟨b15, hp16, ht17, w⟩ := w
  refine gx_getR (lay := 1) (j := 4) O ck1 (by decide) rfl rfl hp16 (by decide) hT q814 dX1_deaf_18 ?_
  refine g_iconst (v := 1) O dX1_deaf_21 (by decide) ?_
  refine g_iload_n O dX1_deaf_22 rfl ?_
  refine g_ishl O dX1_deaf_23 ?_
  refine gx_putIN (lay := 5) (j := 9) (ty := .int) O ck5 (by decide) rfl rfl (by decide) ht17 q608 rfl rfl rfl rfl dX1_deaf_24 ?_
  refine g_nV w (fun V18 w _ => ?_)
  refine g_aload_n O dX1_deaf_27 rfl ?_
  obtain ⟨b19, hp20, ht21, w⟩ := w
  refine gx_getR (lay := 1) (j := 5) O ck1 (by decide) rfl rfl hp20 (by decide) hT q815 dX1_deaf_28 ?_
  refine g_ri1 (gr_V (lay := 6) (nA := 0) (As := []) (rest := []) O hRm (kX7_all _ O.2.2.2.2.2.2.2.2 _ _ _ _ _ _ b19 ht21 _ w) (lw_V q1289 q1290 q1291 q132 q1292) rfl rfl (by decide +kernel) ⟨Nat.le_of_ble_eq_true rfl, Nat.le_of_ble_eq_true rfl⟩ ck6 (by decide) rfl ht21 rfl rfl rfl (Nat.le_of_ble_eq_true rfl) dX1_deaf_31 (kOk.f0 hk5)) (fun r22 V23 w => ?_)
  have hk5 := kOk.s0 hk5
  exact gt_iret (f := xW1 z T L P) (u := V23) O hQ (kOk.m hk5) rfl rfl w dX1_deaf_34
-- X1_soonest
abbrev rX1_soonest : Room := { frames := 1250, cells := 8, slots := 32, locals := 37396 }
set_option maxHeartbeats 4000000 in
theorem vjX1_soonest_70 {X : Cx} {z : Nat} {T L : Nat → Nat} {V : w_V} {P : w_P} (O : Okc X cX1_soonest RX1 5 (some .int)) (hRm : cxR X = rX1_soonest) (t : Nat) (hT : T t = 2) (x1 : Int32) (x2 : Int32) (x3 : Int32) (post : Int32 → w_V → Prop) (xp : String → w_V → w_P → Prop) (hN : noTab X) {kc ks : Nat} (hk : kOk rX1_soonest kc ks 0) (hQ : cxMX X (va_Qi post (fun u t => wdW (cxE X) (xW1 z T L P u) t.heap) (w_A (cxE X))) (xB z T L xp) rX1_soonest.cells rX1_soonest.slots) (kb : Int32 → Int32 → w_V → Prop) (hkb : ∀ (y2 : Int32) (y3 : Int32) (V2 : w_V), kb y2 y3 V2 → gW X kc ks z T L V2 P 18 [some (.ref t), some (.int x1), some (.int y2), some (.int y3), none] []) (w : jX1_soonest_70 (cxE X).2.2.2.2 T L V P t x1 x2 x3 post xp kb) : gW X kc ks z T L V P 70 [some (.ref t), some (.int x1), some (.int x2), some (.int x3), none] [] := by
  unfold jX1_soonest_70 at w
  refine g_iinc (v := (x3 + 1)) O dX1_soonest_70 rfl rfl rfl (lv' := [some (.ref t), some (.int x1), some (.int x2), some (.int (x3 + 1)), none]) rfl ?_
  refine g_goto (tgt := 18) O dX1_soonest_73 (by decide) ?_
  exact hkb (x2) ((x3 + 1)) (V) w
set_option maxHeartbeats 4000000 in
theorem vjX1_soonest_67 {X : Cx} {z : Nat} {T L : Nat → Nat} {V : w_V} {P : w_P} (O : Okc X cX1_soonest RX1 5 (some .int)) (hRm : cxR X = rX1_soonest) (t : Nat) (hT : T t = 2) (x1 : Int32) (x3 : Int32) (x4 : Int32) (post : Int32 → w_V → Prop) (xp : String → w_V → w_P → Prop) (hN : noTab X) {kc ks : Nat} (hk : kOk rX1_soonest kc ks 0) (hQ : cxMX X (va_Qi post (fun u t => wdW (cxE X) (xW1 z T L P u) t.heap) (w_A (cxE X))) (xB z T L xp) rX1_soonest.cells rX1_soonest.slots) (kb : Int32 → Int32 → w_V → Prop) (hkb : ∀ (y2 : Int32) (y3 : Int32) (V2 : w_V), kb y2 y3 V2 → gW X kc ks z T L V2 P 18 [some (.ref t), some (.int x1), some (.int y2), some (.int y3), none] []) (w : jX1_soonest_67 (cxE X).2.2.2.2 T L V P t x1 x3 x4 post xp kb) : gW X kc ks z T L V P 67 [some (.ref t), some (.int x1), none, some (.int x3), some (.int x4)] [] := by
  unfold jX1_soonest_67 at w
  refine g_iload O dX1_soonest_67 rfl ?_
  refine g_istore_n O dX1_soonest_69 (Nat.le_of_ble_eq_true rfl) rfl (lv' := [some (.ref t), some (.int x1), some (.int x4), some (.int x3), some (.int x4)]) rfl ?_
  refine g_drop [4] (lv' := [some (.ref t), some (.int x1), some (.int x4), some (.int x3), none]) rfl ?_
  exact vjX1_soonest_70 O hRm (V := V) (P := P) t hT (x1) (x4) (x3) post xp hN (kOk.le hk (Nat.le_of_ble_eq_true rfl)) hQ kb hkb w
set_option maxHeartbeats 4000000 in
theorem vlX1_soonest_18 {X : Cx} {z : Nat} {T L : Nat → Nat} {P : w_P} (O : Okc X cX1_soonest RX1 5 (some .int)) (hRm : cxR X = rX1_soonest) (t : Nat) (hT : T t = 2) (x1 : Int32) (post : Int32 → w_V → Prop) (xp : String → w_V → w_P → Prop) (hN : noTab X) {kc ks : Nat} (hk : kOk rX1_soonest kc ks 0) (hQ : cxMX X (va_Qi post (fun u t => wdW (cxE X) (xW1 z T L P u) t.heap) (w_A (cxE X))) (xB z T L xp) rX1_soonest.cells rX1_soonest.slots)  : ∀ (n : Nat) (x2 : Int32) (x3 : Int32) (V : w_V), lX1_soonest_18 (cxE X).2.2.2.2 T L P t x1 post xp n x2 x3 V → gW X kc ks z T L V P 18 [some (.ref t), some (.int x1), some (.int x2), some (.int x3), none] [] := by
  intro n
  induction n with
  | zero =>
    intro x2 x3 V w
    exact w.elim
  | succ n ih =>
    intro x2 x3 V w
    unfold lX1_soonest_18 at w
    refine g_iload_n O dX1_soonest_18 rfl ?_
    refine g_aload_n O dX1_soonest_19 rfl ?_
    refine g_ri0 (gr_V (lay := 1) (nA := 0) (As := []) (rest := [.int x3]) O hRm (kX1_cases _ O.2.2.2.2.2.2.2.2 _ _ _ _ _ _ t hT _ w) (lw_V q1281 q1283 qs22 q106 q1284) rfl rfl (by decide +kernel) ⟨Nat.le_of_ble_eq_true rfl, Nat.le_of_ble_eq_true rfl⟩ ck1 (by decide) rfl hT rfl rfl rfl (Nat.le_of_ble_eq_true rfl) dX1_soonest_20 (kOk.f0 hk)) (fun r11 w => ?_)
    have hk := kOk.s0 hk
    refine g_icmp_ge (tgt := 76) O w dX1_soonest_23 (by decide) (fun w => ?_) (fun w => ?_)
    · refine g_iload_n O dX1_soonest_76 rfl ?_
      exact gt_iret (f := xW1 z T L P) (u := V) O hQ (kOk.m hk) rfl rfl w dX1_soonest_77
    · refine g_aload_n O dX1_soonest_26 rfl ?_
      obtain ⟨b14, hp15, ht16, w⟩ := w
      refine gx_getR (lay := 1) (j := 5) O ck1 (by decide) rfl rfl hp15 (by decide) hT q815 dX1_soonest_27 ?_
      refine gx_getAN (lay := 6) (j := 8) O ck6 (by decide) rfl rfl (by decide) ht16 q754 dX1_soonest_30 ?_
      refine g_iload_n O dX1_soonest_33 rfl ?_
      obtain ⟨i17, hi18, e19, w⟩ := w
      refine gx_iald (a := b14) (kk0 := 9) (len := 6) (nn := i17) O (ha_own (lay := 6) (j := 8) (off := 7) (ty := 0) (len := 6) (by decide) ht16 rfl (by decide)) hi18 (by decide) e19 dX1_soonest_34 ?_
      refine g_istore O dX1_soonest_35 (Nat.le_of_ble_eq_true rfl) rfl (lv' := [some (.ref t), some (.int x1), some (.int x2), some (.int x3), some (.int (V b14 9 i17))]) rfl ?_
      refine g_iload O dX1_soonest_37 rfl ?_
      refine g_iconst (v := (-1)) O dX1_soonest_39 (by decide) ?_
      refine g_icmp_eq (tgt := 70) O w dX1_soonest_40 (by decide) (fun w => ?_) (fun w => ?_)
      · refine g_drop [4] (lv' := [some (.ref t), some (.int x1), some (.int x2), some (.int x3), none]) rfl ?_
        exact vjX1_soonest_70 O hRm (V := V) (P := P) t hT (x1) (x2) (x3) post xp hN (kOk.le hk (Nat.le_of_ble_eq_true rfl)) hQ (lX1_soonest_18 (cxE X).2.2.2.2 T L P t x1 post xp n) ih w
      · refine g_iload_n O dX1_soonest_43 rfl ?_
        refine g_iconst (v := (-1)) O dX1_soonest_44 (by decide) ?_
        refine g_icmp_eq (tgt := 67) O w dX1_soonest_45 (by decide) (fun w => ?_) (fun w => ?_)
        · refine g_drop [2] (lv' := [some (.ref t), some (.int x1), none, some (.int x3), some (.int (V b14 9 i17))]) rfl ?_
          exact vjX1_soonest_67 O hRm (V := V) (P := P) t hT (x1) (x3) ((V b14 9 i17)) post xp hN (kOk.le hk (Nat.le_of_ble_eq_true rfl)) hQ (lX1_soonest_18 (cxE X).2.2.2.2 T L P t x1 post xp n) ih w
        · refine g_iload_n O dX1_soonest_48 rfl ?_
          refine g_if_ne (tgt := 61) O w dX1_soonest_49 (by decide) (fun w => ?_) (fun w => ?_)
          · refine g_iload O dX1_soonest_61 rfl ?_
            refine g_iload_n O dX1_soonest_63 rfl ?_
            refine g_icmp_le (tgt := 70) O w dX1_soonest_64 (by decide) (fun w => ?_) (fun w => ?_)
            · refine g_drop [4] (lv' := [some (.ref t), some (.int x1), some (.int x2), some (.int x3), none]) rfl ?_
              exact vjX1_soonest_70 O hRm (V := V) (P := P) t hT (x1) (x2) (x3) post xp hN (kOk.le hk (Nat.le_of_ble_eq_true rfl)) hQ (lX1_soonest_18 (cxE X).2.2.2.2 T L P t x1 post xp n) ih w
            · refine g_drop [2] (lv' := [some (.ref t), some (.int x1), none, some (.int x3), some (.int (V b14 9 i17))]) rfl ?_
              exact vjX1_soonest_67 O hRm (V := V) (P := P) t hT (x1) (x3) ((V b14 9 i17)) post xp hN (kOk.le hk (Nat.le_of_ble_eq_true rfl)) hQ (lX1_soonest_18 (cxE X).2.2.2.2 T L P t x1 post xp n) ih w
          · refine g_iload O dX1_soonest_52 rfl ?_
            refine g_iload_n O dX1_soonest_54 rfl ?_
            refine g_icmp_ge (tgt := 70) O w dX1_soonest_55 (by decide) (fun w => ?_) (fun w => ?_)
            · refine g_drop [4] (lv' := [some (.ref t), some (.int x1), some (.int x2), some (.int x3), none]) rfl ?_
              exact vjX1_soonest_70 O hRm (V := V) (P := P) t hT (x1) (x2) (x3) post xp hN (kOk.le hk (Nat.le_of_ble_eq_true rfl)) hQ (lX1_soonest_18 (cxE X).2.2.2.2 T L P t x1 post xp n) ih w
            · refine g_goto (tgt := 67) O dX1_soonest_58 (by decide) ?_
              refine g_drop [2] (lv' := [some (.ref t), some (.int x1), none, some (.int x3), some (.int (V b14 9 i17))]) rfl ?_
              exact vjX1_soonest_67 O hRm (V := V) (P := P) t hT (x1) (x3) ((V b14 9 i17)) post xp hN (kOk.le hk (Nat.le_of_ble_eq_true rfl)) hQ (lX1_soonest_18 (cxE X).2.2.2.2 T L P t x1 post xp n) ih w
set_option maxHeartbeats 4000000 in
theorem kX1_soonest (l : Launch) (hfl : l.flags = flags0) (E : w_E) (z : Nat) (T L : Nat → Nat) (V : w_V) (P : w_P) (t : Nat) (hT : T t = 2) (x1 : Int32) (post : Int32 → w_V → Prop) (xp : String → w_V → w_P → Prop) (w : wX1_soonest E.2.2.2.2 T L V P t x1 post xp) : vx_Met l yX1_soonest (ws_ yX1_soonest cX1_soonest 5 (some .int)) rX1_soonest (va_Pc [.ref t, .int x1] (fun U => kenv E U ∧ wdW E (z, T, L, V, P) U.heap)) (va_Qi post (fun u t => wdW E ((xW1 z T L P) u) t.heap) (w_A E)) (xcX E (xB z T L xp)) 8 32 (w_A E) := by
  refine g_startX (w := (z, T, L, V, P)) hfl (by decide +kernel) rfl [some (.ref t), some (.int x1), none, none, none] rfl (fun _ h => h) (Nat.le_of_ble_eq_true rfl) (fun X hl hRm hEe O hN hQ => ?_)
  subst hl
  subst hEe
  have hk : kOk rX1_soonest 0 0 1 := ⟨Nat.le_refl _, Nat.le_refl _⟩
  unfold wX1_soonest at w
  refine g_iload_n O dX1_soonest_0 rfl ?_
  refine g_iconst (v := 0) O dX1_soonest_1 (by decide) ?_
  refine g_iconst (v := 1) O dX1_soonest_2 (by decide) ?_
  refine g_ri0 (gr_S (nA := 3) (As := [.int x1, .int 0, .int 1]) (rest := []) O hRm (kX1_within _ O.2.2.2.2.2.2.2.2 _ _ _ _ _ _ (x1) (0) (1) _ w) (lw_S q1259 q1260 q106 q1261) rfl rfl (by decide +kernel) ⟨Nat.le_of_ble_eq_true rfl, Nat.le_of_ble_eq_true rfl⟩ rfl rfl rfl (Nat.le_of_ble_eq_true rfl) dX1_soonest_3 (kOk.f0 hk)) (fun r1 w => ?_)
  have hk := kOk.s0 hk
  refine g_xv0 O hN hQ (kOk.f hk (c := 1) (Nat.le_of_ble_eq_true rfl)) (grx_S (nA := 1) (As := [.int r1]) (rest := []) O hRm (kX1_there _ O.2.2.2.2.2.2.2.2 _ _ _ _ _ _ (r1) _ xp w) (lw_S q1262 q1263 q106 q1264) rfl rfl (by decide +kernel) ⟨Nat.le_of_ble_eq_true rfl, Nat.le_of_ble_eq_true rfl⟩ rfl rfl rfl (Nat.le_of_ble_eq_true rfl) dX1_soonest_6 (kOk.f hk (c := 1) (Nat.le_of_ble_eq_true rfl))) (fun w => ?_)
  have hk7 := kOk.sub 1 hk (Nat.le_of_ble_eq_true rfl)
  refine g_aload_n O dX1_soonest_9 rfl ?_
  refine g_ri1 (gr_V (lay := 1) (nA := 0) (As := []) (rest := []) O hRm (kX1_tries _ O.2.2.2.2.2.2.2.2 _ _ _ _ _ _ t hT _ w) (lw_V q1285 q1287 qs23 q106 q1288) rfl rfl (by decide +kernel) ⟨Nat.le_of_ble_eq_true rfl, Nat.le_of_ble_eq_true rfl⟩ ck1 (by decide) rfl hT rfl rfl rfl (Nat.le_of_ble_eq_true rfl) dX1_soonest_10 (kOk.f0 hk7)) (fun r8 V9 w => ?_)
  have hk7 := kOk.s0 hk7
  refine g_pop O dX1_soonest_13 rfl ?_
  refine g_iconst (v := (-1)) O dX1_soonest_14 (by decide) ?_
  refine g_istore_n O dX1_soonest_15 (Nat.le_of_ble_eq_true rfl) rfl (lv' := [some (.ref t), some (.int x1), some (.int (-1)), none, none]) rfl ?_
  refine g_iconst (v := 0) O dX1_soonest_16 (by decide) ?_
  refine g_istore_n O dX1_soonest_17 (Nat.le_of_ble_eq_true rfl) rfl (lv' := [some (.ref t), some (.int x1), some (.int (-1)), some (.int 0), none]) rfl ?_
  obtain ⟨n20, w⟩ := w
  exact vlX1_soonest_18 O hRm (P := P) t hT (x1) post xp hN (kOk.le hk7 (Nat.le_of_ble_eq_true rfl)) hQ n20 ((-1)) (0) (V9) w
-- X1_see
abbrev rX1_see : Room := { frames := 8, cells := 16, slots := 64, locals := 141 }
set_option maxHeartbeats 4000000 in
theorem kX1_see (l : Launch) (hfl : l.flags = flags0) (E : w_E) (z : Nat) (T L : Nat → Nat) (V : w_V) (P : w_P) (t : Nat) (hT : T t = 2) (x1 : Int32) (x2 : Int32) (x3 : Int32) (post : Int32 → w_V → Prop) (xp : String → w_V → w_P → Prop) (w : wX1_see E.2.2.2.2 T L V P t x1 x2 x3 post xp) : vx_Met l yX1_see (ws_ yX1_see cX1_see 5 (some .int)) rX1_see (va_Pc [.ref t, .int x1, .int x2, .int x3] (fun U => kenv E U ∧ wdW E (z, T, L, V, P) U.heap)) (va_Qi post (fun u t => wdW E ((xW1 z T L P) u) t.heap) (w_A E)) (xcX E (xB z T L xp)) 16 64 (w_A E) := by
  refine g_startX (w := (z, T, L, V, P)) hfl (by decide +kernel) rfl [some (.ref t), some (.int x1), some (.int x2), some (.int x3), none] rfl (fun _ h => h) (Nat.le_of_ble_eq_true rfl) (fun X hl hRm hEe O hN hQ => ?_)
  subst hl
  subst hEe
  have hk : kOk rX1_see 0 0 2 := ⟨Nat.le_refl _, Nat.le_refl _⟩
  unfold wX1_see at w
  refine g_aload_n O dX1_see_0 rfl ?_
  refine g_iload_n O dX1_see_1 rfl ?_
  refine g_xv0 O hN hQ (kOk.f hk (c := 1) (Nat.le_of_ble_eq_true rfl)) (grx_V (lay := 1) (nA := 1) (As := [.int x1]) (rest := []) O hRm (kX1_caseAt _ O.2.2.2.2.2.2.2.2 _ _ _ _ _ _ t hT (x1) _ xp w) (lw_V q1502 q1504 qs40 q106 q1505) rfl rfl (by decide +kernel) ⟨Nat.le_of_ble_eq_true rfl, Nat.le_of_ble_eq_true rfl⟩ ck1 (by decide) rfl hT rfl rfl rfl (Nat.le_of_ble_eq_true rfl) dX1_see_2 (kOk.f hk (c := 1) (Nat.le_of_ble_eq_true rfl))) (fun w => ?_)
  have hk4 := kOk.sub 1 hk (Nat.le_of_ble_eq_true rfl)
  refine g_aload_n O dX1_see_5 rfl ?_
  refine g_iload_n O dX1_see_6 rfl ?_
  refine g_xq0 O hN hQ (kOk.f hk4 (c := 1) (Nat.le_of_ble_eq_true rfl)) (grx_V (lay := 1) (nA := 1) (As := [.int x2]) (rest := []) O hRm (kX1_judgeAt _ O.2.2.2.2.2.2.2.2 _ _ _ _ _ _ t hT (x2) _ xp w) (lw_V q1461 q1463 qs39 q106 q1464) rfl rfl (by decide +kernel) ⟨Nat.le_of_ble_eq_true rfl, Nat.le_of_ble_eq_true rfl⟩ ck1 (by decide) rfl hT rfl rfl rfl (Nat.le_of_ble_eq_true rfl) dX1_see_7 (kOk.f hk4 (c := 1) (Nat.le_of_ble_eq_true rfl))) (fun r5 w => ?_)
  have hk9 := kOk.sub 1 hk4 (Nat.le_of_ble_eq_true rfl)
  obtain ⟨hr8, w⟩ := w
  refine g_pop O dX1_see_10 rfl ?_
  refine g_aload_n O dX1_see_11 rfl ?_
  obtain ⟨b10, hp11, ht12, w⟩ := w
  refine gx_getR (lay := 1) (j := 1) O ck1 (by decide) rfl rfl hp11 (by decide) hT q811 dX1_see_12 ?_
  refine gx_getIN (lay := 4) (j := 7) O ck4 (by decide) rfl rfl (by decide) ht12 q712 dX1_see_15 ?_
  refine g_istore O dX1_see_18 (Nat.le_of_ble_eq_true rfl) rfl (lv' := [some (.ref t), some (.int x1), some (.int x2), some (.int x3), some (.int (V b10 0 7))]) rfl ?_
  refine g_iload O dX1_see_20 rfl ?_
  refine g_bipush (v := 8) O dX1_see_22 (by decide) ?_
  refine g_icmp_ne (tgt := 33) O w dX1_see_24 (by decide) (fun w => ?_) (fun w => ?_)
  · refine g_aload_n O dX1_see_33 rfl ?_
    obtain ⟨b13, hp14, ht15, w⟩ := w
    refine gx_getR (lay := 1) (j := 1) O ck1 (by decide) rfl rfl hp14 (by decide) hT q811 dX1_see_34 ?_
    refine gx_getAN (lay := 4) (j := 2) O ck4 (by decide) rfl rfl (by decide) ht15 q702 dX1_see_37 ?_
    refine g_iload O dX1_see_40 rfl ?_
    refine g_iload_n O dX1_see_42 rfl ?_
    obtain ⟨i16, hi17, e18, w⟩ := w
    refine gx_iast (a := b13) (kk0 := 3) (len := 8) (nn := i16) O (ha_own (lay := 4) (j := 2) (off := 8) (ty := 0) (len := 8) (by decide) ht15 rfl (by decide)) hi17 (by decide) e18 dX1_see_43 ?_
    refine g_nV w (fun V19 w _ => ?_)
    refine g_aload_n O dX1_see_44 rfl ?_
    obtain ⟨b20, hp21, ht22, w⟩ := w
    refine gx_getR (lay := 1) (j := 1) O ck1 (by decide) rfl rfl hp21 (by decide) hT q811 dX1_see_45 ?_
    refine gx_getAN (lay := 4) (j := 3) O ck4 (by decide) rfl rfl (by decide) ht22 q704 dX1_see_48 ?_
    refine g_iload O dX1_see_51 rfl ?_
    refine g_iload_n O dX1_see_53 rfl ?_
    obtain ⟨i23, hi24, e25, w⟩ := w
    refine gx_iast (a := b20) (kk0 := 4) (len := 8) (nn := i23) O (ha_own (lay := 4) (j := 3) (off := 9) (ty := 0) (len := 8) (by decide) ht22 rfl (by decide)) hi24 (by decide) e25 dX1_see_54 ?_
    refine g_nV w (fun V26 w _ => ?_)
    refine g_aload_n O dX1_see_55 rfl ?_
    obtain ⟨b27, hp28, ht29, w⟩ := w
    refine gx_getR (lay := 1) (j := 1) O ck1 (by decide) rfl rfl hp28 (by decide) hT q811 dX1_see_56 ?_
    refine gx_getAN (lay := 4) (j := 5) O ck4 (by decide) rfl rfl (by decide) ht29 q708 dX1_see_59 ?_
    refine g_iload O dX1_see_62 rfl ?_
    refine g_iload_n O dX1_see_64 rfl ?_
    obtain ⟨i30, hi31, e32, w⟩ := w
    refine gx_zast (a := b27) (kk0 := 6) (len := 8) (nn := i30) O (ha_own (lay := 4) (j := 5) (off := 11) (ty := 2) (len := 8) (by decide) ht29 rfl (by decide)) hi31 (by decide) e32 dX1_see_65 ?_
    refine g_nV w (fun V33 w _ => ?_)
    refine g_aload_n O dX1_see_66 rfl ?_
    obtain ⟨b34, hp35, ht36, w⟩ := w
    refine gx_getR (lay := 1) (j := 1) O ck1 (by decide) rfl rfl hp35 (by decide) hT q811 dX1_see_67 ?_
    refine g_dup O dX1_see_70 rfl ?_
    refine gx_getIN (lay := 4) (j := 7) O ck4 (by decide) rfl rfl (by decide) ht36 q712 dX1_see_71 ?_
    refine g_iconst (v := 1) O dX1_see_74 (by decide) ?_
    refine g_iadd O dX1_see_75 ?_
    refine gx_putIN (lay := 4) (j := 7) (ty := .int) O ck4 (by decide) rfl rfl (by decide) ht36 q712 rfl rfl rfl rfl dX1_see_76 ?_
    refine g_nV w (fun V37 w _ => ?_)
    refine g_aload_n O dX1_see_79 rfl ?_
    obtain ⟨b38, hp39, ht40, w⟩ := w
    refine gx_getR (lay := 1) (j := 1) O ck1 (by decide) rfl rfl hp39 (by decide) hT q811 dX1_see_80 ?_
    refine gx_getIN (lay := 4) (j := 7) O ck4 (by decide) rfl rfl (by decide) ht40 q712 dX1_see_83 ?_
    exact gt_iret (f := xW1 z T L P) (u := V37) O hQ (kOk.m hk9) rfl rfl w dX1_see_86
  · refine g_aload_n O dX1_see_27 rfl ?_
    refine g_iconst (v := 2) O dX1_see_28 (by decide) ?_
    refine g_ri1 (gr_V (lay := 1) (nA := 1) (As := [.int 2]) (rest := []) O hRm (kX1_refuses _ O.2.2.2.2.2.2.2.2 _ _ _ _ _ _ t hT (2) _ w) (lw_V q1543 q1545 qs41 q106 q1546) rfl rfl (by decide +kernel) ⟨Nat.le_of_ble_eq_true rfl, Nat.le_of_ble_eq_true rfl⟩ ck1 (by decide) rfl hT rfl rfl rfl (Nat.le_of_ble_eq_true rfl) dX1_see_29 (kOk.f0 hk9)) (fun r41 V42 w => ?_)
    have hk9 := kOk.s0 hk9
    exact gt_iret (f := xW1 z T L P) (u := V42) O hQ (kOk.m hk9) rfl rfl w dX1_see_32
-- X1_sent
abbrev rX1_sent : Room := { frames := 1250, cells := 16, slots := 64, locals := 37397 }
set_option maxHeartbeats 4000000 in
theorem vjX1_sent_125 {X : Cx} {z : Nat} {T L : Nat → Nat} {V : w_V} {P : w_P} (O : Okc X cX1_sent RX1 7 (some .int)) (hRm : cxR X = rX1_sent) (t : Nat) (hT : T t = 2) (x1 : Int32) (x2 : Int32) (x3 : Int32) (x4 : Int32) (x5 : Int32) (x6 : Int32) (post : Int32 → w_V → Prop) (xp : String → w_V → w_P → Prop) (hN : noTab X) {kc ks : Nat} (hk : kOk rX1_sent kc ks 0) (hQ : cxMX X (va_Qi post (fun u t => wdW (cxE X) (xW1 z T L P u) t.heap) (w_A (cxE X))) (xB z T L xp) rX1_sent.cells rX1_sent.slots) (kb : Int32 → Int32 → Int32 → w_V → Prop) (hkb : ∀ (y3 : Int32) (y4 : Int32) (y6 : Int32) (V2 : w_V), kb y3 y4 y6 V2 → gW X kc ks z T L V2 P 61 [some (.ref t), some (.int x1), some (.int x2), some (.int y3), some (.int y4), some (.int x5), some (.int y6)] []) (w : jX1_sent_125 (cxE X).2.2.2.2 T L V P t x1 x2 x3 x4 x5 x6 post xp kb) : gW X kc ks z T L V P 125 [some (.ref t), some (.int x1), some (.int x2), some (.int x3), some (.int x4), some (.int x5), some (.int x6)] [] := by
  unfold jX1_sent_125 at w
  refine g_iinc (v := (x6 + 1)) O dX1_sent_125 rfl rfl rfl (lv' := [some (.ref t), some (.int x1), some (.int x2), some (.int x3), some (.int x4), some (.int x5), some (.int (x6 + 1))]) rfl ?_
  refine g_goto (tgt := 61) O dX1_sent_128 (by decide) ?_
  exact hkb (x3) (x4) ((x6 + 1)) (V) w
set_option maxHeartbeats 4000000 in
theorem vlX1_sent_61 {X : Cx} {z : Nat} {T L : Nat → Nat} {P : w_P} (O : Okc X cX1_sent RX1 7 (some .int)) (hRm : cxR X = rX1_sent) (t : Nat) (hT : T t = 2) (x1 : Int32) (x2 : Int32) (x5 : Int32) (post : Int32 → w_V → Prop) (xp : String → w_V → w_P → Prop) (hN : noTab X) {kc ks : Nat} (hk : kOk rX1_sent kc ks 0) (hQ : cxMX X (va_Qi post (fun u t => wdW (cxE X) (xW1 z T L P u) t.heap) (w_A (cxE X))) (xB z T L xp) rX1_sent.cells rX1_sent.slots) (ke_131 : Int32 → Int32 → w_V → Prop) (hke_131 : ∀ (y3 : Int32) (y4 : Int32) (V2 : w_V), ke_131 y3 y4 V2 → gW X kc ks z T L V2 P 131 [some (.ref t), some (.int x1), some (.int x2), some (.int y3), some (.int y4), some (.int x5), none] [])  : ∀ (n : Nat) (x3 : Int32) (x4 : Int32) (x6 : Int32) (V : w_V), lX1_sent_61 (cxE X).2.2.2.2 T L P t x1 x2 x5 post xp ke_131 n x3 x4 x6 V → gW X kc ks z T L V P 61 [some (.ref t), some (.int x1), some (.int x2), some (.int x3), some (.int x4), some (.int x5), some (.int x6)] [] := by
  intro n
  induction n with
  | zero =>
    intro x3 x4 x6 V w
    exact w.elim
  | succ n ih =>
    intro x3 x4 x6 V w
    unfold lX1_sent_61 at w
    refine g_iload O dX1_sent_61 rfl ?_
    refine g_aload_n O dX1_sent_63 rfl ?_
    obtain ⟨b21, hp22, ht23, w⟩ := w
    refine gx_getR (lay := 1) (j := 0) O ck1 (by decide) rfl rfl hp22 (by decide) hT q810 dX1_sent_64 ?_
    refine gx_getIN (lay := 2) (j := 0) O ck2 (by decide) rfl rfl (by decide) ht23 q525 dX1_sent_67 ?_
    refine g_icmp_ge (tgt := 131) O w dX1_sent_70 (by decide) (fun w => ?_) (fun w => ?_)
    · refine g_drop [6] (lv' := [some (.ref t), some (.int x1), some (.int x2), some (.int x3), some (.int x4), some (.int x5), none]) rfl ?_
      exact hke_131 (x3) (x4) (V) w
    · refine g_aload_n O dX1_sent_73 rfl ?_
      obtain ⟨b24, hp25, ht26, w⟩ := w
      refine gx_getR (lay := 1) (j := 4) O ck1 (by decide) rfl rfl hp25 (by decide) hT q814 dX1_sent_74 ?_
      refine g_aload_n O dX1_sent_77 rfl ?_
      obtain ⟨b27, hp28, ht29, w⟩ := w
      refine gx_getR (lay := 1) (j := 3) O ck1 (by decide) rfl rfl hp28 (by decide) hT q813 dX1_sent_78 ?_
      refine g_rv1 (gr_V (lay := 5) (nA := 1) (As := [.ref b27]) (rest := []) O hRm (kX6_like _ O.2.2.2.2.2.2.2.2 _ _ _ _ _ _ b24 ht26 b27 ht29 _ w) (lw_V q861 q862 q863 q131 q864) rfl rfl (by decide +kernel) ⟨Nat.le_of_ble_eq_true rfl, Nat.le_of_ble_eq_true rfl⟩ ck5 (by decide) rfl ht26 rfl rfl rfl (Nat.le_of_ble_eq_true rfl) dX1_sent_81 (kOk.f0 hk)) (fun V31 w => ?_)
      have hk := kOk.s0 hk
      refine g_aload_n O dX1_sent_84 rfl ?_
      obtain ⟨b33, hp34, ht35, w⟩ := w
      refine gx_getR (lay := 1) (j := 4) O ck1 (by decide) rfl rfl hp34 (by decide) hT q814 dX1_sent_85 ?_
      refine g_iload_n O dX1_sent_88 rfl ?_
      refine g_iload O dX1_sent_89 rfl ?_
      refine g_iload O dX1_sent_91 rfl ?_
      refine g_rv1 (gr_V (lay := 5) (nA := 3) (As := [.int x1, .int x6, .int x5]) (rest := []) O hRm (kX6_sends _ O.2.2.2.2.2.2.2.2 _ _ _ _ _ _ b33 ht35 (x1) (x6) (x5) _ w) (lw_V q1574 q1575 q1576 q131 q1577) rfl rfl (by decide +kernel) ⟨Nat.le_of_ble_eq_true rfl, Nat.le_of_ble_eq_true rfl⟩ ck5 (by decide) rfl ht35 rfl rfl rfl (Nat.le_of_ble_eq_true rfl) dX1_sent_93 (kOk.f0 hk)) (fun V37 w => ?_)
      have hk := kOk.s0 hk
      refine g_aload_n O dX1_sent_96 rfl ?_
      refine g_ri1 (gr_V (lay := 1) (nA := 0) (As := []) (rest := []) O hRm (kX1_isSeen _ O.2.2.2.2.2.2.2.2 _ _ _ _ _ _ t hT _ w) (lw_V q1685 q1687 qs46 q106 q1688) rfl rfl (by decide +kernel) ⟨Nat.le_of_ble_eq_true rfl, Nat.le_of_ble_eq_true rfl⟩ ck1 (by decide) rfl hT rfl rfl rfl (Nat.le_of_ble_eq_true rfl) dX1_sent_97 (kOk.f0 hk)) (fun r39 V40 w => ?_)
      have hk := kOk.s0 hk
      refine g_if_ne (tgt := 106) O w dX1_sent_100 (by decide) (fun w => ?_) (fun w => ?_)
      · refine g_iinc (v := (x3 + 1)) O dX1_sent_106 rfl rfl rfl (lv' := [some (.ref t), some (.int x1), some (.int x2), some (.int (x3 + 1)), some (.int x4), some (.int x5), some (.int x6)]) rfl ?_
        refine g_iload O dX1_sent_109 rfl ?_
        refine g_iconst (v := (-1)) O dX1_sent_111 (by decide) ?_
        refine g_icmp_ne (tgt := 125) O w dX1_sent_112 (by decide) (fun w => ?_) (fun w => ?_)
        · exact vjX1_sent_125 O hRm (V := V40) (P := P) t hT (x1) (x2) ((x3 + 1)) (x4) (x5) (x6) post xp hN (kOk.le hk (Nat.le_of_ble_eq_true rfl)) hQ (lX1_sent_61 (cxE X).2.2.2.2 T L P t x1 x2 x5 post xp ke_131 n) ih w
        · refine g_bipush (v := 100) O dX1_sent_115 (by decide) ?_
          refine g_iload O dX1_sent_117 rfl ?_
          refine g_imul O dX1_sent_119 ?_
          refine g_iload O dX1_sent_120 rfl ?_
          refine g_iadd O dX1_sent_122 ?_
          refine g_istore O dX1_sent_123 (Nat.le_of_ble_eq_true rfl) rfl (lv' := [some (.ref t), some (.int x1), some (.int x2), some (.int (x3 + 1)), some (.int ((100 * x5) + x6)), some (.int x5), some (.int x6)]) rfl ?_
          exact vjX1_sent_125 O hRm (V := V40) (P := P) t hT (x1) (x2) ((x3 + 1)) (((100 * x5) + x6)) (x5) (x6) post xp hN (kOk.le hk (Nat.le_of_ble_eq_true rfl)) hQ (lX1_sent_61 (cxE X).2.2.2.2 T L P t x1 x2 x5 post xp ke_131 n) ih w
      · refine g_goto (tgt := 125) O dX1_sent_103 (by decide) ?_
        exact vjX1_sent_125 O hRm (V := V40) (P := P) t hT (x1) (x2) (x3) (x4) (x5) (x6) post xp hN (kOk.le hk (Nat.le_of_ble_eq_true rfl)) hQ (lX1_sent_61 (cxE X).2.2.2.2 T L P t x1 x2 x5 post xp ke_131 n) ih w
set_option maxHeartbeats 4000000 in
theorem vlX1_sent_51 {X : Cx} {z : Nat} {T L : Nat → Nat} {P : w_P} (O : Okc X cX1_sent RX1 7 (some .int)) (hRm : cxR X = rX1_sent) (t : Nat) (hT : T t = 2) (x1 : Int32) (x2 : Int32) (post : Int32 → w_V → Prop) (xp : String → w_V → w_P → Prop) (hN : noTab X) {kc ks : Nat} (hk : kOk rX1_sent kc ks 0) (hQ : cxMX X (va_Qi post (fun u t => wdW (cxE X) (xW1 z T L P u) t.heap) (w_A (cxE X))) (xB z T L xp) rX1_sent.cells rX1_sent.slots) (ke_137 : Int32 → Int32 → w_V → Prop) (hke_137 : ∀ (y3 : Int32) (y4 : Int32) (V2 : w_V), ke_137 y3 y4 V2 → gW X kc ks z T L V2 P 137 [some (.ref t), none, some (.int x2), some (.int y3), some (.int y4), none, none] [])  : ∀ (n : Nat) (x3 : Int32) (x4 : Int32) (x5 : Int32) (V : w_V), lX1_sent_51 (cxE X).2.2.2.2 T L P t x1 x2 post xp ke_137 n x3 x4 x5 V → gW X kc ks z T L V P 51 [some (.ref t), some (.int x1), some (.int x2), some (.int x3), some (.int x4), some (.int x5), none] [] := by
  intro n
  induction n with
  | zero =>
    intro x3 x4 x5 V w
    exact w.elim
  | succ n ih =>
    intro x3 x4 x5 V w
    unfold lX1_sent_51 at w
    refine g_iload O dX1_sent_51 rfl ?_
    refine g_bipush (v := 60) O dX1_sent_53 (by decide) ?_
    refine g_icmp_gt (tgt := 137) O w dX1_sent_55 (by decide) (fun w => ?_) (fun w => ?_)
    · refine g_drop [1, 5] (lv' := [some (.ref t), none, some (.int x2), some (.int x3), some (.int x4), none, none]) rfl ?_
      exact hke_137 (x3) (x4) (V) w
    · refine g_iconst (v := 0) O dX1_sent_58 (by decide) ?_
      refine g_istore O dX1_sent_59 (Nat.le_of_ble_eq_true rfl) rfl (lv' := [some (.ref t), some (.int x1), some (.int x2), some (.int x3), some (.int x4), some (.int x5), some (.int 0)]) rfl ?_
      obtain ⟨n45, w⟩ := w
      refine vlX1_sent_61 O hRm (P := P) t hT (x1) (x2) (x5) post xp hN (kOk.le hk (Nat.le_of_ble_eq_true rfl)) hQ _ (fun y42 y43 V44 w => ?_) n45 (x3) (x4) (0) (V) w
      refine g_iinc (v := (x5 + 1)) O dX1_sent_131 rfl rfl rfl (lv' := [some (.ref t), some (.int x1), some (.int x2), some (.int y42), some (.int y43), some (.int (x5 + 1)), none]) rfl ?_
      refine g_goto (tgt := 51) O dX1_sent_134 (by decide) ?_
      exact ih (y42) (y43) ((x5 + 1)) (V44) w
set_option maxHeartbeats 4000000 in
theorem kX1_sent (l : Launch) (hfl : l.flags = flags0) (E : w_E) (z : Nat) (T L : Nat → Nat) (V : w_V) (P : w_P) (t : Nat) (hT : T t = 2) (x1 : Int32) (x2 : Int32) (post : Int32 → w_V → Prop) (xp : String → w_V → w_P → Prop) (w : wX1_sent E.2.2.2.2 T L V P t x1 x2 post xp) : vx_Met l yX1_sent (ws_ yX1_sent cX1_sent 7 (some .int)) rX1_sent (va_Pc [.ref t, .int x1, .int x2] (fun U => kenv E U ∧ wdW E (z, T, L, V, P) U.heap)) (va_Qi post (fun u t => wdW E ((xW1 z T L P) u) t.heap) (w_A E)) (xcX E (xB z T L xp)) 16 64 (w_A E) := by
  refine g_startX (w := (z, T, L, V, P)) hfl (by decide +kernel) rfl [some (.ref t), some (.int x1), some (.int x2), none, none, none, none] rfl (fun _ h => h) (Nat.le_of_ble_eq_true rfl) (fun X hl hRm hEe O hN hQ => ?_)
  subst hl
  subst hEe
  have hk : kOk rX1_sent 0 0 2 := ⟨Nat.le_refl _, Nat.le_refl _⟩
  unfold wX1_sent at w
  refine g_aload_n O dX1_sent_0 rfl ?_
  refine g_iload_n O dX1_sent_1 rfl ?_
  refine g_xv0 O hN hQ (kOk.f hk (c := 1) (Nat.le_of_ble_eq_true rfl)) (grx_V (lay := 1) (nA := 1) (As := [.int x1]) (rest := []) O hRm (kX1_caseAt _ O.2.2.2.2.2.2.2.2 _ _ _ _ _ _ t hT (x1) _ xp w) (lw_V q1502 q1504 qs40 q106 q1505) rfl rfl (by decide +kernel) ⟨Nat.le_of_ble_eq_true rfl, Nat.le_of_ble_eq_true rfl⟩ ck1 (by decide) rfl hT rfl rfl rfl (Nat.le_of_ble_eq_true rfl) dX1_sent_2 (kOk.f hk (c := 1) (Nat.le_of_ble_eq_true rfl))) (fun w => ?_)
  have hk4 := kOk.sub 1 hk (Nat.le_of_ble_eq_true rfl)
  refine g_iload_n O dX1_sent_5 rfl ?_
  refine g_iconst (v := 0) O dX1_sent_6 (by decide) ?_
  refine g_iconst (v := 2) O dX1_sent_7 (by decide) ?_
  refine g_ri0 (gr_S (nA := 3) (As := [.int x2, .int 0, .int 2]) (rest := []) O hRm (kX1_within _ O.2.2.2.2.2.2.2.2 _ _ _ _ _ _ (x2) (0) (2) _ w) (lw_S q1259 q1260 q106 q1261) rfl rfl (by decide +kernel) ⟨Nat.le_of_ble_eq_true rfl, Nat.le_of_ble_eq_true rfl⟩ rfl rfl rfl (Nat.le_of_ble_eq_true rfl) dX1_sent_8 (kOk.f0 hk4)) (fun r5 w => ?_)
  have hk4 := kOk.s0 hk4
  refine g_xv0 O hN hQ (kOk.f hk4 (c := 1) (Nat.le_of_ble_eq_true rfl)) (grx_S (nA := 1) (As := [.int r5]) (rest := []) O hRm (kX1_there _ O.2.2.2.2.2.2.2.2 _ _ _ _ _ _ (r5) _ xp w) (lw_S q1262 q1263 q106 q1264) rfl rfl (by decide +kernel) ⟨Nat.le_of_ble_eq_true rfl, Nat.le_of_ble_eq_true rfl⟩ rfl rfl rfl (Nat.le_of_ble_eq_true rfl) dX1_sent_11 (kOk.f hk4 (c := 1) (Nat.le_of_ble_eq_true rfl))) (fun w => ?_)
  have hk11 := kOk.sub 1 hk4 (Nat.le_of_ble_eq_true rfl)
  refine g_aload_n O dX1_sent_14 rfl ?_
  obtain ⟨b12, hp13, ht14, w⟩ := w
  refine gx_getR (lay := 1) (j := 4) O ck1 (by decide) rfl rfl hp13 (by decide) hT q814 dX1_sent_15 ?_
  refine g_aload_n O dX1_sent_18 rfl ?_
  obtain ⟨b15, hp16, ht17, w⟩ := w
  refine gx_getR (lay := 1) (j := 3) O ck1 (by decide) rfl rfl hp16 (by decide) hT q813 dX1_sent_19 ?_
  refine g_rv1 (gr_V (lay := 5) (nA := 1) (As := [.ref b15]) (rest := []) O hRm (kX6_like _ O.2.2.2.2.2.2.2.2 _ _ _ _ _ _ b12 ht14 b15 ht17 _ w) (lw_V q861 q862 q863 q131 q864) rfl rfl (by decide +kernel) ⟨Nat.le_of_ble_eq_true rfl, Nat.le_of_ble_eq_true rfl⟩ ck5 (by decide) rfl ht14 rfl rfl rfl (Nat.le_of_ble_eq_true rfl) dX1_sent_22 (kOk.f0 hk11)) (fun V19 w => ?_)
  have hk11 := kOk.s0 hk11
  refine g_iload_n O dX1_sent_25 rfl ?_
  refine g_iconst (v := 2) O dX1_sent_26 (by decide) ?_
  refine g_icmp_ne (tgt := 43) O w dX1_sent_27 (by decide) (fun w => ?_) (fun w => ?_)
  · refine g_iconst (v := 0) O dX1_sent_43 (by decide) ?_
    refine g_istore_n O dX1_sent_44 (Nat.le_of_ble_eq_true rfl) rfl (lv' := [some (.ref t), some (.int x1), some (.int x2), some (.int 0), none, none, none]) rfl ?_
    refine g_iconst (v := (-1)) O dX1_sent_45 (by decide) ?_
    refine g_istore O dX1_sent_46 (Nat.le_of_ble_eq_true rfl) rfl (lv' := [some (.ref t), some (.int x1), some (.int x2), some (.int 0), some (.int (-1)), none, none]) rfl ?_
    refine g_iconst (v := 0) O dX1_sent_48 (by decide) ?_
    refine g_istore O dX1_sent_49 (Nat.le_of_ble_eq_true rfl) rfl (lv' := [some (.ref t), some (.int x1), some (.int x2), some (.int 0), some (.int (-1)), some (.int 0), none]) rfl ?_
    obtain ⟨n49, w⟩ := w
    refine vlX1_sent_51 O hRm (P := P) t hT (x1) (x2) post xp hN (kOk.le hk11 (Nat.le_of_ble_eq_true rfl)) hQ _ (fun y46 y47 V48 w => ?_) n49 (0) ((-1)) (0) (V19) w
    refine g_iload_n O dX1_sent_137 rfl ?_
    refine g_if_ne (tgt := 145) O w dX1_sent_138 (by decide) (fun w => ?_) (fun w => ?_)
    · refine g_iload O dX1_sent_145 rfl ?_
      exact gt_iret (f := xW1 z T L P) (u := V48) O hQ (kOk.m hk11) rfl rfl w dX1_sent_147
    · refine g_iload_n O dX1_sent_141 rfl ?_
      refine g_goto (tgt := 147) O dX1_sent_142 (by decide) ?_
      exact gt_iret (f := xW1 z T L P) (u := V48) O hQ (kOk.m hk11) rfl rfl w dX1_sent_147
  · refine g_aload_n O dX1_sent_30 rfl ?_
    refine g_ri1 (gr_V (lay := 1) (nA := 0) (As := []) (rest := []) O hRm (kX1_isSeen _ O.2.2.2.2.2.2.2.2 _ _ _ _ _ _ t hT _ w) (lw_V q1685 q1687 qs46 q106 q1688) rfl rfl (by decide +kernel) ⟨Nat.le_of_ble_eq_true rfl, Nat.le_of_ble_eq_true rfl⟩ ck1 (by decide) rfl hT rfl rfl rfl (Nat.le_of_ble_eq_true rfl) dX1_sent_31 (kOk.f0 hk11)) (fun r50 V51 w => ?_)
    have hk11 := kOk.s0 hk11
    refine g_if_eq (tgt := 41) O w dX1_sent_34 (by decide) (fun w => ?_) (fun w => ?_)
    · refine g_iconst (v := 0) O dX1_sent_41 (by decide) ?_
      exact gt_iret (f := xW1 z T L P) (u := V51) O hQ (kOk.m hk11) rfl rfl w dX1_sent_42
    · refine g_iconst (v := 1) O dX1_sent_37 (by decide) ?_
      refine g_goto (tgt := 42) O dX1_sent_38 (by decide) ?_
      exact gt_iret (f := xW1 z T L P) (u := V51) O hQ (kOk.m hk11) rfl rfl w dX1_sent_42
-- X1_season
abbrev rX1_season : Room := { frames := 1249, cells := 16, slots := 64, locals := 37376 }
set_option maxHeartbeats 4000000 in
theorem vlX1_season_56 {X : Cx} {z : Nat} {T L : Nat → Nat} {P : w_P} (O : Okc X cX1_season RX1 11 (some .int)) (hRm : cxR X = rX1_season) (t : Nat) (hT : T t = 2) (x2 : Int32) (x3 : Int32) (x4 : Int32) (x5 : Int32) (x6 : Int32) (x7 : Int32) (post : Int32 → w_V → Prop) (xp : String → w_V → w_P → Prop) (hN : noTab X) {kc ks : Nat} (hk : kOk rX1_season kc ks 0) (hQ : cxMX X (va_Qi post (fun u t => wdW (cxE X) (xW1 z T L P u) t.heap) (w_A (cxE X))) (xB z T L xp) rX1_season.cells rX1_season.slots) (ke_116 : w_V → Prop) (hke_116 : ∀ (V2 : w_V), ke_116 V2 → gW X kc ks z T L V2 P 116 [some (.ref t), none, some (.int x2), some (.int x3), some (.int x4), some (.int x5), some (.int x6), some (.int x7), none, none, none] [])  : ∀ (n : Nat) (x8 : Int32) (V : w_V), lX1_season_56 (cxE X).2.2.2.2 T L P t x2 x3 x4 x5 x6 x7 post xp ke_116 n x8 V → gW X kc ks z T L V P 56 [some (.ref t), none, some (.int x2), some (.int x3), some (.int x4), some (.int x5), some (.int x6), some (.int x7), some (.int x8), none, none] [] := by
  intro n
  induction n with
  | zero =>
    intro x8 V w
    exact w.elim
  | succ n ih =>
    intro x8 V w
    unfold lX1_season_56 at w
    refine g_iload O dX1_season_56 rfl ?_
    refine g_iconst (v := 2) O dX1_season_58 (by decide) ?_
    refine g_icmp_ge (tgt := 116) O w dX1_season_59 (by decide) (fun w => ?_) (fun w => ?_)
    · refine g_drop [8] (lv' := [some (.ref t), none, some (.int x2), some (.int x3), some (.int x4), some (.int x5), some (.int x6), some (.int x7), none, none, none]) rfl ?_
      exact hke_116 (V) w
    · refine g_aload_n O dX1_season_62 rfl ?_
      obtain ⟨b25, hp26, ht27, w⟩ := w
      refine gx_getR (lay := 1) (j := 0) O ck1 (by decide) rfl rfl hp26 (by decide) hT q810 dX1_season_63 ?_
      refine gx_getIN (lay := 2) (j := 0) O ck2 (by decide) rfl rfl (by decide) ht27 q525 dX1_season_66 ?_
      refine g_if_le (tgt := 116) O w dX1_season_69 (by decide) (fun w => ?_) (fun w => ?_)
      · refine g_drop [8] (lv' := [some (.ref t), none, some (.int x2), some (.int x3), some (.int x4), some (.int x5), some (.int x6), some (.int x7), none, none, none]) rfl ?_
        exact hke_116 (V) w
      · refine g_aload_n O dX1_season_72 rfl ?_
        refine g_aload_n O dX1_season_73 rfl ?_
        obtain ⟨b28, hp29, ht30, w⟩ := w
        refine gx_getR (lay := 1) (j := 0) O ck1 (by decide) rfl rfl hp29 (by decide) hT q810 dX1_season_74 ?_
        refine gx_getIN (lay := 2) (j := 0) O ck2 (by decide) rfl rfl (by decide) ht30 q525 dX1_season_77 ?_
        refine g_ri1 (gr_V (lay := 1) (nA := 1) (As := [.int (V b28 0 0)]) (rest := []) O hRm (kX1_draw _ O.2.2.2.2.2.2.2.2 _ _ _ _ _ _ t hT ((V b28 0 0)) _ w) (lw_V q1707 q1709 qs48 q106 q1710) rfl rfl (by decide +kernel) ⟨Nat.le_of_ble_eq_true rfl, Nat.le_of_ble_eq_true rfl⟩ ck1 (by decide) rfl hT rfl rfl rfl (Nat.le_of_ble_eq_true rfl) dX1_season_80 (kOk.f0 hk)) (fun r31 V32 w => ?_)
        have hk := kOk.s0 hk
        refine g_istore O dX1_season_83 (Nat.le_of_ble_eq_true rfl) rfl (lv' := [some (.ref t), none, some (.int x2), some (.int x3), some (.int x4), some (.int x5), some (.int x6), some (.int x7), some (.int x8), some (.int r31), none]) rfl ?_
        refine g_aload_n O dX1_season_85 rfl ?_
        refine g_bipush (v := 30) O dX1_season_86 (by decide) ?_
        refine g_ri1 (gr_V (lay := 1) (nA := 1) (As := [.int 30]) (rest := []) O hRm (kX1_draw _ O.2.2.2.2.2.2.2.2 _ _ _ _ _ _ t hT (30) _ w) (lw_V q1707 q1709 qs48 q106 q1710) rfl rfl (by decide +kernel) ⟨Nat.le_of_ble_eq_true rfl, Nat.le_of_ble_eq_true rfl⟩ ck1 (by decide) rfl hT rfl rfl rfl (Nat.le_of_ble_eq_true rfl) dX1_season_88 (kOk.f0 hk)) (fun r34 V35 w => ?_)
        have hk := kOk.s0 hk
        refine g_istore O dX1_season_91 (Nat.le_of_ble_eq_true rfl) rfl (lv' := [some (.ref t), none, some (.int x2), some (.int x3), some (.int x4), some (.int x5), some (.int x6), some (.int x7), some (.int x8), some (.int r31), some (.int r34)]) rfl ?_
        refine g_aload_n O dX1_season_93 rfl ?_
        obtain ⟨b37, hp38, ht39, w⟩ := w
        refine gx_getR (lay := 1) (j := 4) O ck1 (by decide) rfl rfl hp38 (by decide) hT q814 dX1_season_94 ?_
        refine g_iload O dX1_season_97 rfl ?_
        refine g_iload O dX1_season_99 rfl ?_
        refine g_aload_n O dX1_season_101 rfl ?_
        refine g_bipush (v := 6) O dX1_season_102 (by decide) ?_
        refine g_ri1 (gr_V (lay := 1) (nA := 1) (As := [.int 6]) (rest := [.int r34, .int r31, .ref b37]) O hRm (kX1_draw _ O.2.2.2.2.2.2.2.2 _ _ _ _ _ _ t hT (6) _ w) (lw_V q1707 q1709 qs48 q106 q1710) rfl rfl (by decide +kernel) ⟨Nat.le_of_ble_eq_true rfl, Nat.le_of_ble_eq_true rfl⟩ ck1 (by decide) rfl hT rfl rfl rfl (Nat.le_of_ble_eq_true rfl) dX1_season_104 (kOk.f0 hk)) (fun r40 V41 w => ?_)
        have hk := kOk.s0 hk
        refine g_rv1 (gr_V (lay := 5) (nA := 3) (As := [.int r31, .int r34, .int r40]) (rest := []) O hRm (kX6_floods _ O.2.2.2.2.2.2.2.2 _ _ _ _ _ _ b37 ht39 (r31) (r34) (r40) _ w) (lw_V q1599 q1600 q1601 q131 q1602) rfl rfl (by decide +kernel) ⟨Nat.le_of_ble_eq_true rfl, Nat.le_of_ble_eq_true rfl⟩ ck5 (by decide) rfl ht39 rfl rfl rfl (Nat.le_of_ble_eq_true rfl) dX1_season_107 (kOk.f0 hk)) (fun V44 w => ?_)
        have hk := kOk.s0 hk
        refine g_iinc (v := (x8 + 1)) O dX1_season_110 rfl rfl rfl (lv' := [some (.ref t), none, some (.int x2), some (.int x3), some (.int x4), some (.int x5), some (.int x6), some (.int x7), some (.int (x8 + 1)), some (.int r31), some (.int r34)]) rfl ?_
        refine g_goto (tgt := 56) O dX1_season_113 (by decide) ?_
        refine g_drop [9, 10] (lv' := [some (.ref t), none, some (.int x2), some (.int x3), some (.int x4), some (.int x5), some (.int x6), some (.int x7), some (.int (x8 + 1)), none, none]) rfl ?_
        exact ih ((x8 + 1)) (V44) w
set_option maxHeartbeats 4000000 in
theorem vjX1_season_163 {X : Cx} {z : Nat} {T L : Nat → Nat} {V : w_V} {P : w_P} (O : Okc X cX1_season RX1 11 (some .int)) (hRm : cxR X = rX1_season) (t : Nat) (hT : T t = 2) (x2 : Int32) (x3 : Int32) (x4 : Int32) (x5 : Int32) (x6 : Int32) (x7 : Int32) (post : Int32 → w_V → Prop) (xp : String → w_V → w_P → Prop) (hN : noTab X) {kc ks : Nat} (hk : kOk rX1_season kc ks 0) (hQ : cxMX X (va_Qi post (fun u t => wdW (cxE X) (xW1 z T L P u) t.heap) (w_A (cxE X))) (xB z T L xp) rX1_season.cells rX1_season.slots) (kb : Int32 → Int32 → Int32 → Int32 → w_V → Prop) (hkb : ∀ (y4 : Int32) (y5 : Int32) (y6 : Int32) (y7 : Int32) (V2 : w_V), kb y4 y5 y6 y7 V2 → gW X kc ks z T L V2 P 36 [some (.ref t), none, some (.int x2), some (.int x3), some (.int y4), some (.int y5), some (.int y6), some (.int y7), none, none, none] []) (w : jX1_season_163 (cxE X).2.2.2.2 T L V P t x2 x3 x4 x5 x6 x7 post xp kb) : gW X kc ks z T L V P 163 [some (.ref t), none, some (.int x2), some (.int x3), some (.int x4), some (.int x5), some (.int x6), some (.int x7), none, none, none] [] := by
  unfold jX1_season_163 at w
  refine g_iinc (v := (x7 + 1)) O dX1_season_163 rfl rfl rfl (lv' := [some (.ref t), none, some (.int x2), some (.int x3), some (.int x4), some (.int x5), some (.int x6), some (.int (x7 + 1)), none, none, none]) rfl ?_
  refine g_goto (tgt := 36) O dX1_season_166 (by decide) ?_
  exact hkb (x4) (x5) (x6) ((x7 + 1)) (V) w
set_option maxHeartbeats 4000000 in
theorem vjX1_season_149 {X : Cx} {z : Nat} {T L : Nat → Nat} {V : w_V} {P : w_P} (O : Okc X cX1_season RX1 11 (some .int)) (hRm : cxR X = rX1_season) (t : Nat) (hT : T t = 2) (x2 : Int32) (x3 : Int32) (x4 : Int32) (x6 : Int32) (x7 : Int32) (x8 : Int32) (t0 : Int32) (post : Int32 → w_V → Prop) (xp : String → w_V → w_P → Prop) (hN : noTab X) {kc ks : Nat} (hk : kOk rX1_season kc ks 0) (hQ : cxMX X (va_Qi post (fun u t => wdW (cxE X) (xW1 z T L P u) t.heap) (w_A (cxE X))) (xB z T L xp) rX1_season.cells rX1_season.slots) (kb : Int32 → Int32 → Int32 → Int32 → w_V → Prop) (hkb : ∀ (y4 : Int32) (y5 : Int32) (y6 : Int32) (y7 : Int32) (V2 : w_V), kb y4 y5 y6 y7 V2 → gW X kc ks z T L V2 P 36 [some (.ref t), none, some (.int x2), some (.int x3), some (.int y4), some (.int y5), some (.int y6), some (.int y7), none, none, none] []) (w : jX1_season_149 (cxE X).2.2.2.2 T L V P t x2 x3 x4 x6 x7 x8 t0 post xp kb) : gW X kc ks z T L V P 149 [some (.ref t), none, some (.int x2), some (.int x3), some (.int x4), none, some (.int x6), some (.int x7), some (.int x8), none, none] [.int t0] := by
  unfold jX1_season_149 at w
  refine g_istore O dX1_season_149 (Nat.le_of_ble_eq_true rfl) rfl (lv' := [some (.ref t), none, some (.int x2), some (.int x3), some (.int x4), some (.int t0), some (.int x6), some (.int x7), some (.int x8), none, none]) rfl ?_
  refine g_iload O dX1_season_151 rfl ?_
  refine g_aload_n O dX1_season_153 rfl ?_
  refine g_ri0 (gr_V (lay := 1) (nA := 0) (As := []) (rest := [.int x8]) O hRm (kX1_cases _ O.2.2.2.2.2.2.2.2 _ _ _ _ _ _ t hT _ w) (lw_V q1281 q1283 qs22 q106 q1284) rfl rfl (by decide +kernel) ⟨Nat.le_of_ble_eq_true rfl, Nat.le_of_ble_eq_true rfl⟩ ck1 (by decide) rfl hT rfl rfl rfl (Nat.le_of_ble_eq_true rfl) dX1_season_154 (kOk.f0 hk)) (fun r53 w => ?_)
  have hk := kOk.s0 hk
  refine g_icmp_ne (tgt := 163) O w dX1_season_157 (by decide) (fun w => ?_) (fun w => ?_)
  · refine g_drop [8] (lv' := [some (.ref t), none, some (.int x2), some (.int x3), some (.int x4), some (.int t0), some (.int x6), some (.int x7), none, none, none]) rfl ?_
    exact vjX1_season_163 O hRm (V := V) (P := P) t hT (x2) (x3) (x4) (t0) (x6) (x7) post xp hN (kOk.le hk (Nat.le_of_ble_eq_true rfl)) hQ kb hkb w
  · refine g_iinc (v := (x6 + 1)) O dX1_season_160 rfl rfl rfl (lv' := [some (.ref t), none, some (.int x2), some (.int x3), some (.int x4), some (.int t0), some (.int (x6 + 1)), some (.int x7), some (.int x8), none, none]) rfl ?_
    refine g_drop [8] (lv' := [some (.ref t), none, some (.int x2), some (.int x3), some (.int x4), some (.int t0), some (.int (x6 + 1)), some (.int x7), none, none, none]) rfl ?_
    exact vjX1_season_163 O hRm (V := V) (P := P) t hT (x2) (x3) (x4) (t0) ((x6 + 1)) (x7) post xp hN (kOk.le hk (Nat.le_of_ble_eq_true rfl)) hQ kb hkb w
set_option maxHeartbeats 4000000 in
theorem vjX1_season_116 {X : Cx} {z : Nat} {T L : Nat → Nat} {V : w_V} {P : w_P} (O : Okc X cX1_season RX1 11 (some .int)) (hRm : cxR X = rX1_season) (t : Nat) (hT : T t = 2) (x2 : Int32) (x3 : Int32) (x4 : Int32) (x5 : Int32) (x6 : Int32) (x7 : Int32) (post : Int32 → w_V → Prop) (xp : String → w_V → w_P → Prop) (hN : noTab X) {kc ks : Nat} (hk : kOk rX1_season kc ks 0) (hQ : cxMX X (va_Qi post (fun u t => wdW (cxE X) (xW1 z T L P u) t.heap) (w_A (cxE X))) (xB z T L xp) rX1_season.cells rX1_season.slots) (kb : Int32 → Int32 → Int32 → Int32 → w_V → Prop) (hkb : ∀ (y4 : Int32) (y5 : Int32) (y6 : Int32) (y7 : Int32) (V2 : w_V), kb y4 y5 y6 y7 V2 → gW X kc ks z T L V2 P 36 [some (.ref t), none, some (.int x2), some (.int x3), some (.int y4), some (.int y5), some (.int y6), some (.int y7), none, none, none] []) (w : jX1_season_116 (cxE X).2.2.2.2 T L V P t x2 x3 x4 x5 x6 x7 post xp kb) : gW X kc ks z T L V P 116 [some (.ref t), none, some (.int x2), some (.int x3), some (.int x4), some (.int x5), some (.int x6), some (.int x7), none, none, none] [] := by
  unfold jX1_season_116 at w
  refine g_aload_n O dX1_season_116 rfl ?_
  obtain ⟨b47, hp48, ht49, w⟩ := w
  refine gx_getR (lay := 1) (j := 5) O ck1 (by decide) rfl rfl hp48 (by decide) hT q815 dX1_season_117 ?_
  refine g_ri1 (gr_V (lay := 6) (nA := 0) (As := []) (rest := []) O hRm (kX7_all _ O.2.2.2.2.2.2.2.2 _ _ _ _ _ _ b47 ht49 _ w) (lw_V q1289 q1290 q1291 q132 q1292) rfl rfl (by decide +kernel) ⟨Nat.le_of_ble_eq_true rfl, Nat.le_of_ble_eq_true rfl⟩ ck6 (by decide) rfl ht49 rfl rfl rfl (Nat.le_of_ble_eq_true rfl) dX1_season_120 (kOk.f0 hk)) (fun r50 V51 w => ?_)
  have hk := kOk.s0 hk
  refine g_istore O dX1_season_123 (Nat.le_of_ble_eq_true rfl) rfl (lv' := [some (.ref t), none, some (.int x2), some (.int x3), some (.int x4), some (.int x5), some (.int x6), some (.int x7), some (.int r50), none, none]) rfl ?_
  refine g_iload O dX1_season_125 rfl ?_
  refine g_iload O dX1_season_127 rfl ?_
  refine g_iadd O dX1_season_129 ?_
  refine g_istore O dX1_season_130 (Nat.le_of_ble_eq_true rfl) rfl (lv' := [some (.ref t), none, some (.int x2), some (.int x3), some (.int (x4 + r50)), some (.int x5), some (.int x6), some (.int x7), some (.int r50), none, none]) rfl ?_
  refine g_iload O dX1_season_132 rfl ?_
  refine g_if_ne (tgt := 142) O w dX1_season_134 (by decide) (fun w => ?_) (fun w => ?_)
  · refine g_iload O dX1_season_142 rfl ?_
    refine g_iload O dX1_season_144 rfl ?_
    refine g_mmin O q1535 hRm (Nat.le_of_ble_eq_true rfl) (Nat.le_of_ble_eq_true rfl) (kOk.m hk) rfl dX1_season_146 ?_
    refine g_drop [5] (lv' := [some (.ref t), none, some (.int x2), some (.int x3), some (.int (x4 + r50)), none, some (.int x6), some (.int x7), some (.int r50), none, none]) rfl ?_
    exact vjX1_season_149 O hRm (V := V51) (P := P) t hT (x2) (x3) ((x4 + r50)) (x6) (x7) (r50) ((if r50 < x5 then r50 else x5)) post xp hN (kOk.le hk (Nat.le_of_ble_eq_true rfl)) hQ kb hkb w
  · refine g_iload O dX1_season_137 rfl ?_
    refine g_goto (tgt := 149) O dX1_season_139 (by decide) ?_
    refine g_drop [5] (lv' := [some (.ref t), none, some (.int x2), some (.int x3), some (.int (x4 + r50)), none, some (.int x6), some (.int x7), some (.int r50), none, none]) rfl ?_
    exact vjX1_season_149 O hRm (V := V51) (P := P) t hT (x2) (x3) ((x4 + r50)) (x6) (x7) (r50) (r50) post xp hN (kOk.le hk (Nat.le_of_ble_eq_true rfl)) hQ kb hkb w
set_option maxHeartbeats 4000000 in
theorem vlX1_season_36 {X : Cx} {z : Nat} {T L : Nat → Nat} {P : w_P} (O : Okc X cX1_season RX1 11 (some .int)) (hRm : cxR X = rX1_season) (t : Nat) (hT : T t = 2) (x2 : Int32) (x3 : Int32) (post : Int32 → w_V → Prop) (xp : String → w_V → w_P → Prop) (hN : noTab X) {kc ks : Nat} (hk : kOk rX1_season kc ks 0) (hQ : cxMX X (va_Qi post (fun u t => wdW (cxE X) (xW1 z T L P u) t.heap) (w_A (cxE X))) (xB z T L xp) rX1_season.cells rX1_season.slots) (ke_169 : Int32 → Int32 → Int32 → w_V → Prop) (hke_169 : ∀ (y4 : Int32) (y5 : Int32) (y6 : Int32) (V2 : w_V), ke_169 y4 y5 y6 V2 → gW X kc ks z T L V2 P 169 [some (.ref t), none, none, some (.int x3), some (.int y4), some (.int y5), some (.int y6), none, none, none, none] [])  : ∀ (n : Nat) (x4 : Int32) (x5 : Int32) (x6 : Int32) (x7 : Int32) (V : w_V), lX1_season_36 (cxE X).2.2.2.2 T L P t x2 x3 post xp ke_169 n x4 x5 x6 x7 V → gW X kc ks z T L V P 36 [some (.ref t), none, some (.int x2), some (.int x3), some (.int x4), some (.int x5), some (.int x6), some (.int x7), none, none, none] [] := by
  intro n
  induction n with
  | zero =>
    intro x4 x5 x6 x7 V w
    exact w.elim
  | succ n ih =>
    intro x4 x5 x6 x7 V w
    unfold lX1_season_36 at w
    refine g_iload O dX1_season_36 rfl ?_
    refine g_iload_n O dX1_season_38 rfl ?_
    refine g_icmp_ge (tgt := 169) O w dX1_season_39 (by decide) (fun w => ?_) (fun w => ?_)
    · refine g_drop [2, 7] (lv' := [some (.ref t), none, none, some (.int x3), some (.int x4), some (.int x5), some (.int x6), none, none, none, none]) rfl ?_
      exact hke_169 (x4) (x5) (x6) (V) w
    · refine g_aload_n O dX1_season_42 rfl ?_
      obtain ⟨b16, hp17, ht18, w⟩ := w
      refine gx_getR (lay := 1) (j := 4) O ck1 (by decide) rfl rfl hp17 (by decide) hT q814 dX1_season_43 ?_
      refine g_aload_n O dX1_season_46 rfl ?_
      obtain ⟨b19, hp20, ht21, w⟩ := w
      refine gx_getR (lay := 1) (j := 3) O ck1 (by decide) rfl rfl hp20 (by decide) hT q813 dX1_season_47 ?_
      refine g_rv1 (gr_V (lay := 5) (nA := 1) (As := [.ref b19]) (rest := []) O hRm (kX6_like _ O.2.2.2.2.2.2.2.2 _ _ _ _ _ _ b16 ht18 b19 ht21 _ w) (lw_V q861 q862 q863 q131 q864) rfl rfl (by decide +kernel) ⟨Nat.le_of_ble_eq_true rfl, Nat.le_of_ble_eq_true rfl⟩ ck5 (by decide) rfl ht18 rfl rfl rfl (Nat.le_of_ble_eq_true rfl) dX1_season_50 (kOk.f0 hk)) (fun V23 w => ?_)
      have hk := kOk.s0 hk
      refine g_iconst (v := 0) O dX1_season_53 (by decide) ?_
      refine g_istore O dX1_season_54 (Nat.le_of_ble_eq_true rfl) rfl (lv' := [some (.ref t), none, some (.int x2), some (.int x3), some (.int x4), some (.int x5), some (.int x6), some (.int x7), some (.int 0), none, none]) rfl ?_
      obtain ⟨n56, w⟩ := w
      refine vlX1_season_56 O hRm (P := P) t hT (x2) (x3) (x4) (x5) (x6) (x7) post xp hN (kOk.le hk (Nat.le_of_ble_eq_true rfl)) hQ _ (fun V46 w => ?_) n56 (0) (V23) w
      exact vjX1_season_116 O hRm (V := V46) (P := P) t hT (x2) (x3) (x4) (x5) (x6) (x7) post xp hN (kOk.le hk (Nat.le_of_ble_eq_true rfl)) hQ (lX1_season_36 (cxE X).2.2.2.2 T L P t x2 x3 post xp ke_169 n) ih w
set_option maxHeartbeats 4000000 in
theorem kX1_season (l : Launch) (hfl : l.flags = flags0) (E : w_E) (z : Nat) (T L : Nat → Nat) (V : w_V) (P : w_P) (t : Nat) (hT : T t = 2) (x1 : Int32) (x2 : Int32) (x3 : Int32) (post : Int32 → w_V → Prop) (xp : String → w_V → w_P → Prop) (w : wX1_season E.2.2.2.2 T L V P t x1 x2 x3 post xp) : vx_Met l yX1_season (ws_ yX1_season cX1_season 11 (some .int)) rX1_season (va_Pc [.ref t, .int x1, .int x2, .int x3] (fun U => kenv E U ∧ wdW E (z, T, L, V, P) U.heap)) (va_Qi post (fun u t => wdW E ((xW1 z T L P) u) t.heap) (w_A E)) (xcX E (xB z T L xp)) 16 64 (w_A E) := by
  refine g_startX (w := (z, T, L, V, P)) hfl (by decide +kernel) rfl [some (.ref t), some (.int x1), some (.int x2), some (.int x3), none, none, none, none, none, none, none] rfl (fun _ h => h) (Nat.le_of_ble_eq_true rfl) (fun X hl hRm hEe O hN hQ => ?_)
  subst hl
  subst hEe
  have hk : kOk rX1_season 0 0 2 := ⟨Nat.le_refl _, Nat.le_refl _⟩
  unfold wX1_season at w
  refine g_iload_n O dX1_season_0 rfl ?_
  refine g_iconst (v := 0) O dX1_season_1 (by decide) ?_
  refine g_iconst (v := 2) O dX1_season_2 (by decide) ?_
  refine g_ri0 (gr_S (nA := 3) (As := [.int x3, .int 0, .int 2]) (rest := []) O hRm (kX1_within _ O.2.2.2.2.2.2.2.2 _ _ _ _ _ _ (x3) (0) (2) _ w) (lw_S q1259 q1260 q106 q1261) rfl rfl (by decide +kernel) ⟨Nat.le_of_ble_eq_true rfl, Nat.le_of_ble_eq_true rfl⟩ rfl rfl rfl (Nat.le_of_ble_eq_true rfl) dX1_season_3 (kOk.f0 hk)) (fun r1 w => ?_)
  have hk := kOk.s0 hk
  refine g_xv0 O hN hQ (kOk.f hk (c := 1) (Nat.le_of_ble_eq_true rfl)) (grx_S (nA := 1) (As := [.int r1]) (rest := []) O hRm (kX1_there _ O.2.2.2.2.2.2.2.2 _ _ _ _ _ _ (r1) _ xp w) (lw_S q1262 q1263 q106 q1264) rfl rfl (by decide +kernel) ⟨Nat.le_of_ble_eq_true rfl, Nat.le_of_ble_eq_true rfl⟩ rfl rfl rfl (Nat.le_of_ble_eq_true rfl) dX1_season_6 (kOk.f hk (c := 1) (Nat.le_of_ble_eq_true rfl))) (fun w => ?_)
  have hk7 := kOk.sub 1 hk (Nat.le_of_ble_eq_true rfl)
  refine g_iload_n O dX1_season_9 rfl ?_
  refine g_iconst (v := 0) O dX1_season_10 (by decide) ?_
  refine g_bipush (v := 40) O dX1_season_11 (by decide) ?_
  refine g_ri0 (gr_S (nA := 3) (As := [.int x2, .int 0, .int 40]) (rest := []) O hRm (kX1_within _ O.2.2.2.2.2.2.2.2 _ _ _ _ _ _ (x2) (0) (40) _ w) (lw_S q1259 q1260 q106 q1261) rfl rfl (by decide +kernel) ⟨Nat.le_of_ble_eq_true rfl, Nat.le_of_ble_eq_true rfl⟩ rfl rfl rfl (Nat.le_of_ble_eq_true rfl) dX1_season_13 (kOk.f0 hk7)) (fun r8 w => ?_)
  have hk7 := kOk.s0 hk7
  refine g_xv0 O hN hQ (kOk.f hk7 (c := 1) (Nat.le_of_ble_eq_true rfl)) (grx_S (nA := 1) (As := [.int r8]) (rest := []) O hRm (kX1_right _ O.2.2.2.2.2.2.2.2 _ _ _ _ _ _ (r8) _ xp w) (lw_S q894 q895 q106 q896) rfl rfl (by decide +kernel) ⟨Nat.le_of_ble_eq_true rfl, Nat.le_of_ble_eq_true rfl⟩ rfl rfl rfl (Nat.le_of_ble_eq_true rfl) dX1_season_16 (kOk.f hk7 (c := 1) (Nat.le_of_ble_eq_true rfl))) (fun w => ?_)
  have hk14 := kOk.sub 1 hk7 (Nat.le_of_ble_eq_true rfl)
  refine g_aload_n O dX1_season_19 rfl ?_
  refine g_iload_n O dX1_season_20 rfl ?_
  refine gx_putI (lay := 1) (j := 10) (ty := .int) O ck1 (by decide) rfl rfl (by decide) hT q820 rfl rfl rfl rfl dX1_season_21 ?_
  refine g_nV w (fun V15 w _ => ?_)
  refine g_iconst (v := 0) O dX1_season_24 (by decide) ?_
  refine g_istore O dX1_season_25 (Nat.le_of_ble_eq_true rfl) rfl (lv' := [some (.ref t), some (.int x1), some (.int x2), some (.int x3), some (.int 0), none, none, none, none, none, none]) rfl ?_
  refine g_iconst (v := 0) O dX1_season_27 (by decide) ?_
  refine g_istore O dX1_season_28 (Nat.le_of_ble_eq_true rfl) rfl (lv' := [some (.ref t), some (.int x1), some (.int x2), some (.int x3), some (.int 0), some (.int 0), none, none, none, none, none]) rfl ?_
  refine g_iconst (v := 0) O dX1_season_30 (by decide) ?_
  refine g_istore O dX1_season_31 (Nat.le_of_ble_eq_true rfl) rfl (lv' := [some (.ref t), some (.int x1), some (.int x2), some (.int x3), some (.int 0), some (.int 0), some (.int 0), none, none, none, none]) rfl ?_
  refine g_iconst (v := 0) O dX1_season_33 (by decide) ?_
  refine g_istore O dX1_season_34 (Nat.le_of_ble_eq_true rfl) rfl (lv' := [some (.ref t), some (.int x1), some (.int x2), some (.int x3), some (.int 0), some (.int 0), some (.int 0), some (.int 0), none, none, none]) rfl ?_
  obtain ⟨n61, w⟩ := w
  refine g_drop [1] (lv' := [some (.ref t), none, some (.int x2), some (.int x3), some (.int 0), some (.int 0), some (.int 0), some (.int 0), none, none, none]) rfl ?_
  refine vlX1_season_36 O hRm (P := P) t hT (x2) (x3) post xp hN (kOk.le hk14 (Nat.le_of_ble_eq_true rfl)) hQ _ (fun y57 y58 y59 V60 w => ?_) n61 (0) (0) (0) (0) (V15) w
  refine g_iload_n O dX1_season_169 rfl ?_
  refine g_if_ne (tgt := 178) O w dX1_season_170 (by decide) (fun w => ?_) (fun w => ?_)
  · refine g_iload_n O dX1_season_178 rfl ?_
    refine g_iconst (v := 1) O dX1_season_179 (by decide) ?_
    refine g_icmp_ne (tgt := 188) O w dX1_season_180 (by decide) (fun w => ?_) (fun w => ?_)
    · refine g_iload O dX1_season_188 rfl ?_
      exact gt_iret (f := xW1 z T L P) (u := V60) O hQ (kOk.m hk14) rfl rfl w dX1_season_190
    · refine g_iload O dX1_season_183 rfl ?_
      refine g_goto (tgt := 190) O dX1_season_185 (by decide) ?_
      exact gt_iret (f := xW1 z T L P) (u := V60) O hQ (kOk.m hk14) rfl rfl w dX1_season_190
  · refine g_iload O dX1_season_173 rfl ?_
    refine g_goto (tgt := 190) O dX1_season_175 (by decide) ?_
    exact gt_iret (f := xW1 z T L P) (u := V60) O hQ (kOk.m hk14) rfl rfl w dX1_season_190
