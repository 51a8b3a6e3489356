/-! printed by gen/xgen.py out of the given decode rows: their walks -/
set_option maxRecDepth 100000
-- X12_by
abbrev rX12_by (rf rl : Nat) : Room := { frames := rf + 2, cells := 0, slots := 0, locals := rl + 60 }
set_option maxHeartbeats 4000000 in
theorem kX12_by (l : Launch) (hfl : l.flags = flags0) (E : w_E) (z : Nat) (T L : Nat → Nat) (V : w_V) (P : w_P) (rf rl : Nat) (rE : Nat → Nat → (Int32 → Prop) → Prop) (hE : ∀ (e v : Nat) (post : Int32 → Prop), rE e v post → T v = 4 → (T e = 9 → xMi0 l yX12_by cX12_by 2 (some .int) { frames := rf, cells := 0, slots := 0, locals := rl } E z T L V P [.ref e, .ref v] post) ∧ (T e = 10 → xMi0 l yX13_by cX13_by 2 (some .int) { frames := rf, cells := 0, slots := 0, locals := rl } E z T L V P [.ref e, .ref v] post) ∧ (T e = 11 → xMi0 l yX14_by cX14_by 4 (some .int) { frames := rf, cells := 0, slots := 0, locals := rl } E z T L V P [.ref e, .ref v] post) ∧ (T e = 12 → xMi0 l yX15_by cX15_by 2 (some .int) { frames := rf, cells := 0, slots := 0, locals := rl } E z T L V P [.ref e, .ref v] post)) (t : Nat) (hT : T t = 9) (x1 : Nat) (hx1 : T x1 = 4) (post : Int32 → Prop) (w : wX12_by E.2.2.2.2 T L V P rE t x1 post) : gMi l yX12_by (ws_ yX12_by cX12_by 2 (some .int)) (rX12_by rf rl) 0 0 E [.ref t, .ref x1] (z, T, L, V, P) (xW0 z T L V P) (fun x (_ : Unit) => post x) := by
  refine g_start (S := Unit) hfl (by decide +kernel) rfl [some (.ref t), some (.ref x1)] rfl (fun _ h => h) (Nat.le_of_ble_eq_true rfl) (fun X hl hRm hEe O hQ => ?_)
  subst hl
  subst hEe
  unfold wX12_by at w
  refine g_aload_n O dX12_by_0 rfl ?_
  refine gx_getI (lay := 8) (j := 0) O ck8 (by decide) rfl rfl (by decide) hT q1110 dX12_by_1 ?_
  exact g_iret (f := xW0 z T L V P) (u := ()) O hQ rfl rfl w dX12_by_4
-- X13_by
abbrev rX13_by (rf rl : Nat) : Room := { frames := rf + 2, cells := 0, slots := 0, locals := rl + 60 }
set_option maxHeartbeats 4000000 in
theorem kX13_by (l : Launch) (hfl : l.flags = flags0) (E : w_E) (z : Nat) (T L : Nat → Nat) (V : w_V) (P : w_P) (rf rl : Nat) (rE : Nat → Nat → (Int32 → Prop) → Prop) (hE : ∀ (e v : Nat) (post : Int32 → Prop), rE e v post → T v = 4 → (T e = 9 → xMi0 l yX12_by cX12_by 2 (some .int) { frames := rf, cells := 0, slots := 0, locals := rl } E z T L V P [.ref e, .ref v] post) ∧ (T e = 10 → xMi0 l yX13_by cX13_by 2 (some .int) { frames := rf, cells := 0, slots := 0, locals := rl } E z T L V P [.ref e, .ref v] post) ∧ (T e = 11 → xMi0 l yX14_by cX14_by 4 (some .int) { frames := rf, cells := 0, slots := 0, locals := rl } E z T L V P [.ref e, .ref v] post) ∧ (T e = 12 → xMi0 l yX15_by cX15_by 2 (some .int) { frames := rf, cells := 0, slots := 0, locals := rl } E z T L V P [.ref e, .ref v] post)) (t : Nat) (hT : T t = 10) (x1 : Nat) (hx1 : T x1 = 4) (post : Int32 → Prop) (w : wX13_by E.2.2.2.2 T L V P rE t x1 post) : gMi l yX13_by (ws_ yX13_by cX13_by 2 (some .int)) (rX13_by rf rl) 0 0 E [.ref t, .ref x1] (z, T, L, V, P) (xW0 z T L V P) (fun x (_ : Unit) => post x) := by
  refine g_start (S := Unit) hfl (by decide +kernel) rfl [some (.ref t), some (.ref x1)] rfl (fun _ h => h) (Nat.le_of_ble_eq_true rfl) (fun X hl hRm hEe O hQ => ?_)
  subst hl
  subst hEe
  unfold wX13_by at w
  refine g_aload_n O dX13_by_0 rfl ?_
  refine gx_getAN (lay := 3) (j := 0) O ck3 (by decide) rfl rfl (by decide) hx1 q520 dX13_by_1 ?_
  refine g_aload_n O dX13_by_4 rfl ?_
  obtain ⟨b1, hp2, w⟩ := w
  refine gx_getR (lay := 9) (j := 0) O ck9 (by decide) rfl rfl hp2 (by decide) hT q1142 dX13_by_5 ?_
  obtain ⟨i4, hi5, e6, w⟩ := w
  refine gx_ord (i := i4) O hRm hi5 e6 q1374 (by show 2 ≤ rf + 2; omega) (by show 50 ≤ rl + 60; omega) ⟨Nat.le_of_ble_eq_true rfl, Nat.le_of_ble_eq_true rfl⟩ rfl (Nat.le_of_ble_eq_true rfl) dX13_by_8 ?_
  obtain ⟨i7, hi8, e9, w⟩ := w
  refine gx_iald (a := x1) (kk0 := 1) (len := 5) (nn := i7) O (ha_own (lay := 3) (j := 0) (off := 2) (ty := 0) (len := 5) (by decide) hx1 rfl (by decide)) hi8 (by decide) e9 dX13_by_11 ?_
  exact g_iret (f := xW0 z T L V P) (u := ()) O hQ rfl rfl w dX13_by_12
-- X15_by
abbrev rX15_by (rf rl : Nat) : Room := { frames := rf + 2, cells := 0, slots := 0, locals := rl + 60 }
set_option maxHeartbeats 4000000 in
theorem kX15_by (l : Launch) (hfl : l.flags = flags0) (E : w_E) (z : Nat) (T L : Nat → Nat) (V : w_V) (P : w_P) (rf rl : Nat) (rE : Nat → Nat → (Int32 → Prop) → Prop) (hE : ∀ (e v : Nat) (post : Int32 → Prop), rE e v post → T v = 4 → (T e = 9 → xMi0 l yX12_by cX12_by 2 (some .int) { frames := rf, cells := 0, slots := 0, locals := rl } E z T L V P [.ref e, .ref v] post) ∧ (T e = 10 → xMi0 l yX13_by cX13_by 2 (some .int) { frames := rf, cells := 0, slots := 0, locals := rl } E z T L V P [.ref e, .ref v] post) ∧ (T e = 11 → xMi0 l yX14_by cX14_by 4 (some .int) { frames := rf, cells := 0, slots := 0, locals := rl } E z T L V P [.ref e, .ref v] post) ∧ (T e = 12 → xMi0 l yX15_by cX15_by 2 (some .int) { frames := rf, cells := 0, slots := 0, locals := rl } E z T L V P [.ref e, .ref v] post)) (t : Nat) (hT : T t = 12) (x1 : Nat) (hx1 : T x1 = 4) (post : Int32 → Prop) (w : wX15_by E.2.2.2.2 T L V P rE t x1 post) : gMi l yX15_by (ws_ yX15_by cX15_by 2 (some .int)) (rX15_by rf rl) 0 0 E [.ref t, .ref x1] (z, T, L, V, P) (xW0 z T L V P) (fun x (_ : Unit) => post x) := by
  refine g_start (S := Unit) hfl (by decide +kernel) rfl [some (.ref t), some (.ref x1)] rfl (fun _ h => h) (Nat.le_of_ble_eq_true rfl) (fun X hl hRm hEe O hQ => ?_)
  subst hl
  subst hEe
  unfold wX15_by at w
  refine g_aload_n O dX15_by_0 rfl ?_
  obtain ⟨b1, hp2, ht3, w⟩ := w
  refine gx_getR (lay := 11) (j := 0) O ck11 (by decide) rfl rfl hp2 (by decide) hT q1189 dX15_by_1 ?_
  refine g_aload_n O dX15_by_4 rfl ?_
  have hq := hE b1 x1 _ w hx1
  refine g_ri0 (g_disp4 ht3 (fun h => (gr_A (owner := "ApartBench$Expr") (lay := 8) (nA := 1) (As := [.ref x1]) (rest := []) O hRm (hq.1 h) (lw_U q1371 q1364 q1379 q1375 q139 q1376) rfl rfl q1363 (by decide +kernel) ⟨(by show rf + 1 ≤ rf + 2; omega), (by show 8 + (2 + 11) + rl ≤ rl + 60; omega)⟩ ck8 (by decide) rfl h rfl rfl rfl (Nat.le_of_ble_eq_true rfl) dX15_by_5 ⟨Nat.le_of_ble_eq_true rfl, Nat.le_of_ble_eq_true rfl⟩)) (fun h => (gr_A (owner := "ApartBench$Expr") (lay := 9) (nA := 1) (As := [.ref x1]) (rest := []) O hRm (hq.2.1 h) (lw_U q1371 q1364 q1378 q1372 q140 q1373) rfl rfl q1363 (by decide +kernel) ⟨(by show rf + 1 ≤ rf + 2; omega), (by show 8 + (2 + 11) + rl ≤ rl + 60; omega)⟩ ck9 (by decide) rfl h rfl rfl rfl (Nat.le_of_ble_eq_true rfl) dX15_by_5 ⟨Nat.le_of_ble_eq_true rfl, Nat.le_of_ble_eq_true rfl⟩)) (fun h => (gr_A (owner := "ApartBench$Expr") (lay := 10) (nA := 1) (As := [.ref x1]) (rest := []) O hRm (hq.2.2.1 h) (lw_U q1371 q1364 q1365 q1366 q141 q1367) rfl rfl q1363 (by decide +kernel) ⟨(by show rf + 1 ≤ rf + 2; omega), (by show 8 + (4 + 11) + rl ≤ rl + 60; omega)⟩ ck10 (by decide) rfl h rfl rfl rfl (Nat.le_of_ble_eq_true rfl) dX15_by_5 ⟨Nat.le_of_ble_eq_true rfl, Nat.le_of_ble_eq_true rfl⟩)) (fun h => (gr_A (owner := "ApartBench$Expr") (lay := 11) (nA := 1) (As := [.ref x1]) (rest := []) O hRm (hq.2.2.2 h) (lw_U q1371 q1364 q1377 q1369 q142 q1370) rfl rfl q1363 (by decide +kernel) ⟨(by show rf + 1 ≤ rf + 2; omega), (by show 8 + (2 + 11) + rl ≤ rl + 60; omega)⟩ ck11 (by decide) rfl h rfl rfl rfl (Nat.le_of_ble_eq_true rfl) dX15_by_5 ⟨Nat.le_of_ble_eq_true rfl, Nat.le_of_ble_eq_true rfl⟩))) (fun r4 w => ?_)
  refine g_if_ne (tgt := 15) O w dX15_by_8 (by decide) (fun w => ?_) (fun w => ?_)
  · refine g_iconst (v := 0) O dX15_by_15 (by decide) ?_
    exact g_iret (f := xW0 z T L V P) (u := ()) O hQ rfl rfl w dX15_by_16
  · refine g_iconst (v := 1) O dX15_by_11 (by decide) ?_
    refine g_goto (tgt := 16) O dX15_by_12 (by decide) ?_
    exact g_iret (f := xW0 z T L V P) (u := ()) O hQ rfl rfl w dX15_by_16
-- X14_by
abbrev rX14_by (rf rl : Nat) : Room := { frames := rf + 2, cells := 0, slots := 0, locals := rl + 60 }
set_option maxHeartbeats 4000000 in
theorem kX14_by (l : Launch) (hfl : l.flags = flags0) (E : w_E) (z : Nat) (T L : Nat → Nat) (V : w_V) (P : w_P) (rf rl : Nat) (rE : Nat → Nat → (Int32 → Prop) → Prop) (hE : ∀ (e v : Nat) (post : Int32 → Prop), rE e v post → T v = 4 → (T e = 9 → xMi0 l yX12_by cX12_by 2 (some .int) { frames := rf, cells := 0, slots := 0, locals := rl } E z T L V P [.ref e, .ref v] post) ∧ (T e = 10 → xMi0 l yX13_by cX13_by 2 (some .int) { frames := rf, cells := 0, slots := 0, locals := rl } E z T L V P [.ref e, .ref v] post) ∧ (T e = 11 → xMi0 l yX14_by cX14_by 4 (some .int) { frames := rf, cells := 0, slots := 0, locals := rl } E z T L V P [.ref e, .ref v] post) ∧ (T e = 12 → xMi0 l yX15_by cX15_by 2 (some .int) { frames := rf, cells := 0, slots := 0, locals := rl } E z T L V P [.ref e, .ref v] post)) (t : Nat) (hT : T t = 11) (x1 : Nat) (hx1 : T x1 = 4) (post : Int32 → Prop) (w : wX14_by E.2.2.2.2 T L V P rE t x1 post) : gMi l yX14_by (ws_ yX14_by cX14_by 4 (some .int)) (rX14_by rf rl) 0 0 E [.ref t, .ref x1] (z, T, L, V, P) (xW0 z T L V P) (fun x (_ : Unit) => post x) := by
  refine g_start (S := Unit) hfl (by decide +kernel) rfl [some (.ref t), some (.ref x1), none, none] rfl (fun _ h => h) (Nat.le_of_ble_eq_true rfl) (fun X hl hRm hEe O hQ => ?_)
  subst hl
  subst hEe
  unfold wX14_by at w
  refine g_aload_n O dX14_by_0 rfl ?_
  obtain ⟨b1, hp2, ht3, w⟩ := w
  refine gx_getR (lay := 10) (j := 1) O ck10 (by decide) rfl rfl hp2 (by decide) hT q1170 dX14_by_1 ?_
  refine g_aload_n O dX14_by_4 rfl ?_
  have hq := hE b1 x1 _ w hx1
  refine g_ri0 (g_disp4 ht3 (fun h => (gr_A (owner := "ApartBench$Expr") (lay := 8) (nA := 1) (As := [.ref x1]) (rest := []) O hRm (hq.1 h) (lw_U q1368 q1364 q1379 q1375 q139 q1376) rfl rfl q1363 (by decide +kernel) ⟨(by show rf + 1 ≤ rf + 2; omega), (by show 8 + (2 + 11) + rl ≤ rl + 60; omega)⟩ ck8 (by decide) rfl h rfl rfl rfl (Nat.le_of_ble_eq_true rfl) dX14_by_5 ⟨Nat.le_of_ble_eq_true rfl, Nat.le_of_ble_eq_true rfl⟩)) (fun h => (gr_A (owner := "ApartBench$Expr") (lay := 9) (nA := 1) (As := [.ref x1]) (rest := []) O hRm (hq.2.1 h) (lw_U q1368 q1364 q1378 q1372 q140 q1373) rfl rfl q1363 (by decide +kernel) ⟨(by show rf + 1 ≤ rf + 2; omega), (by show 8 + (2 + 11) + rl ≤ rl + 60; omega)⟩ ck9 (by decide) rfl h rfl rfl rfl (Nat.le_of_ble_eq_true rfl) dX14_by_5 ⟨Nat.le_of_ble_eq_true rfl, Nat.le_of_ble_eq_true rfl⟩)) (fun h => (gr_A (owner := "ApartBench$Expr") (lay := 10) (nA := 1) (As := [.ref x1]) (rest := []) O hRm (hq.2.2.1 h) (lw_U q1368 q1364 q1365 q1366 q141 q1367) rfl rfl q1363 (by decide +kernel) ⟨(by show rf + 1 ≤ rf + 2; omega), (by show 8 + (4 + 11) + rl ≤ rl + 60; omega)⟩ ck10 (by decide) rfl h rfl rfl rfl (Nat.le_of_ble_eq_true rfl) dX14_by_5 ⟨Nat.le_of_ble_eq_true rfl, Nat.le_of_ble_eq_true rfl⟩)) (fun h => (gr_A (owner := "ApartBench$Expr") (lay := 11) (nA := 1) (As := [.ref x1]) (rest := []) O hRm (hq.2.2.2 h) (lw_U q1368 q1364 q1377 q1369 q142 q1370) rfl rfl q1363 (by decide +kernel) ⟨(by show rf + 1 ≤ rf + 2; omega), (by show 8 + (2 + 11) + rl ≤ rl + 60; omega)⟩ ck11 (by decide) rfl h rfl rfl rfl (Nat.le_of_ble_eq_true rfl) dX14_by_5 ⟨Nat.le_of_ble_eq_true rfl, Nat.le_of_ble_eq_true rfl⟩))) (fun r4 w => ?_)
  refine g_istore_n O dX14_by_8 (Nat.le_of_ble_eq_true rfl) rfl (lv' := [some (.ref t), some (.ref x1), some (.int r4), none]) rfl ?_
  refine g_aload_n O dX14_by_9 rfl ?_
  obtain ⟨b7, hp8, ht9, w⟩ := w
  refine gx_getR (lay := 10) (j := 2) O ck10 (by decide) rfl rfl hp8 (by decide) hT q1171 dX14_by_10 ?_
  refine g_aload_n O dX14_by_13 rfl ?_
  have hq := hE b7 x1 _ w hx1
  refine g_ri0 (g_disp4 ht9 (fun h => (gr_A (owner := "ApartBench$Expr") (lay := 8) (nA := 1) (As := [.ref x1]) (rest := []) O hRm (hq.1 h) (lw_U q1368 q1364 q1379 q1375 q139 q1376) rfl rfl q1363 (by decide +kernel) ⟨(by show rf + 1 ≤ rf + 2; omega), (by show 8 + (2 + 11) + rl ≤ rl + 60; omega)⟩ ck8 (by decide) rfl h rfl rfl rfl (Nat.le_of_ble_eq_true rfl) dX14_by_14 ⟨Nat.le_of_ble_eq_true rfl, Nat.le_of_ble_eq_true rfl⟩)) (fun h => (gr_A (owner := "ApartBench$Expr") (lay := 9) (nA := 1) (As := [.ref x1]) (rest := []) O hRm (hq.2.1 h) (lw_U q1368 q1364 q1378 q1372 q140 q1373) rfl rfl q1363 (by decide +kernel) ⟨(by show rf + 1 ≤ rf + 2; omega), (by show 8 + (2 + 11) + rl ≤ rl + 60; omega)⟩ ck9 (by decide) rfl h rfl rfl rfl (Nat.le_of_ble_eq_true rfl) dX14_by_14 ⟨Nat.le_of_ble_eq_true rfl, Nat.le_of_ble_eq_true rfl⟩)) (fun h => (gr_A (owner := "ApartBench$Expr") (lay := 10) (nA := 1) (As := [.ref x1]) (rest := []) O hRm (hq.2.2.1 h) (lw_U q1368 q1364 q1365 q1366 q141 q1367) rfl rfl q1363 (by decide +kernel) ⟨(by show rf + 1 ≤ rf + 2; omega), (by show 8 + (4 + 11) + rl ≤ rl + 60; omega)⟩ ck10 (by decide) rfl h rfl rfl rfl (Nat.le_of_ble_eq_true rfl) dX14_by_14 ⟨Nat.le_of_ble_eq_true rfl, Nat.le_of_ble_eq_true rfl⟩)) (fun h => (gr_A (owner := "ApartBench$Expr") (lay := 11) (nA := 1) (As := [.ref x1]) (rest := []) O hRm (hq.2.2.2 h) (lw_U q1368 q1364 q1377 q1369 q142 q1370) rfl rfl q1363 (by decide +kernel) ⟨(by show rf + 1 ≤ rf + 2; omega), (by show 8 + (2 + 11) + rl ≤ rl + 60; omega)⟩ ck11 (by decide) rfl h rfl rfl rfl (Nat.le_of_ble_eq_true rfl) dX14_by_14 ⟨Nat.le_of_ble_eq_true rfl, Nat.le_of_ble_eq_true rfl⟩))) (fun r10 w => ?_)
  refine g_istore_n O dX14_by_17 (Nat.le_of_ble_eq_true rfl) rfl (lv' := [some (.ref t), some (.ref x1), some (.int r4), some (.int r10)]) rfl ?_
  refine g_aload_n O dX14_by_18 rfl ?_
  refine gx_getI (lay := 10) (j := 0) O ck10 (by decide) rfl rfl (by decide) hT q1169 dX14_by_19 ?_
  by_cases c0 : (V t 0 0) = 38
  · rw [if_pos c0] at w
    refine g_tabE (tgt := 178) O c0 dX14_by_22 (by decide) (by decide) rfl (by decide) ?_
    refine g_iload_n O dX14_by_178 rfl ?_
    refine g_if_eq (tgt := 190) O w dX14_by_179 (by decide) (fun w => ?_) (fun w => ?_)
    · refine g_iconst (v := 0) O dX14_by_190 (by decide) ?_
      exact g_iret (f := xW0 z T L V P) (u := ()) O hQ rfl rfl w dX14_by_191
    · refine g_iload_n O dX14_by_182 rfl ?_
      refine g_if_eq (tgt := 190) O w dX14_by_183 (by decide) (fun w => ?_) (fun w => ?_)
      · refine g_iconst (v := 0) O dX14_by_190 (by decide) ?_
        exact g_iret (f := xW0 z T L V P) (u := ()) O hQ rfl rfl w dX14_by_191
      · refine g_iconst (v := 1) O dX14_by_186 (by decide) ?_
        refine g_goto (tgt := 191) O dX14_by_187 (by decide) ?_
        exact g_iret (f := xW0 z T L V P) (u := ()) O hQ rfl rfl w dX14_by_191
  rw [if_neg c0] at w
  by_cases c4 : (V t 0 0) = 42
  · rw [if_pos c4] at w
    refine g_tabE (tgt := 140) O c4 dX14_by_22 (by decide) (by decide) rfl (by decide) ?_
    refine g_iload_n O dX14_by_140 rfl ?_
    refine g_iload_n O dX14_by_141 rfl ?_
    refine g_imul O dX14_by_142 ?_
    exact g_iret (f := xW0 z T L V P) (u := ()) O hQ rfl rfl w dX14_by_143
  rw [if_neg c4] at w
  by_cases c5 : (V t 0 0) = 43
  · rw [if_pos c5] at w
    refine g_tabE (tgt := 132) O c5 dX14_by_22 (by decide) (by decide) rfl (by decide) ?_
    refine g_iload_n O dX14_by_132 rfl ?_
    refine g_iload_n O dX14_by_133 rfl ?_
    refine g_iadd O dX14_by_134 ?_
    exact g_iret (f := xW0 z T L V P) (u := ()) O hQ rfl rfl w dX14_by_135
  rw [if_neg c5] at w
  by_cases c7 : (V t 0 0) = 45
  · rw [if_pos c7] at w
    refine g_tabE (tgt := 136) O c7 dX14_by_22 (by decide) (by decide) rfl (by decide) ?_
    refine g_iload_n O dX14_by_136 rfl ?_
    refine g_iload_n O dX14_by_137 rfl ?_
    refine g_isub O dX14_by_138 ?_
    exact g_iret (f := xW0 z T L V P) (u := ()) O hQ rfl rfl w dX14_by_139
  rw [if_neg c7] at w
  by_cases c9 : (V t 0 0) = 47
  · rw [if_pos c9] at w
    refine g_tabE (tgt := 144) O c9 dX14_by_22 (by decide) (by decide) rfl (by decide) ?_
    refine g_iload_n O dX14_by_144 rfl ?_
    refine g_if_ne (tgt := 152) O w dX14_by_145 (by decide) (fun w => ?_) (fun w => ?_)
    · refine g_iload_n O dX14_by_152 rfl ?_
      refine g_iload_n O dX14_by_153 rfl ?_
      obtain ⟨hz13, w⟩ := w
      refine g_idiv O hz13 dX14_by_154 ?_
      exact g_iret (f := xW0 z T L V P) (u := ()) O hQ rfl rfl w dX14_by_155
    · refine g_iconst (v := 0) O dX14_by_148 (by decide) ?_
      refine g_goto (tgt := 155) O dX14_by_149 (by decide) ?_
      exact g_iret (f := xW0 z T L V P) (u := ()) O hQ rfl rfl w dX14_by_155
  rw [if_neg c9] at w
  by_cases c22 : (V t 0 0) = 60
  · rw [if_pos c22] at w
    refine g_tabE (tgt := 156) O c22 dX14_by_22 (by decide) (by decide) rfl (by decide) ?_
    refine g_iload_n O dX14_by_156 rfl ?_
    refine g_iload_n O dX14_by_157 rfl ?_
    refine g_icmp_ge (tgt := 165) O w dX14_by_158 (by decide) (fun w => ?_) (fun w => ?_)
    · refine g_iconst (v := 0) O dX14_by_165 (by decide) ?_
      exact g_iret (f := xW0 z T L V P) (u := ()) O hQ rfl rfl w dX14_by_166
    · refine g_iconst (v := 1) O dX14_by_161 (by decide) ?_
      refine g_goto (tgt := 166) O dX14_by_162 (by decide) ?_
      exact g_iret (f := xW0 z T L V P) (u := ()) O hQ rfl rfl w dX14_by_166
  rw [if_neg c22] at w
  by_cases c23 : (V t 0 0) = 61
  · rw [if_pos c23] at w
    refine g_tabE (tgt := 167) O c23 dX14_by_22 (by decide) (by decide) rfl (by decide) ?_
    refine g_iload_n O dX14_by_167 rfl ?_
    refine g_iload_n O dX14_by_168 rfl ?_
    refine g_icmp_ne (tgt := 176) O w dX14_by_169 (by decide) (fun w => ?_) (fun w => ?_)
    · refine g_iconst (v := 0) O dX14_by_176 (by decide) ?_
      exact g_iret (f := xW0 z T L V P) (u := ()) O hQ rfl rfl w dX14_by_177
    · refine g_iconst (v := 1) O dX14_by_172 (by decide) ?_
      refine g_goto (tgt := 177) O dX14_by_173 (by decide) ?_
      exact g_iret (f := xW0 z T L V P) (u := ()) O hQ rfl rfl w dX14_by_177
  rw [if_neg c23] at w
  have hd : gW X 0 0 z T L V P 192 [some (.ref t), some (.ref x1), some (.int r4), some (.int r10)] [] := by
    refine g_iload_n O dX14_by_192 rfl ?_
    refine g_if_ne (tgt := 200) O w dX14_by_193 (by decide) (fun w => ?_) (fun w => ?_)
    · refine g_iconst (v := 1) O dX14_by_200 (by decide) ?_
      refine g_goto (tgt := 205) O dX14_by_201 (by decide) ?_
      exact g_iret (f := xW0 z T L V P) (u := ()) O hQ rfl rfl w dX14_by_205
    · refine g_iload_n O dX14_by_196 rfl ?_
      refine g_if_eq (tgt := 204) O w dX14_by_197 (by decide) (fun w => ?_) (fun w => ?_)
      · refine g_iconst (v := 0) O dX14_by_204 (by decide) ?_
        exact g_iret (f := xW0 z T L V P) (u := ()) O hQ rfl rfl w dX14_by_205
      · refine g_iconst (v := 1) O dX14_by_200 (by decide) ?_
        refine g_goto (tgt := 205) O dX14_by_201 (by decide) ?_
        exact g_iret (f := xW0 z T L V P) (u := ()) O hQ rfl rfl w dX14_by_205
  by_cases c100 : ((V t 0 0) : Int32).toInt < 38 ∨ 61 < ((V t 0 0) : Int32).toInt
  · exact g_tabOut O dX14_by_22 c100 (by decide) hd
  obtain ⟨j, hj, hj1, hj2⟩ : ∃ j : Int, ((V t 0 0) : Int32) = Int32.ofInt j ∧ 38 ≤ j ∧ j ≤ 61 := ⟨((V t 0 0) : Int32).toInt, (Int32.ofInt_toInt _).symm, by omega, by omega⟩
  have h3 : j = 38 ∨ j = 39 ∨ j = 40 ∨ j = 41 ∨ j = 42 ∨ j = 43 ∨ j = 44 ∨ j = 45 ∨ j = 46 ∨ j = 47 ∨ j = 48 ∨ j = 49 ∨ j = 50 ∨ j = 51 ∨ j = 52 ∨ j = 53 ∨ j = 54 ∨ j = 55 ∨ j = 56 ∨ j = 57 ∨ j = 58 ∨ j = 59 ∨ j = 60 ∨ j = 61 := by omega
  rcases h3 with rfl | rfl | rfl | rfl | rfl | rfl | rfl | rfl | rfl | rfl | rfl | rfl | rfl | rfl | rfl | rfl | rfl | rfl | rfl | rfl | rfl | rfl | rfl | rfl
  · exact absurd hj c0
  · exact g_tabE (tgt := 192) O hj dX14_by_22 (by decide) (by decide) rfl (by decide) hd
  · exact g_tabE (tgt := 192) O hj dX14_by_22 (by decide) (by decide) rfl (by decide) hd
  · exact g_tabE (tgt := 192) O hj dX14_by_22 (by decide) (by decide) rfl (by decide) hd
  · exact absurd hj c4
  · exact absurd hj c5
  · exact g_tabE (tgt := 192) O hj dX14_by_22 (by decide) (by decide) rfl (by decide) hd
  · exact absurd hj c7
  · exact g_tabE (tgt := 192) O hj dX14_by_22 (by decide) (by decide) rfl (by decide) hd
  · exact absurd hj c9
  · exact g_tabE (tgt := 192) O hj dX14_by_22 (by decide) (by decide) rfl (by decide) hd
  · exact g_tabE (tgt := 192) O hj dX14_by_22 (by decide) (by decide) rfl (by decide) hd
  · exact g_tabE (tgt := 192) O hj dX14_by_22 (by decide) (by decide) rfl (by decide) hd
  · exact g_tabE (tgt := 192) O hj dX14_by_22 (by decide) (by decide) rfl (by decide) hd
  · exact g_tabE (tgt := 192) O hj dX14_by_22 (by decide) (by decide) rfl (by decide) hd
  · exact g_tabE (tgt := 192) O hj dX14_by_22 (by decide) (by decide) rfl (by decide) hd
  · exact g_tabE (tgt := 192) O hj dX14_by_22 (by decide) (by decide) rfl (by decide) hd
  · exact g_tabE (tgt := 192) O hj dX14_by_22 (by decide) (by decide) rfl (by decide) hd
  · exact g_tabE (tgt := 192) O hj dX14_by_22 (by decide) (by decide) rfl (by decide) hd
  · exact g_tabE (tgt := 192) O hj dX14_by_22 (by decide) (by decide) rfl (by decide) hd
  · exact g_tabE (tgt := 192) O hj dX14_by_22 (by decide) (by decide) rfl (by decide) hd
  · exact g_tabE (tgt := 192) O hj dX14_by_22 (by decide) (by decide) rfl (by decide) hd
  · exact absurd hj c22
  · exact absurd hj c23
abbrev r_by (d : Nat) : Room := { frames := 2 * d + 5, cells := 0, slots := 0, locals := 60 * d + 60 }
theorem k_by (l : Launch) (hfl : l.flags = flags0) (E : w_E) (z : Nat) (T L : Nat → Nat) (V : w_V) (P : w_P) (d : Nat) : ∀ (e v : Nat) (post : Int32 → Prop), w_by E.2.2.2.2 T L V P d e v post → T v = 4 → (T e = 9 → xMi0 l yX12_by cX12_by 2 (some .int) (r_by d) E z T L V P [.ref e, .ref v] post) ∧ (T e = 10 → xMi0 l yX13_by cX13_by 2 (some .int) (r_by d) E z T L V P [.ref e, .ref v] post) ∧ (T e = 11 → xMi0 l yX14_by cX14_by 4 (some .int) (r_by d) E z T L V P [.ref e, .ref v] post) ∧ (T e = 12 → xMi0 l yX15_by cX15_by 2 (some .int) (r_by d) E z T L V P [.ref e, .ref v] post) := by
  induction d with
  | zero =>
    intro e v post w
    exact w.elim
  | succ d ih =>
    intro e v post w hv
    refine ⟨fun h => ?_, fun h => ?_, fun h => ?_, fun h => ?_⟩
    · exact kX12_by l hfl E z T L V P (2 * d + 5) (60 * d + 60) _ ih e h v hv post (w.1 h)
    · exact kX13_by l hfl E z T L V P (2 * d + 5) (60 * d + 60) _ ih e h v hv post (w.2.1 h)
    · exact kX14_by l hfl E z T L V P (2 * d + 5) (60 * d + 60) _ ih e h v hv post (w.2.2.1 h)
    · exact kX15_by l hfl E z T L V P (2 * d + 5) (60 * d + 60) _ ih e h v hv post (w.2.2.2 h)
-- J14_checkFromToIndex
abbrev rJ14_checkFromToIndex : Room := { frames := 1, cells := 0, slots := 0, locals := 12 }
set_option maxHeartbeats 4000000 in
theorem vjJ14_checkFromToIndex_14 {X : Cx} {z : Nat} {T L : Nat → Nat} {V : w_V} {P : w_P} (O : Okc X cJ14_checkFromToIndex RJ14 4 (some .int)) (hRm : cxR X = rJ14_checkFromToIndex) (x3 : Option Nat) (x0 : Int32) (x1 : Int32) (x2 : Int32) (post : Int32 → Prop) (hQ : cxMQ X (va_Qi (fun x (_ : Unit) => post x) (fun u t => wdW (cxE X) (xW0 z T L V P u) t.heap) (w_A (cxE X))) 0 0) (w : jJ14_checkFromToIndex_14 (cxE X).2.2.2.2 T L V P x3 x0 x1 x2 post) : gW X 0 0 z T L V P 14 [some (.int x0), some (.int x1), some (.int x2), some (va_rf x3)] [] := by
  unfold jJ14_checkFromToIndex_14 at w
  exact w.elim
set_option maxHeartbeats 4000000 in
theorem kJ14_checkFromToIndex (l : Launch) (hfl : l.flags = flags0) (E : w_E) (z : Nat) (T L : Nat → Nat) (V : w_V) (P : w_P) (x0 : Int32) (x1 : Int32) (x2 : Int32) (x3 : Option Nat) (post : Int32 → Prop) (w : wJ14_checkFromToIndex E.2.2.2.2 T L V P x0 x1 x2 x3 post) : gMi l yJ14_checkFromToIndex (ws_ yJ14_checkFromToIndex cJ14_checkFromToIndex 4 (some .int)) rJ14_checkFromToIndex 0 0 E [.int x0, .int x1, .int x2, va_rf x3] (z, T, L, V, P) (xW0 z T L V P) (fun x (_ : Unit) => post x) := by
  refine g_start (S := Unit) hfl (by decide +kernel) rfl [some (.int x0), some (.int x1), some (.int x2), some (va_rf x3)] rfl (fun _ h => h) (by cases x3 <;> exact Nat.le_of_ble_eq_true rfl) (fun X hl hRm hEe O hQ => ?_)
  subst hl
  subst hEe
  unfold wJ14_checkFromToIndex at w
  refine g_iload_n O dJ14_checkFromToIndex_0 rfl ?_
  refine g_if_lt (tgt := 14) O w dJ14_checkFromToIndex_1 (by decide) (fun w => ?_) (fun w => ?_)
  · exact vjJ14_checkFromToIndex_14 O hRm (V := V) (P := P) x3 (x0) (x1) (x2) post hQ w
  · refine g_iload_n O dJ14_checkFromToIndex_4 rfl ?_
    refine g_iload_n O dJ14_checkFromToIndex_5 rfl ?_
    refine g_icmp_gt (tgt := 14) O w dJ14_checkFromToIndex_6 (by decide) (fun w => ?_) (fun w => ?_)
    · exact vjJ14_checkFromToIndex_14 O hRm (V := V) (P := P) x3 (x0) (x1) (x2) post hQ w
    · refine g_iload_n O dJ14_checkFromToIndex_9 rfl ?_
      refine g_iload_n O dJ14_checkFromToIndex_10 rfl ?_
      refine g_icmp_le (tgt := 22) O w dJ14_checkFromToIndex_11 (by decide) (fun w => ?_) (fun w => ?_)
      · refine g_iload_n O dJ14_checkFromToIndex_22 rfl ?_
        exact g_iret (f := xW0 z T L V P) (u := ()) O hQ rfl rfl w dJ14_checkFromToIndex_23
      · exact vjJ14_checkFromToIndex_14 O hRm (V := V) (P := P) x3 (x0) (x1) (x2) post hQ w
-- J9_checkBoundsBeginEnd
abbrev rJ9_checkBoundsBeginEnd : Room := { frames := 2, cells := 0, slots := 0, locals := 35 }
set_option maxHeartbeats 4000000 in
theorem kJ9_checkBoundsBeginEnd (l : Launch) (hfl : l.flags = flags0) (E : w_E) (z : Nat) (T L : Nat → Nat) (V : w_V) (P : w_P) (x0 : Int32) (x1 : Int32) (x2 : Int32) (post : Prop) (w : wJ9_checkBoundsBeginEnd E.2.2.2.2 T L V P x0 x1 x2 post) : gMv l yJ9_checkBoundsBeginEnd (ws_ yJ9_checkBoundsBeginEnd cJ9_checkBoundsBeginEnd 3 none) rJ9_checkBoundsBeginEnd 0 0 E [.int x0, .int x1, .int x2] (z, T, L, V, P) (xW0 z T L V P) (fun (_ : Unit) => post) := by
  refine g_start (S := Unit) hfl (by decide +kernel) rfl [some (.int x0), some (.int x1), some (.int x2)] rfl (fun _ h => h) (Nat.le_of_ble_eq_true rfl) (fun X hl hRm hEe O hQ => ?_)
  subst hl
  subst hEe
  unfold wJ9_checkBoundsBeginEnd at w
  refine g_iload_n O dJ9_checkBoundsBeginEnd_0 rfl ?_
  refine g_iload_n O dJ9_checkBoundsBeginEnd_1 rfl ?_
  refine g_iload_n O dJ9_checkBoundsBeginEnd_2 rfl ?_
  refine gx_getstQ O q316 (lw_all_tbl q123) sioobe_in q315 dJ9_checkBoundsBeginEnd_3 (fun s1 => ?_)
  replace w := w s1
  refine g_ri0 (gr_S (nA := 4) (As := [.int x0, .int x1, .int x2, va_rf s1]) (rest := []) O hRm (kJ14_checkFromToIndex _ O.2.2.2.2.2.2.2.2 _ _ _ _ _ _ (x0) (x1) (x2) s1 _ w) (lw_S q317 q318 q123 q319) rfl rfl (by decide +kernel) ⟨Nat.le_of_ble_eq_true rfl, Nat.le_of_ble_eq_true rfl⟩ rfl rfl rfl (Nat.le_of_ble_eq_true rfl) dJ9_checkBoundsBeginEnd_6 ⟨Nat.le_of_ble_eq_true rfl, Nat.le_of_ble_eq_true rfl⟩) (fun r2 w => ?_)
  refine g_pop O dJ9_checkBoundsBeginEnd_9 rfl ?_
  exact g_vret (f := xW0 z T L V P) (u := ()) O hQ rfl w dJ9_checkBoundsBeginEnd_10
-- J10_checkBoundsBeginEnd
abbrev rJ10_checkBoundsBeginEnd : Room := { frames := 1, cells := 0, slots := 0, locals := 12 }
set_option maxHeartbeats 4000000 in
theorem kJ10_checkBoundsBeginEnd (l : Launch) (hfl : l.flags = flags0) (E : w_E) (z : Nat) (T L : Nat → Nat) (V : w_V) (P : w_P) (x0 : Int32) (x1 : Int32) (d2 a2 k2 n2 : Nat) (h2 : hArr T L d2 a2 k2 n2 1) (g2 : n2 < 2147483648) (post : Prop) (w : wJ10_checkBoundsBeginEnd E.2.2.2.2 T L V P x0 x1 a2 k2 n2 post) : gMv l yJ10_checkBoundsBeginEnd (ws_ yJ10_checkBoundsBeginEnd cJ10_checkBoundsBeginEnd 3 none) rJ10_checkBoundsBeginEnd 0 0 E [.int x0, .int x1, .ref d2] (z, T, L, V, P) (xW0 z T L V P) (fun (_ : Unit) => post) := by
  refine g_start (S := Unit) hfl (by decide +kernel) rfl [some (.int x0), some (.int x1), some (.ref d2)] rfl (fun _ h => h) (Nat.le_of_ble_eq_true rfl) (fun X hl hRm hEe O hQ => ?_)
  subst hl
  subst hEe
  unfold wJ10_checkBoundsBeginEnd at w
  refine g_iload_n O dJ10_checkBoundsBeginEnd_0 rfl ?_
  refine g_iload_n O dJ10_checkBoundsBeginEnd_1 rfl ?_
  refine g_aload_n O dJ10_checkBoundsBeginEnd_2 rfl ?_
  exact w.elim
-- J10_length
abbrev rJ10_length : Room := { frames := 1, cells := 0, slots := 0, locals := 12 }
set_option maxHeartbeats 4000000 in
theorem kJ10_length (l : Launch) (hfl : l.flags = flags0) (E : w_E) (z : Nat) (T L : Nat → Nat) (V : w_V) (P : w_P) (d0 a0 k0 n0 : Nat) (h0 : hArr T L d0 a0 k0 n0 1) (g0 : n0 < 2147483648) (post : Int32 → Prop) (w : wJ10_length E.2.2.2.2 T L V P a0 k0 n0 post) : gMi l yJ10_length (ws_ yJ10_length cJ10_length 1 (some .int)) rJ10_length 0 0 E [.ref d0] (z, T, L, V, P) (xW0 z T L V P) (fun x (_ : Unit) => post x) := by
  refine g_start (S := Unit) hfl (by decide +kernel) rfl [some (.ref d0)] rfl (fun _ h => h) (Nat.le_of_ble_eq_true rfl) (fun X hl hRm hEe O hQ => ?_)
  subst hl
  subst hEe
  unfold wJ10_length at w
  refine g_aload_n O dJ10_length_0 rfl ?_
  refine gx_alen (a := a0) (kk0 := k0) (len := n0) (ty := 1) (fty := .byte) O h0 rfl dJ10_length_1 ?_
  refine g_iconst (v := 1) O dJ10_length_2 (by decide) ?_
  refine g_ishr O dJ10_length_3 ?_
  exact g_iret (f := xW0 z T L V P) (u := ()) O hQ rfl rfl w dJ10_length_4
-- J10_inflate
abbrev rJ10_inflate : Room := { frames := 1, cells := 0, slots := 0, locals := 12 }
set_option maxHeartbeats 4000000 in
theorem kJ10_inflate (l : Launch) (hfl : l.flags = flags0) (E : w_E) (z : Nat) (T L : Nat → Nat) (V : w_V) (P : w_P) (d0 a0 k0 n0 : Nat) (h0 : hArr T L d0 a0 k0 n0 1) (g0 : n0 < 2147483648) (x1 : Int32) (d2 a2 k2 n2 : Nat) (h2 : hArr T L d2 a2 k2 n2 1) (g2 : n2 < 2147483648) (x3 : Int32) (x4 : Int32) (post : Prop) (w : wJ10_inflate E.2.2.2.2 T L V P a0 k0 n0 x1 a2 k2 n2 x3 x4 post) : gMv l yJ10_inflate (ws_ yJ10_inflate cJ10_inflate 6 none) rJ10_inflate 0 0 E [.ref d0, .int x1, .ref d2, .int x3, .int x4] (z, T, L, V, P) (xW0 z T L V P) (fun (_ : Unit) => post) := by
  refine g_start (S := Unit) hfl (by decide +kernel) rfl [some (.ref d0), some (.int x1), some (.ref d2), some (.int x3), some (.int x4), none] rfl (fun _ h => h) (Nat.le_of_ble_eq_true rfl) (fun X hl hRm hEe O hQ => ?_)
  subst hl
  subst hEe
  unfold wJ10_inflate at w
  refine g_iload_n O dJ10_inflate_0 rfl ?_
  refine g_iload O dJ10_inflate_1 rfl ?_
  refine g_aload_n O dJ10_inflate_3 rfl ?_
  exact w.elim
-- J14_checkFromIndexSize
abbrev rJ14_checkFromIndexSize : Room := { frames := 1, cells := 0, slots := 0, locals := 12 }
set_option maxHeartbeats 4000000 in
theorem vjJ14_checkFromIndexSize_15 {X : Cx} {z : Nat} {T L : Nat → Nat} {V : w_V} {P : w_P} (O : Okc X cJ14_checkFromIndexSize RJ14 4 (some .int)) (hRm : cxR X = rJ14_checkFromIndexSize) (x3 : Option Nat) (x0 : Int32) (x1 : Int32) (x2 : Int32) (post : Int32 → Prop) (hQ : cxMQ X (va_Qi (fun x (_ : Unit) => post x) (fun u t => wdW (cxE X) (xW0 z T L V P u) t.heap) (w_A (cxE X))) 0 0) (w : jJ14_checkFromIndexSize_15 (cxE X).2.2.2.2 T L V P x3 x0 x1 x2 post) : gW X 0 0 z T L V P 15 [some (.int x0), some (.int x1), some (.int x2), some (va_rf x3)] [] := by
  unfold jJ14_checkFromIndexSize_15 at w
  exact w.elim
set_option maxHeartbeats 4000000 in
theorem kJ14_checkFromIndexSize (l : Launch) (hfl : l.flags = flags0) (E : w_E) (z : Nat) (T L : Nat → Nat) (V : w_V) (P : w_P) (x0 : Int32) (x1 : Int32) (x2 : Int32) (x3 : Option Nat) (post : Int32 → Prop) (w : wJ14_checkFromIndexSize E.2.2.2.2 T L V P x0 x1 x2 x3 post) : gMi l yJ14_checkFromIndexSize (ws_ yJ14_checkFromIndexSize cJ14_checkFromIndexSize 4 (some .int)) rJ14_checkFromIndexSize 0 0 E [.int x0, .int x1, .int x2, va_rf x3] (z, T, L, V, P) (xW0 z T L V P) (fun x (_ : Unit) => post x) := by
  refine g_start (S := Unit) hfl (by decide +kernel) rfl [some (.int x0), some (.int x1), some (.int x2), some (va_rf x3)] rfl (fun _ h => h) (by cases x3 <;> exact Nat.le_of_ble_eq_true rfl) (fun X hl hRm hEe O hQ => ?_)
  subst hl
  subst hEe
  unfold wJ14_checkFromIndexSize at w
  refine g_iload_n O dJ14_checkFromIndexSize_0 rfl ?_
  refine g_iload_n O dJ14_checkFromIndexSize_1 rfl ?_
  refine g_ior O dJ14_checkFromIndexSize_2 ?_
  refine g_iload_n O dJ14_checkFromIndexSize_3 rfl ?_
  refine g_ior O dJ14_checkFromIndexSize_4 ?_
  refine g_if_lt (tgt := 15) O w dJ14_checkFromIndexSize_5 (by decide) (fun w => ?_) (fun w => ?_)
  · exact vjJ14_checkFromIndexSize_15 O hRm (V := V) (P := P) x3 (x0) (x1) (x2) post hQ w
  · refine g_iload_n O dJ14_checkFromIndexSize_8 rfl ?_
    refine g_iload_n O dJ14_checkFromIndexSize_9 rfl ?_
    refine g_iload_n O dJ14_checkFromIndexSize_10 rfl ?_
    refine g_isub O dJ14_checkFromIndexSize_11 ?_
    refine g_icmp_le (tgt := 23) O w dJ14_checkFromIndexSize_12 (by decide) (fun w => ?_) (fun w => ?_)
    · refine g_iload_n O dJ14_checkFromIndexSize_23 rfl ?_
      exact g_iret (f := xW0 z T L V P) (u := ()) O hQ rfl rfl w dJ14_checkFromIndexSize_24
    · exact vjJ14_checkFromIndexSize_15 O hRm (V := V) (P := P) x3 (x0) (x1) (x2) post hQ w
-- J9_checkBoundsOffCount
abbrev rJ9_checkBoundsOffCount : Room := { frames := 2, cells := 0, slots := 0, locals := 35 }
set_option maxHeartbeats 4000000 in
theorem kJ9_checkBoundsOffCount (l : Launch) (hfl : l.flags = flags0) (E : w_E) (z : Nat) (T L : Nat → Nat) (V : w_V) (P : w_P) (x0 : Int32) (x1 : Int32) (x2 : Int32) (post : Int32 → Prop) (w : wJ9_checkBoundsOffCount E.2.2.2.2 T L V P x0 x1 x2 post) : gMi l yJ9_checkBoundsOffCount (ws_ yJ9_checkBoundsOffCount cJ9_checkBoundsOffCount 3 (some .int)) rJ9_checkBoundsOffCount 0 0 E [.int x0, .int x1, .int x2] (z, T, L, V, P) (xW0 z T L V P) (fun x (_ : Unit) => post x) := by
  refine g_start (S := Unit) hfl (by decide +kernel) rfl [some (.int x0), some (.int x1), some (.int x2)] rfl (fun _ h => h) (Nat.le_of_ble_eq_true rfl) (fun X hl hRm hEe O hQ => ?_)
  subst hl
  subst hEe
  unfold wJ9_checkBoundsOffCount at w
  refine g_iload_n O dJ9_checkBoundsOffCount_0 rfl ?_
  refine g_iload_n O dJ9_checkBoundsOffCount_1 rfl ?_
  refine g_iload_n O dJ9_checkBoundsOffCount_2 rfl ?_
  refine gx_getstQ O q316 (lw_all_tbl q123) sioobe_in q315 dJ9_checkBoundsOffCount_3 (fun s1 => ?_)
  replace w := w s1
  refine g_ri0 (gr_S (nA := 4) (As := [.int x0, .int x1, .int x2, va_rf s1]) (rest := []) O hRm (kJ14_checkFromIndexSize _ O.2.2.2.2.2.2.2.2 _ _ _ _ _ _ (x0) (x1) (x2) s1 _ w) (lw_S q363 q364 q123 q365) rfl rfl (by decide +kernel) ⟨Nat.le_of_ble_eq_true rfl, Nat.le_of_ble_eq_true rfl⟩ rfl rfl rfl (Nat.le_of_ble_eq_true rfl) dJ9_checkBoundsOffCount_6 ⟨Nat.le_of_ble_eq_true rfl, Nat.le_of_ble_eq_true rfl⟩) (fun r2 w => ?_)
  exact g_iret (f := xW0 z T L V P) (u := ()) O hQ rfl rfl w dJ9_checkBoundsOffCount_9
-- J10_checkBoundsOffCount
abbrev rJ10_checkBoundsOffCount : Room := { frames := 1, cells := 0, slots := 0, locals := 12 }
set_option maxHeartbeats 4000000 in
theorem kJ10_checkBoundsOffCount (l : Launch) (hfl : l.flags = flags0) (E : w_E) (z : Nat) (T L : Nat → Nat) (V : w_V) (P : w_P) (x0 : Int32) (x1 : Int32) (d2 a2 k2 n2 : Nat) (h2 : hArr T L d2 a2 k2 n2 1) (g2 : n2 < 2147483648) (post : Prop) (w : wJ10_checkBoundsOffCount E.2.2.2.2 T L V P x0 x1 a2 k2 n2 post) : gMv l yJ10_checkBoundsOffCount (ws_ yJ10_checkBoundsOffCount cJ10_checkBoundsOffCount 3 none) rJ10_checkBoundsOffCount 0 0 E [.int x0, .int x1, .ref d2] (z, T, L, V, P) (xW0 z T L V P) (fun (_ : Unit) => post) := by
  refine g_start (S := Unit) hfl (by decide +kernel) rfl [some (.int x0), some (.int x1), some (.ref d2)] rfl (fun _ h => h) (Nat.le_of_ble_eq_true rfl) (fun X hl hRm hEe O hQ => ?_)
  subst hl
  subst hEe
  unfold wJ10_checkBoundsOffCount at w
  refine g_iload_n O dJ10_checkBoundsOffCount_0 rfl ?_
  refine g_iload_n O dJ10_checkBoundsOffCount_1 rfl ?_
  refine g_aload_n O dJ10_checkBoundsOffCount_2 rfl ?_
  exact w.elim
-- J7_ensureCapacityInternal
abbrev rJ7_ensureCapacityInternal : Room := { frames := 1, cells := 0, slots := 0, locals := 12 }
set_option maxHeartbeats 4000000 in
theorem kJ7_ensureCapacityInternal (l : Launch) (hfl : l.flags = flags0) (E : w_E) (z : Nat) (T L : Nat → Nat) (V : w_V) (P : w_P) (t : Nat) (hT : T t = 19) (x1 : Int32) (post : w_V → w_P → Prop) (w : wJ7_ensureCapacityInternal E.2.2.2.2 T L V P t x1 post) : gMv l yJ7_ensureCapacityInternal (ws_ yJ7_ensureCapacityInternal cJ7_ensureCapacityInternal 3 none) rJ7_ensureCapacityInternal 0 0 E [.ref t, .int x1] (z, T, L, V, P) (xW2 z T L) (fun (u : w_V × w_P) => post u.1 u.2) := by
  refine g_start (S := Unit) hfl (by decide +kernel) rfl [some (.ref t), some (.int x1), none] rfl (fun _ h => h) (Nat.le_of_ble_eq_true rfl) (fun X hl hRm hEe O hQ => ?_)
  subst hl
  subst hEe
  unfold wJ7_ensureCapacityInternal at w
  refine g_aload_n O dJ7_ensureCapacityInternal_0 rfl ?_
  obtain ⟨b1, a3, k4, n5, hp2, h6, g7, w⟩ := w
  refine gx_getR (lay := 18) (j := 0) O ck18 (by decide) rfl rfl hp2 (by decide) hT q236 dJ7_ensureCapacityInternal_1 ?_
  refine gx_alen (a := a3) (kk0 := k4) (len := n5) (ty := 1) (fty := .byte) O h6 rfl dJ7_ensureCapacityInternal_4 ?_
  refine g_aload_n O dJ7_ensureCapacityInternal_5 rfl ?_
  refine gx_getI (lay := 18) (j := 1) O ck18 (by decide) rfl rfl (by decide) hT q237 dJ7_ensureCapacityInternal_6 ?_
  refine g_ishr O dJ7_ensureCapacityInternal_9 ?_
  refine g_istore_n O dJ7_ensureCapacityInternal_10 (Nat.le_of_ble_eq_true rfl) rfl (lv' := [some (.ref t), some (.int x1), some (.int (((nI n5) : Int32) >>> (((V t 0 1) : Int32) &&& 31)))]) rfl ?_
  refine g_iload_n O dJ7_ensureCapacityInternal_11 rfl ?_
  refine g_iload_n O dJ7_ensureCapacityInternal_12 rfl ?_
  refine g_isub O dJ7_ensureCapacityInternal_13 ?_
  refine g_if_le (tgt := 38) O w dJ7_ensureCapacityInternal_14 (by decide) (fun w => ?_) (fun w => ?_)
  · exact g_vret (f := xW2 z T L) (u := (V, P)) O hQ rfl w dJ7_ensureCapacityInternal_38
  · refine g_aload_n O dJ7_ensureCapacityInternal_17 rfl ?_
    refine g_aload_n O dJ7_ensureCapacityInternal_18 rfl ?_
    obtain ⟨b8, a10, k11, n12, hp9, h13, g14, w⟩ := w
    refine gx_getR (lay := 18) (j := 0) O ck18 (by decide) rfl rfl hp9 (by decide) hT q236 dJ7_ensureCapacityInternal_19 ?_
    refine g_aload_n O dJ7_ensureCapacityInternal_22 rfl ?_
    refine g_iload_n O dJ7_ensureCapacityInternal_23 rfl ?_
    exact w.elim
-- J7_isLatin1
abbrev rJ7_isLatin1 : Room := { frames := 1, cells := 0, slots := 0, locals := 12 }
set_option maxHeartbeats 4000000 in
theorem kJ7_isLatin1 (l : Launch) (hfl : l.flags = flags0) (E : w_E) (z : Nat) (T L : Nat → Nat) (V : w_V) (P : w_P) (t : Nat) (hT : T t = 19) (post : Int32 → Prop) (w : wJ7_isLatin1 E.2.2.2.2 T L V P t post) : gMi l yJ7_isLatin1 (ws_ yJ7_isLatin1 cJ7_isLatin1 1 (some .boolean)) rJ7_isLatin1 0 0 E [.ref t] (z, T, L, V, P) (xW0 z T L V P) (fun x (_ : Unit) => post x) := by
  refine g_start (S := Unit) hfl (by decide +kernel) rfl [some (.ref t)] rfl (fun _ h => h) (Nat.le_of_ble_eq_true rfl) (fun X hl hRm hEe O hQ => ?_)
  subst hl
  subst hEe
  unfold wJ7_isLatin1 at w
  refine gs_compact O q227 dJ7_isLatin1_0 ?_
  refine g_if_eq_f O (by decide) dJ7_isLatin1_3 17 (by decide) ?_
  refine g_aload_n O dJ7_isLatin1_6 rfl ?_
  refine gx_getI (lay := 18) (j := 1) O ck18 (by decide) rfl rfl (by decide) hT q237 dJ7_isLatin1_7 ?_
  refine g_if_ne (tgt := 17) O w dJ7_isLatin1_10 (by decide) (fun w => ?_) (fun w => ?_)
  · refine g_iconst (v := 0) O dJ7_isLatin1_17 (by decide) ?_
    exact g_iret (f := xW0 z T L V P) (u := ()) O hQ rfl rfl w dJ7_isLatin1_18
  · refine g_iconst (v := 1) O dJ7_isLatin1_13 (by decide) ?_
    refine g_goto (tgt := 18) O dJ7_isLatin1_14 (by decide) ?_
    exact g_iret (f := xW0 z T L V P) (u := ()) O hQ rfl rfl w dJ7_isLatin1_18
-- J7_appendNull
abbrev rJ7_appendNull : Room := { frames := 2, cells := 0, slots := 0, locals := 34 }
set_option maxHeartbeats 4000000 in
theorem vjJ7_appendNull_76 {X : Cx} {z : Nat} {T L : Nat → Nat} {V : w_V} {P : w_P} (O : Okc X cJ7_appendNull RJ7 3 (some (.object "java/lang/AbstractStringBuilder"))) (hRm : cxR X = rJ7_appendNull) (t : Nat) (hT : T t = 19) (x1 : Int32) (post : Nat → w_V → w_P → Prop) (hQ : cxMQ X (va_Qq (fun x (u : w_V × w_P) => qN (fun b => post b u.1 u.2) x) (fun u t => wdW (cxE X) (xW2 z T L u) t.heap) (w_A (cxE X))) 0 0) (w : jJ7_appendNull_76 (cxE X).2.2.2.2 T L V P t x1 post) : gW X 0 0 z T L V P 76 [some (.ref t), some (.int x1), none] [] := by
  unfold jJ7_appendNull_76 at w
  refine g_aload_n O dJ7_appendNull_76 rfl ?_
  refine g_iload_n O dJ7_appendNull_77 rfl ?_
  refine gx_putI (lay := 18) (j := 3) (ty := .int) O ck18 (by decide) rfl rfl (by decide) hT q239 rfl rfl rfl rfl dJ7_appendNull_78 ?_
  refine g_nV w (fun V30 w _ => ?_)
  refine g_aload_n O dJ7_appendNull_81 rfl ?_
  exact g_aret (r := some t) (f := xW2 z T L) (u := (V30, P)) O hQ (by first | exact Or.inl ⟨_, rfl⟩ | exact Or.inr ⟨_, rfl⟩) rfl ⟨_, rfl, w⟩ dJ7_appendNull_82
set_option maxHeartbeats 4000000 in
theorem kJ7_appendNull (l : Launch) (hfl : l.flags = flags0) (E : w_E) (z : Nat) (T L : Nat → Nat) (V : w_V) (P : w_P) (t : Nat) (hT : T t = 19) (post : Nat → w_V → w_P → Prop) (w : wJ7_appendNull E.2.2.2.2 T L V P t post) : gMr l yJ7_appendNull (ws_ yJ7_appendNull cJ7_appendNull 3 (some (.object "java/lang/AbstractStringBuilder"))) rJ7_appendNull 0 0 E [.ref t] (z, T, L, V, P) (xW2 z T L) (fun x (u : w_V × w_P) => qN (fun b => post b u.1 u.2) x) := by
  refine g_start (S := Unit) hfl (by decide +kernel) rfl [some (.ref t), none, none] rfl (fun _ h => h) (Nat.le_of_ble_eq_true rfl) (fun X hl hRm hEe O hQ => ?_)
  subst hl
  subst hEe
  unfold wJ7_appendNull at w
  refine g_aload_n O dJ7_appendNull_0 rfl ?_
  refine g_aload_n O dJ7_appendNull_1 rfl ?_
  refine gx_getI (lay := 18) (j := 3) O ck18 (by decide) rfl rfl (by decide) hT q239 dJ7_appendNull_2 ?_
  refine g_iconst (v := 4) O dJ7_appendNull_5 (by decide) ?_
  refine g_iadd O dJ7_appendNull_6 ?_
  refine g_rv2 (gr_P (lay := 18) (nA := 1) (As := [.int ((V t 0 3) + 4)]) (rest := []) (N0 := 4) (x0 := ⟨"java/lang/AbstractStringBuilder", "isLatin1", "()Z"⟩) (y0 := ⟨"java/lang/AbstractStringBuilder", "isLatin1", "()Z"⟩) O hRm (kJ7_ensureCapacityInternal _ O.2.2.2.2.2.2.2.2 _ _ _ _ _ _ t hT (((V t 0 3) + 4)) _ w) (lw_meth q266) q263 q2336 q265 q115 q266 q219 q264 q301 rfl rfl rfl (by decide +kernel) ⟨Nat.le_of_ble_eq_true rfl, Nat.le_of_ble_eq_true rfl⟩ ck18 (by decide) rfl hT rfl rfl rfl (Nat.le_of_ble_eq_true rfl) dJ7_appendNull_7 ⟨Nat.le_of_ble_eq_true rfl, Nat.le_of_ble_eq_true rfl⟩) (fun V2 P3 w => ?_)
  refine g_aload_n O dJ7_appendNull_10 rfl ?_
  refine gx_getI (lay := 18) (j := 3) O ck18 (by decide) rfl rfl (by decide) hT q239 dJ7_appendNull_11 ?_
  refine g_istore_n O dJ7_appendNull_14 (Nat.le_of_ble_eq_true rfl) rfl (lv' := [some (.ref t), some (.int (V2 t 0 3)), none]) rfl ?_
  refine g_aload_n O dJ7_appendNull_15 rfl ?_
  obtain ⟨b4, a6, k7, n8, hp5, h9, g10, w⟩ := w
  refine gx_getR (lay := 18) (j := 0) O ck18 (by decide) rfl rfl hp5 (by decide) hT q236 dJ7_appendNull_16 ?_
  refine g_astore_n O dJ7_appendNull_19 (Nat.le_of_ble_eq_true rfl) rfl (lv' := [some (.ref t), some (.int (V2 t 0 3)), some (.ref b4)]) rfl ?_
  refine g_aload_n O dJ7_appendNull_20 rfl ?_
  refine g_ri0 (gr_U (owner := "java/lang/AbstractStringBuilder") (lay := 18) (nA := 0) (As := []) (rest := []) O hRm (kJ7_isLatin1 _ O.2.2.2.2.2.2.2.2 _ _ _ _ _ _ t hT _ w) (lw_U q298 q300 q301 q299 q115 q302) rfl rfl rfl (by decide +kernel) ⟨Nat.le_of_ble_eq_true rfl, Nat.le_of_ble_eq_true rfl⟩ ck18 (by decide) rfl hT rfl rfl rfl (Nat.le_of_ble_eq_true rfl) dJ7_appendNull_21 ⟨Nat.le_of_ble_eq_true rfl, Nat.le_of_ble_eq_true rfl⟩) (fun r11 w => ?_)
  refine g_if_eq (tgt := 62) O w dJ7_appendNull_24 (by decide) (fun w => ?_) (fun w => ?_)
  · refine g_aload_n O dJ7_appendNull_62 rfl ?_
    refine g_iload_n O dJ7_appendNull_63 rfl ?_
    refine g_bipush (v := 110) O dJ7_appendNull_64 (by decide) ?_
    refine g_bipush (v := 117) O dJ7_appendNull_66 (by decide) ?_
    refine g_bipush (v := 108) O dJ7_appendNull_68 (by decide) ?_
    refine g_bipush (v := 108) O dJ7_appendNull_70 (by decide) ?_
    exact w.elim
  · refine g_aload_n O dJ7_appendNull_27 rfl ?_
    refine g_iload_n O dJ7_appendNull_28 rfl ?_
    refine g_iinc (v := ((V2 t 0 3) + 1)) O dJ7_appendNull_29 rfl rfl rfl (lv' := [some (.ref t), some (.int ((V2 t 0 3) + 1)), some (.ref b4)]) rfl ?_
    refine g_bipush (v := 110) O dJ7_appendNull_32 (by decide) ?_
    obtain ⟨i14, hi15, e16, w⟩ := w
    refine gx_bast (a := a6) (kk0 := k7) (len := n8) (nn := i14) O h9 hi15 g10 e16 dJ7_appendNull_34 ?_
    refine g_nV w (fun V17 w _ => ?_)
    refine g_aload_n O dJ7_appendNull_35 rfl ?_
    refine g_iload_n O dJ7_appendNull_36 rfl ?_
    refine g_iinc (v := (((V2 t 0 3) + 1) + 1)) O dJ7_appendNull_37 rfl rfl rfl (lv' := [some (.ref t), some (.int (((V2 t 0 3) + 1) + 1)), some (.ref b4)]) rfl ?_
    refine g_bipush (v := 117) O dJ7_appendNull_40 (by decide) ?_
    obtain ⟨i18, hi19, e20, w⟩ := w
    refine gx_bast (a := a6) (kk0 := k7) (len := n8) (nn := i18) O h9 hi19 g10 e20 dJ7_appendNull_42 ?_
    refine g_nV w (fun V21 w _ => ?_)
    refine g_aload_n O dJ7_appendNull_43 rfl ?_
    refine g_iload_n O dJ7_appendNull_44 rfl ?_
    refine g_iinc (v := ((((V2 t 0 3) + 1) + 1) + 1)) O dJ7_appendNull_45 rfl rfl rfl (lv' := [some (.ref t), some (.int ((((V2 t 0 3) + 1) + 1) + 1)), some (.ref b4)]) rfl ?_
    refine g_bipush (v := 108) O dJ7_appendNull_48 (by decide) ?_
    obtain ⟨i22, hi23, e24, w⟩ := w
    refine gx_bast (a := a6) (kk0 := k7) (len := n8) (nn := i22) O h9 hi23 g10 e24 dJ7_appendNull_50 ?_
    refine g_nV w (fun V25 w _ => ?_)
    refine g_aload_n O dJ7_appendNull_51 rfl ?_
    refine g_iload_n O dJ7_appendNull_52 rfl ?_
    refine g_iinc (v := (((((V2 t 0 3) + 1) + 1) + 1) + 1)) O dJ7_appendNull_53 rfl rfl rfl (lv' := [some (.ref t), some (.int (((((V2 t 0 3) + 1) + 1) + 1) + 1)), some (.ref b4)]) rfl ?_
    refine g_bipush (v := 108) O dJ7_appendNull_56 (by decide) ?_
    obtain ⟨i26, hi27, e28, w⟩ := w
    refine gx_bast (a := a6) (kk0 := k7) (len := n8) (nn := i26) O h9 hi27 g10 e28 dJ7_appendNull_58 ?_
    refine g_nV w (fun V29 w _ => ?_)
    refine g_goto (tgt := 76) O dJ7_appendNull_59 (by decide) ?_
    refine g_drop [2] (lv' := [some (.ref t), some (.int (((((V2 t 0 3) + 1) + 1) + 1) + 1)), none]) rfl ?_
    exact vjJ7_appendNull_76 O hRm (V := V29) (P := P3) t hT ((((((V2 t 0 3) + 1) + 1) + 1) + 1)) post hQ w
-- J9_coder
abbrev rJ9_coder : Room := { frames := 1, cells := 0, slots := 0, locals := 12 }
set_option maxHeartbeats 4000000 in
theorem kJ9_coder (l : Launch) (hfl : l.flags = flags0) (E : w_E) (z : Nat) (T L : Nat → Nat) (V : w_V) (P : w_P) (t : Nat) (hT : T t = 18) (post : Int32 → Prop) (w : wJ9_coder E.2.2.2.2 T L V P t post) : gMi l yJ9_coder (ws_ yJ9_coder cJ9_coder 1 (some .byte)) rJ9_coder 0 0 E [.ref t] (z, T, L, V, P) (xW0 z T L V P) (fun x (_ : Unit) => post x) := by
  refine g_start (S := Unit) hfl (by decide +kernel) rfl [some (.ref t)] rfl (fun _ h => h) (Nat.le_of_ble_eq_true rfl) (fun X hl hRm hEe O hQ => ?_)
  subst hl
  subst hEe
  unfold wJ9_coder at w
  refine gs_compact O q337 dJ9_coder_0 ?_
  refine g_if_eq_f O (by decide) dJ9_coder_3 13 (by decide) ?_
  refine g_aload_n O dJ9_coder_6 rfl ?_
  refine gx_getI (lay := 17) (j := 1) O ck17 (by decide) rfl rfl (by decide) hT q479 dJ9_coder_7 ?_
  refine g_goto (tgt := 14) O dJ9_coder_10 (by decide) ?_
  exact g_iret (f := xW0 z T L V P) (u := ()) O hQ w.1 rfl w.2 dJ9_coder_14
-- J9k_coder
abbrev rJ9k_coder : Room := { frames := 1, cells := 0, slots := 0, locals := 12 }
set_option maxHeartbeats 4000000 in
theorem kJ9k_coder (l : Launch) (hfl : l.flags = flags0) (E : w_E) (z : Nat) (T L : Nat → Nat) (V : w_V) (P : w_P) (x0 : Nat) (tx0 : List Nat) (hs0 : isStr E x0 tx0) (post : Int32 → Prop) (w : wJ9k_coder E.2.2.2.2 T L V P x0 tx0 post) : gMi l yJ9_coder (ws_ yJ9_coder cJ9_coder 1 (some .byte)) rJ9k_coder 0 0 E [.ref x0] (z, T, L, V, P) (xW0 z T L V P) (fun x (_ : Unit) => post x) := by
  refine g_start (S := Unit) hfl (by decide +kernel) rfl [some (.ref x0)] rfl (fun _ h => h) (Nat.le_of_ble_eq_true rfl) (fun X hl hRm hEe O hQ => ?_)
  subst hl
  subst hEe
  unfold wJ9k_coder at w
  refine gs_compact O q337 dJ9_coder_0 ?_
  refine g_if_eq_f O (by decide) dJ9_coder_3 13 (by decide) ?_
  refine g_aload_n O dJ9_coder_6 rfl ?_
  refine gs_coder O hs0 q479 dJ9_coder_7 ?_
  refine g_goto (tgt := 14) O dJ9_coder_10 (by decide) ?_
  exact g_iret (f := xW0 z T L V P) (u := ()) O hQ rfl rfl w dJ9_coder_14
-- J7_inflateIfNeededFor
abbrev rJ7_inflateIfNeededFor : Room := { frames := 2, cells := 0, slots := 0, locals := 32 }
set_option maxHeartbeats 4000000 in
theorem kJ7_inflateIfNeededFor (l : Launch) (hfl : l.flags = flags0) (E : w_E) (z : Nat) (T L : Nat → Nat) (V : w_V) (P : w_P) (t : Nat) (hT : T t = 19) (x1 : Nat) (hx1 : T x1 = 18) (post : Prop) (w : wJ7_inflateIfNeededFor E.2.2.2.2 T L V P t x1 post) : gMv l yJ7_inflateIfNeededFor (ws_ yJ7_inflateIfNeededFor cJ7_inflateIfNeededFor 2 none) rJ7_inflateIfNeededFor 0 0 E [.ref t, .ref x1] (z, T, L, V, P) (xW0 z T L V P) (fun (_ : Unit) => post) := by
  refine g_start (S := Unit) hfl (by decide +kernel) rfl [some (.ref t), some (.ref x1)] rfl (fun _ h => h) (Nat.le_of_ble_eq_true rfl) (fun X hl hRm hEe O hQ => ?_)
  subst hl
  subst hEe
  unfold wJ7_inflateIfNeededFor at w
  refine gs_compact O q227 dJ7_inflateIfNeededFor_0 ?_
  refine g_if_eq_f O (by decide) dJ7_inflateIfNeededFor_3 21 (by decide) ?_
  refine g_aload_n O dJ7_inflateIfNeededFor_6 rfl ?_
  refine gx_getI (lay := 18) (j := 1) O ck18 (by decide) rfl rfl (by decide) hT q237 dJ7_inflateIfNeededFor_7 ?_
  refine g_aload_n O dJ7_inflateIfNeededFor_10 rfl ?_
  refine g_ri0 (gr_V (lay := 17) (nA := 0) (As := []) (rest := [.int (V t 0 1)]) O hRm (kJ9_coder _ O.2.2.2.2.2.2.2.2 _ _ _ _ _ _ x1 hx1 _ w) (lw_V q346 q334 q335 q117 q336) rfl rfl (by decide +kernel) ⟨Nat.le_of_ble_eq_true rfl, Nat.le_of_ble_eq_true rfl⟩ ck17 (by decide) rfl hx1 rfl rfl rfl (Nat.le_of_ble_eq_true rfl) dJ7_inflateIfNeededFor_11 ⟨Nat.le_of_ble_eq_true rfl, Nat.le_of_ble_eq_true rfl⟩) (fun r1 w => ?_)
  refine g_icmp_eq (tgt := 21) O w dJ7_inflateIfNeededFor_14 (by decide) (fun w => ?_) (fun w => ?_)
  · exact g_vret (f := xW0 z T L V P) (u := ()) O hQ rfl w dJ7_inflateIfNeededFor_21
  · refine g_aload_n O dJ7_inflateIfNeededFor_17 rfl ?_
    exact w.elim
-- J15_inflate
abbrev rJ15_inflate : Room := { frames := 1, cells := 0, slots := 0, locals := 12 }
set_option maxHeartbeats 4000000 in
theorem kJ15_inflate (l : Launch) (hfl : l.flags = flags0) (E : w_E) (z : Nat) (T L : Nat → Nat) (V : w_V) (P : w_P) (d0 a0 k0 n0 : Nat) (h0 : hArr T L d0 a0 k0 n0 1) (g0 : n0 < 2147483648) (x1 : Int32) (d2 a2 k2 n2 : Nat) (h2 : hArr T L d2 a2 k2 n2 1) (g2 : n2 < 2147483648) (x3 : Int32) (x4 : Int32) (post : Prop) (w : wJ15_inflate E.2.2.2.2 T L V P a0 k0 n0 x1 a2 k2 n2 x3 x4 post) : gMv l yJ15_inflate (ws_ yJ15_inflate cJ15_inflate 5 none) rJ15_inflate 0 0 E [.ref d0, .int x1, .ref d2, .int x3, .int x4] (z, T, L, V, P) (xW0 z T L V P) (fun (_ : Unit) => post) := by
  refine g_start (S := Unit) hfl (by decide +kernel) rfl [some (.ref d0), some (.int x1), some (.ref d2), some (.int x3), some (.int x4)] rfl (fun _ h => h) (Nat.le_of_ble_eq_true rfl) (fun X hl hRm hEe O hQ => ?_)
  subst hl
  subst hEe
  unfold wJ15_inflate at w
  refine g_aload_n O dJ15_inflate_0 rfl ?_
  refine g_iload_n O dJ15_inflate_1 rfl ?_
  refine g_aload_n O dJ15_inflate_2 rfl ?_
  refine g_iload_n O dJ15_inflate_3 rfl ?_
  refine g_iload O dJ15_inflate_4 rfl ?_
  exact w.elim
-- J9_getBytes
abbrev rJ9_getBytes : Room := { frames := 2, cells := 0, slots := 0, locals := 60 }
set_option maxHeartbeats 4000000 in
theorem kJ9_getBytes (l : Launch) (hfl : l.flags = flags0) (E : w_E) (z : Nat) (T L : Nat → Nat) (V : w_V) (P : w_P) (t : Nat) (hT : T t = 18) (d1 a1 k1 n1 : Nat) (h1 : hArr T L d1 a1 k1 n1 1) (g1 : n1 < 2147483648) (x2 : Int32) (x3 : Int32) (post : w_V → Prop) (w : wJ9_getBytes E.2.2.2.2 T L V P t a1 k1 n1 x2 x3 post) : gMv l yJ9_getBytes (ws_ yJ9_getBytes cJ9_getBytes 4 none) rJ9_getBytes 0 0 E [.ref t, .ref d1, .int x2, .int x3] (z, T, L, V, P) (xW1 z T L P) post := by
  refine g_start (S := Unit) hfl (by decide +kernel) rfl [some (.ref t), some (.ref d1), some (.int x2), some (.int x3)] rfl (fun _ h => h) (Nat.le_of_ble_eq_true rfl) (fun X hl hRm hEe O hQ => ?_)
  subst hl
  subst hEe
  unfold wJ9_getBytes at w
  refine g_aload_n O dJ9_getBytes_0 rfl ?_
  refine g_ri0 (gr_V (lay := 17) (nA := 0) (As := []) (rest := []) O hRm (kJ9_coder _ O.2.2.2.2.2.2.2.2 _ _ _ _ _ _ t hT _ w) (lw_V q333 q334 q335 q117 q336) rfl rfl (by decide +kernel) ⟨Nat.le_of_ble_eq_true rfl, Nat.le_of_ble_eq_true rfl⟩ ck17 (by decide) rfl hT rfl rfl rfl (Nat.le_of_ble_eq_true rfl) dJ9_getBytes_1 ⟨Nat.le_of_ble_eq_true rfl, Nat.le_of_ble_eq_true rfl⟩) (fun r1 w => ?_)
  refine g_iload_n O dJ9_getBytes_4 rfl ?_
  refine g_icmp_ne (tgt := 28) O w dJ9_getBytes_5 (by decide) (fun w => ?_) (fun w => ?_)
  · refine g_aload_n O dJ9_getBytes_28 rfl ?_
    obtain ⟨b4, a6, k7, n8, hp5, h9, g10, w⟩ := w
    refine gx_getR (lay := 17) (j := 0) O ck17 (by decide) rfl rfl hp5 (by decide) hT q478 dJ9_getBytes_29 ?_
    refine g_iconst (v := 0) O dJ9_getBytes_32 (by decide) ?_
    refine g_aload_n O dJ9_getBytes_33 rfl ?_
    refine g_iload_n O dJ9_getBytes_34 rfl ?_
    refine g_aload_n O dJ9_getBytes_35 rfl ?_
    obtain ⟨b11, a13, k14, n15, hp12, h16, g17, w⟩ := w
    refine gx_getR (lay := 17) (j := 0) O ck17 (by decide) rfl rfl hp12 (by decide) hT q478 dJ9_getBytes_36 ?_
    refine gx_alen (a := a13) (kk0 := k14) (len := n15) (ty := 1) (fty := .byte) O h16 rfl dJ9_getBytes_39 ?_
    refine g_rv0 (gr_S (nA := 5) (As := [.ref b4, .int 0, .ref d1, .int x2, .int (nI n15)]) (rest := []) O hRm (kJ15_inflate _ O.2.2.2.2.2.2.2.2 _ _ _ _ _ _ (b4) a6 k7 n8 h9 g10 (0) (d1) a1 k1 n1 h1 g1 (x2) ((nI n15)) _ w) (lw_S q371 q352 q124 q353) rfl rfl (by decide +kernel) ⟨Nat.le_of_ble_eq_true rfl, Nat.le_of_ble_eq_true rfl⟩ rfl rfl rfl (Nat.le_of_ble_eq_true rfl) dJ9_getBytes_40 ⟨Nat.le_of_ble_eq_true rfl, Nat.le_of_ble_eq_true rfl⟩) (fun w => ?_)
    exact g_vret (f := xW1 z T L P) (u := V) O hQ rfl w dJ9_getBytes_43
  · refine g_aload_n O dJ9_getBytes_8 rfl ?_
    obtain ⟨b21, a23, k24, n25, hp22, h26, g27, w⟩ := w
    refine gx_getR (lay := 17) (j := 0) O ck17 (by decide) rfl rfl hp22 (by decide) hT q478 dJ9_getBytes_9 ?_
    refine g_iconst (v := 0) O dJ9_getBytes_12 (by decide) ?_
    refine g_aload_n O dJ9_getBytes_13 rfl ?_
    refine g_iload_n O dJ9_getBytes_14 rfl ?_
    refine g_iload_n O dJ9_getBytes_15 rfl ?_
    refine g_ishl O dJ9_getBytes_16 ?_
    refine g_aload_n O dJ9_getBytes_17 rfl ?_
    obtain ⟨b28, a30, k31, n32, hp29, h33, g34, w⟩ := w
    refine gx_getR (lay := 17) (j := 0) O ck17 (by decide) rfl rfl hp29 (by decide) hT q478 dJ9_getBytes_18 ?_
    refine gx_alen (a := a30) (kk0 := k31) (len := n32) (ty := 1) (fty := .byte) O h33 rfl dJ9_getBytes_21 ?_
    obtain ⟨i35, j36, m37, e38, e39, e40, h41, h42, hf43, w⟩ := w
    refine gx_copy (a0 := a23) (k0 := k24) (n0 := n25) (a1 := a1) (k1 := k1) (n1 := n1) (ty := 1) (sp := i35) (dp := j36) (nn := m37) (fty := .byte) O hRm q370 h26 h1 rfl rfl e38 e39 e40 h41 h42 g27 g1 hf43 (Nat.le_of_ble_eq_true rfl) (Nat.le_of_ble_eq_true rfl) rfl dJ9_getBytes_22 ?_
    refine g_nV w (fun V44 w _ => ?_)
    refine g_goto (tgt := 43) O dJ9_getBytes_25 (by decide) ?_
    exact g_vret (f := xW1 z T L P) (u := V44) O hQ rfl w dJ9_getBytes_43
-- J7_putStringAt
abbrev rJ7_putStringAt : Room := { frames := 3, cells := 0, slots := 0, locals := 83 }
set_option maxHeartbeats 4000000 in
theorem kJ7_putStringAt (l : Launch) (hfl : l.flags = flags0) (E : w_E) (z : Nat) (T L : Nat → Nat) (V : w_V) (P : w_P) (t : Nat) (hT : T t = 19) (x1 : Int32) (x2 : Nat) (hx2 : T x2 = 18) (post : w_V → Prop) (w : wJ7_putStringAt E.2.2.2.2 T L V P t x1 x2 post) : gMv l yJ7_putStringAt (ws_ yJ7_putStringAt cJ7_putStringAt 3 none) rJ7_putStringAt 0 0 E [.ref t, .int x1, .ref x2] (z, T, L, V, P) (xW1 z T L P) post := by
  refine g_start (S := Unit) hfl (by decide +kernel) rfl [some (.ref t), some (.int x1), some (.ref x2)] rfl (fun _ h => h) (Nat.le_of_ble_eq_true rfl) (fun X hl hRm hEe O hQ => ?_)
  subst hl
  subst hEe
  unfold wJ7_putStringAt at w
  refine g_aload_n O dJ7_putStringAt_0 rfl ?_
  refine g_aload_n O dJ7_putStringAt_1 rfl ?_
  refine g_rv0 (gr_P (lay := 18) (nA := 1) (As := [.ref x2]) (rest := []) (N0 := 4) (x0 := ⟨"java/lang/AbstractStringBuilder", "isLatin1", "()Z"⟩) (y0 := ⟨"java/lang/AbstractStringBuilder", "isLatin1", "()Z"⟩) O hRm (kJ7_inflateIfNeededFor _ O.2.2.2.2.2.2.2.2 _ _ _ _ _ _ t hT x2 hx2 _ w) (lw_meth q345) q342 q2339 q344 q115 q345 q219 q343 q301 rfl rfl rfl (by decide +kernel) ⟨Nat.le_of_ble_eq_true rfl, Nat.le_of_ble_eq_true rfl⟩ ck18 (by decide) rfl hT rfl rfl rfl (Nat.le_of_ble_eq_true rfl) dJ7_putStringAt_2 ⟨Nat.le_of_ble_eq_true rfl, Nat.le_of_ble_eq_true rfl⟩) (fun w => ?_)
  refine g_aload_n O dJ7_putStringAt_5 rfl ?_
  refine g_aload_n O dJ7_putStringAt_6 rfl ?_
  obtain ⟨b4, a6, k7, n8, hp5, h9, g10, w⟩ := w
  refine gx_getR (lay := 18) (j := 0) O ck18 (by decide) rfl rfl hp5 (by decide) hT q236 dJ7_putStringAt_7 ?_
  refine g_iload_n O dJ7_putStringAt_10 rfl ?_
  refine g_aload_n O dJ7_putStringAt_11 rfl ?_
  refine gx_getI (lay := 18) (j := 1) O ck18 (by decide) rfl rfl (by decide) hT q237 dJ7_putStringAt_12 ?_
  refine g_rv1 (gr_V (lay := 17) (nA := 3) (As := [.ref b4, .int x1, .int (V t 0 1)]) (rest := []) O hRm (kJ9_getBytes _ O.2.2.2.2.2.2.2.2 _ _ _ _ _ _ x2 hx2 (b4) a6 k7 n8 h9 g10 (x1) ((V t 0 1)) _ w) (lw_V q366 q367 q368 q117 q369) rfl rfl (by decide +kernel) ⟨Nat.le_of_ble_eq_true rfl, Nat.le_of_ble_eq_true rfl⟩ ck17 (by decide) rfl hx2 rfl rfl rfl (Nat.le_of_ble_eq_true rfl) dJ7_putStringAt_15 ⟨Nat.le_of_ble_eq_true rfl, Nat.le_of_ble_eq_true rfl⟩) (fun V12 w => ?_)
  exact g_vret (f := xW1 z T L P) (u := V12) O hQ rfl w dJ7_putStringAt_18
-- J9_length
abbrev rJ9_length : Room := { frames := 2, cells := 0, slots := 0, locals := 32 }
set_option maxHeartbeats 4000000 in
theorem kJ9_length (l : Launch) (hfl : l.flags = flags0) (E : w_E) (z : Nat) (T L : Nat → Nat) (V : w_V) (P : w_P) (t : Nat) (hT : T t = 18) (post : Int32 → Prop) (w : wJ9_length E.2.2.2.2 T L V P t post) : gMi l yJ9_length (ws_ yJ9_length cJ9_length 1 (some .int)) rJ9_length 0 0 E [.ref t] (z, T, L, V, P) (xW0 z T L V P) (fun x (_ : Unit) => post x) := by
  refine g_start (S := Unit) hfl (by decide +kernel) rfl [some (.ref t)] rfl (fun _ h => h) (Nat.le_of_ble_eq_true rfl) (fun X hl hRm hEe O hQ => ?_)
  subst hl
  subst hEe
  unfold wJ9_length at w
  refine g_aload_n O dJ9_length_0 rfl ?_
  obtain ⟨b1, a3, k4, n5, hp2, h6, g7, w⟩ := w
  refine gx_getR (lay := 17) (j := 0) O ck17 (by decide) rfl rfl hp2 (by decide) hT q478 dJ9_length_1 ?_
  refine gx_alen (a := a3) (kk0 := k4) (len := n5) (ty := 1) (fty := .byte) O h6 rfl dJ9_length_4 ?_
  refine g_aload_n O dJ9_length_5 rfl ?_
  refine g_ri0 (gr_V (lay := 17) (nA := 0) (As := []) (rest := [.int (nI n5)]) O hRm (kJ9_coder _ O.2.2.2.2.2.2.2.2 _ _ _ _ _ _ t hT _ w) (lw_V q333 q334 q335 q117 q336) rfl rfl (by decide +kernel) ⟨Nat.le_of_ble_eq_true rfl, Nat.le_of_ble_eq_true rfl⟩ ck17 (by decide) rfl hT rfl rfl rfl (Nat.le_of_ble_eq_true rfl) dJ9_length_6 ⟨Nat.le_of_ble_eq_true rfl, Nat.le_of_ble_eq_true rfl⟩) (fun r8 w => ?_)
  refine g_ishr O dJ9_length_9 ?_
  exact g_iret (f := xW0 z T L V P) (u := ()) O hQ rfl rfl w dJ9_length_10
-- J9k_length
abbrev rJ9k_length : Room := { frames := 2, cells := 0, slots := 0, locals := 32 }
set_option maxHeartbeats 4000000 in
theorem kJ9k_length (l : Launch) (hfl : l.flags = flags0) (E : w_E) (z : Nat) (T L : Nat → Nat) (V : w_V) (P : w_P) (x0 : Nat) (tx0 : List Nat) (hs0 : isStr E x0 tx0) (post : Int32 → Prop) (w : wJ9k_length E.2.2.2.2 T L V P x0 tx0 post) : gMi l yJ9_length (ws_ yJ9_length cJ9_length 1 (some .int)) rJ9k_length 0 0 E [.ref x0] (z, T, L, V, P) (xW0 z T L V P) (fun x (_ : Unit) => post x) := by
  refine g_start (S := Unit) hfl (by decide +kernel) rfl [some (.ref x0)] rfl (fun _ h => h) (Nat.le_of_ble_eq_true rfl) (fun X hl hRm hEe O hQ => ?_)
  subst hl
  subst hEe
  unfold wJ9k_length at w
  refine g_aload_n O dJ9_length_0 rfl ?_
  refine gs_value O hs0 q478 dJ9_length_1 (fun v1 hv2 => ?_)
  replace w := w v1
  refine gs_alen O hv2 dJ9_length_4 ?_
  refine g_aload_n O dJ9_length_5 rfl ?_
  refine g_ri0 (gr_Vk (nA := 0) (As := []) (rest := [.int (nI tx0.length)]) O hRm (kJ9k_coder _ O.2.2.2.2.2.2.2.2 _ _ _ _ _ _ x0 tx0 hs0 _ w) (lw_V q333 q334 q335 q117 q336) rfl rfl (by decide +kernel) ⟨Nat.le_of_ble_eq_true rfl, Nat.le_of_ble_eq_true rfl⟩ hs0.1 rfl rfl rfl (Nat.le_of_ble_eq_true rfl) dJ9_length_6 ⟨Nat.le_of_ble_eq_true rfl, Nat.le_of_ble_eq_true rfl⟩) (fun r3 w => ?_)
  refine g_ishr O dJ9_length_9 ?_
  exact g_iret (f := xW0 z T L V P) (u := ()) O hQ rfl rfl w dJ9_length_10
-- J7_append_2
abbrev rJ7_append_2 : Room := { frames := 1, cells := 0, slots := 0, locals := 12 }
set_option maxHeartbeats 4000000 in
theorem kJ7_append_2 (l : Launch) (hfl : l.flags = flags0) (E : w_E) (z : Nat) (T L : Nat → Nat) (V : w_V) (P : w_P) (t : Nat) (hT : T t = 19) (x1 : Int32) (post : Nat → w_V → w_P → Prop) (w : wJ7_append_2 E.2.2.2.2 T L V P t x1 post) : gMr l yJ7_append_2 (ws_ yJ7_append_2 cJ7_append_2 4 (some (.object "java/lang/AbstractStringBuilder"))) rJ7_append_2 0 0 E [.ref t, .int x1] (z, T, L, V, P) (xW2 z T L) (fun x (u : w_V × w_P) => qN (fun b => post b u.1 u.2) x) := by
  refine g_start (S := Unit) hfl (by decide +kernel) rfl [some (.ref t), some (.int x1), none, none] rfl (fun _ h => h) (Nat.le_of_ble_eq_true rfl) (fun X hl hRm hEe O hQ => ?_)
  subst hl
  subst hEe
  unfold wJ7_append_2 at w
  refine g_aload_n O dJ7_append_2_0 rfl ?_
  refine gx_getI (lay := 18) (j := 3) O ck18 (by decide) rfl rfl (by decide) hT q239 dJ7_append_2_1 ?_
  refine g_istore_n O dJ7_append_2_4 (Nat.le_of_ble_eq_true rfl) rfl (lv' := [some (.ref t), some (.int x1), some (.int (V t 0 3)), none]) rfl ?_
  refine g_iload_n O dJ7_append_2_5 rfl ?_
  refine g_iload_n O dJ7_append_2_6 rfl ?_
  exact w.elim
-- J8_append_2
abbrev rJ8_append_2 : Room := { frames := 2, cells := 0, slots := 0, locals := 35 }
set_option maxHeartbeats 4000000 in
theorem kJ8_append_2 (l : Launch) (hfl : l.flags = flags0) (E : w_E) (z : Nat) (T L : Nat → Nat) (V : w_V) (P : w_P) (t : Nat) (hT : T t = 19) (x1 : Int32) (post : Nat → w_V → w_P → Prop) (w : wJ8_append_2 E.2.2.2.2 T L V P t x1 post) : gMr l yJ8_append_2 (ws_ yJ8_append_2 cJ8_append_2 2 (some (.object "java/lang/StringBuilder"))) rJ8_append_2 0 0 E [.ref t, .int x1] (z, T, L, V, P) (xW2 z T L) (fun x (u : w_V × w_P) => qN (fun b => post b u.1 u.2) x) := by
  refine g_start (S := Unit) hfl (by decide +kernel) rfl [some (.ref t), some (.int x1)] rfl (fun _ h => h) (Nat.le_of_ble_eq_true rfl) (fun X hl hRm hEe O hQ => ?_)
  subst hl
  subst hEe
  unfold wJ8_append_2 at w
  refine g_aload_n O dJ8_append_2_0 rfl ?_
  refine g_iload_n O dJ8_append_2_1 rfl ?_
  refine g_rq2 (gr_SU (lay := 18) (nA := 1) (As := [.int x1]) (rest := []) O hRm (kJ7_append_2 _ O.2.2.2.2.2.2.2.2 _ _ _ _ _ _ t (hT) (x1) _ w) (lw_SU q376 q2341 q248 q377 q115 q378) rfl rfl (by decide +kernel) ⟨Nat.le_of_ble_eq_true rfl, Nat.le_of_ble_eq_true rfl⟩ ck18 (by decide) rfl hT rfl rfl rfl (Nat.le_of_ble_eq_true rfl) dJ8_append_2_2 ⟨Nat.le_of_ble_eq_true rfl, Nat.le_of_ble_eq_true rfl⟩) (fun r1 V2 P3 w => ?_)
  refine g_pop O dJ8_append_2_5 rfl ?_
  refine g_aload_n O dJ8_append_2_6 rfl ?_
  exact g_aret (r := some t) (f := xW2 z T L) (u := (V2, P3)) O hQ (by first | exact Or.inl ⟨_, rfl⟩ | exact Or.inr ⟨_, rfl⟩) rfl ⟨_, rfl, w⟩ dJ8_append_2_7
-- J7_getValue
abbrev rJ7_getValue : Room := { frames := 1, cells := 0, slots := 0, locals := 12 }
set_option maxHeartbeats 4000000 in
theorem kJ7_getValue (l : Launch) (hfl : l.flags = flags0) (E : w_E) (z : Nat) (T L : Nat → Nat) (V : w_V) (P : w_P) (t : Nat) (hT : T t = 19) (post : Nat → Prop) (w : wJ7_getValue E.2.2.2.2 T L V P t post) : gMr l yJ7_getValue (ws_ yJ7_getValue cJ7_getValue 1 (some (.array .byte))) rJ7_getValue 0 0 E [.ref t] (z, T, L, V, P) (xW0 z T L V P) (fun x (_ : Unit) => qN post x) := by
  refine g_start (S := Unit) hfl (by decide +kernel) rfl [some (.ref t)] rfl (fun _ h => h) (Nat.le_of_ble_eq_true rfl) (fun X hl hRm hEe O hQ => ?_)
  subst hl
  subst hEe
  unfold wJ7_getValue at w
  refine g_aload_n O dJ7_getValue_0 rfl ?_
  obtain ⟨b1, a3, k4, n5, hp2, h6, g7, w⟩ := w
  refine gx_getR (lay := 18) (j := 0) O ck18 (by decide) rfl rfl hp2 (by decide) hT q236 dJ7_getValue_1 ?_
  exact g_aret (r := some b1) (f := xW0 z T L V P) (u := ()) O hQ (by first | exact Or.inl ⟨_, rfl⟩ | exact Or.inr ⟨_, rfl⟩) rfl ⟨_, rfl, w⟩ dJ7_getValue_4
-- J7_length
abbrev rJ7_length : Room := { frames := 1, cells := 0, slots := 0, locals := 12 }
set_option maxHeartbeats 4000000 in
theorem kJ7_length (l : Launch) (hfl : l.flags = flags0) (E : w_E) (z : Nat) (T L : Nat → Nat) (V : w_V) (P : w_P) (t : Nat) (hT : T t = 19) (post : Int32 → Prop) (w : wJ7_length E.2.2.2.2 T L V P t post) : gMi l yJ7_length (ws_ yJ7_length cJ7_length 1 (some .int)) rJ7_length 0 0 E [.ref t] (z, T, L, V, P) (xW0 z T L V P) (fun x (_ : Unit) => post x) := by
  refine g_start (S := Unit) hfl (by decide +kernel) rfl [some (.ref t)] rfl (fun _ h => h) (Nat.le_of_ble_eq_true rfl) (fun X hl hRm hEe O hQ => ?_)
  subst hl
  subst hEe
  unfold wJ7_length at w
  refine g_aload_n O dJ7_length_0 rfl ?_
  refine gx_getI (lay := 18) (j := 3) O ck18 (by decide) rfl rfl (by decide) hT q239 dJ7_length_1 ?_
  exact g_iret (f := xW0 z T L V P) (u := ()) O hQ rfl rfl w dJ7_length_4
-- J10_compress_2
abbrev rJ10_compress_2 : Room := { frames := 1, cells := 0, slots := 0, locals := 12 }
set_option maxHeartbeats 4000000 in
theorem kJ10_compress_2 (l : Launch) (hfl : l.flags = flags0) (E : w_E) (z : Nat) (T L : Nat → Nat) (V : w_V) (P : w_P) (d0 a0 k0 n0 : Nat) (h0 : hArr T L d0 a0 k0 n0 1) (g0 : n0 < 2147483648) (x1 : Int32) (d2 a2 k2 n2 : Nat) (h2 : hArr T L d2 a2 k2 n2 1) (g2 : n2 < 2147483648) (x3 : Int32) (x4 : Int32) (post : Int32 → w_V → Prop) (w : wJ10_compress_2 E.2.2.2.2 T L V P a0 k0 n0 x1 a2 k2 n2 x3 x4 post) : gMi l yJ10_compress_2 (ws_ yJ10_compress_2 cJ10_compress_2 7 (some .int)) rJ10_compress_2 0 0 E [.ref d0, .int x1, .ref d2, .int x3, .int x4] (z, T, L, V, P) (xW1 z T L P) post := by
  refine g_start (S := Unit) hfl (by decide +kernel) rfl [some (.ref d0), some (.int x1), some (.ref d2), some (.int x3), some (.int x4), none, none] rfl (fun _ h => h) (Nat.le_of_ble_eq_true rfl) (fun X hl hRm hEe O hQ => ?_)
  subst hl
  subst hEe
  unfold wJ10_compress_2 at w
  refine g_iload_n O dJ10_compress_2_0 rfl ?_
  refine g_iload O dJ10_compress_2_1 rfl ?_
  refine g_aload_n O dJ10_compress_2_3 rfl ?_
  exact w.elim
-- J10_coderFromArrayLen
abbrev rJ10_coderFromArrayLen : Room := { frames := 1, cells := 0, slots := 0, locals := 12 }
set_option maxHeartbeats 4000000 in
theorem kJ10_coderFromArrayLen (l : Launch) (hfl : l.flags = flags0) (E : w_E) (z : Nat) (T L : Nat → Nat) (V : w_V) (P : w_P) (d0 a0 k0 n0 : Nat) (h0 : hArr T L d0 a0 k0 n0 1) (g0 : n0 < 2147483648) (x1 : Int32) (post : Int32 → Prop) (w : wJ10_coderFromArrayLen E.2.2.2.2 T L V P a0 k0 n0 x1 post) : gMi l yJ10_coderFromArrayLen (ws_ yJ10_coderFromArrayLen cJ10_coderFromArrayLen 2 (some .byte)) rJ10_coderFromArrayLen 0 0 E [.ref d0, .int x1] (z, T, L, V, P) (xW0 z T L V P) (fun x (_ : Unit) => post x) := by
  refine g_start (S := Unit) hfl (by decide +kernel) rfl [some (.ref d0), some (.int x1)] rfl (fun _ h => h) (Nat.le_of_ble_eq_true rfl) (fun X hl hRm hEe O hQ => ?_)
  subst hl
  subst hEe
  unfold wJ10_coderFromArrayLen at w
  refine g_iload_n O dJ10_coderFromArrayLen_0 rfl ?_
  refine g_aload_n O dJ10_coderFromArrayLen_1 rfl ?_
  refine gx_alen (a := a0) (kk0 := k0) (len := n0) (ty := 1) (fty := .byte) O h0 rfl dJ10_coderFromArrayLen_2 ?_
  refine g_isub O dJ10_coderFromArrayLen_3 ?_
  refine g_bipush (v := 31) O dJ10_coderFromArrayLen_4 (by decide) ?_
  refine g_iushr O dJ10_coderFromArrayLen_6 ?_
  refine g_i2b O dJ10_coderFromArrayLen_7 ?_
  exact g_iret (f := xW0 z T L V P) (u := ()) O hQ w.1 rfl w.2 dJ10_coderFromArrayLen_8
-- J10_putCharSB
abbrev rJ10_putCharSB : Room := { frames := 1, cells := 0, slots := 0, locals := 12 }
set_option maxHeartbeats 4000000 in
theorem kJ10_putCharSB (l : Launch) (hfl : l.flags = flags0) (E : w_E) (z : Nat) (T L : Nat → Nat) (V : w_V) (P : w_P) (d0 a0 k0 n0 : Nat) (h0 : hArr T L d0 a0 k0 n0 1) (g0 : n0 < 2147483648) (x1 : Int32) (x2 : Int32) (post : Prop) (w : wJ10_putCharSB E.2.2.2.2 T L V P a0 k0 n0 x1 x2 post) : gMv l yJ10_putCharSB (ws_ yJ10_putCharSB cJ10_putCharSB 3 none) rJ10_putCharSB 0 0 E [.ref d0, .int x1, .int x2] (z, T, L, V, P) (xW0 z T L V P) (fun (_ : Unit) => post) := by
  refine g_start (S := Unit) hfl (by decide +kernel) rfl [some (.ref d0), some (.int x1), some (.int x2)] rfl (fun _ h => h) (Nat.le_of_ble_eq_true rfl) (fun X hl hRm hEe O hQ => ?_)
  subst hl
  subst hEe
  unfold wJ10_putCharSB at w
  refine g_iload_n O dJ10_putCharSB_0 rfl ?_
  refine g_aload_n O dJ10_putCharSB_1 rfl ?_
  exact w.elim
-- J14_checkIndex
abbrev rJ14_checkIndex : Room := { frames := 1, cells := 0, slots := 0, locals := 12 }
set_option maxHeartbeats 4000000 in
theorem vjJ14_checkIndex_9 {X : Cx} {z : Nat} {T L : Nat → Nat} {V : w_V} {P : w_P} (O : Okc X cJ14_checkIndex RJ14 3 (some .int)) (hRm : cxR X = rJ14_checkIndex) (x2 : Option Nat) (x0 : Int32) (x1 : Int32) (post : Int32 → Prop) (hQ : cxMQ X (va_Qi (fun x (_ : Unit) => post x) (fun u t => wdW (cxE X) (xW0 z T L V P u) t.heap) (w_A (cxE X))) 0 0) (w : jJ14_checkIndex_9 (cxE X).2.2.2.2 T L V P x2 x0 x1 post) : gW X 0 0 z T L V P 9 [some (.int x0), some (.int x1), some (va_rf x2)] [] := by
  unfold jJ14_checkIndex_9 at w
  exact w.elim
set_option maxHeartbeats 4000000 in
theorem kJ14_checkIndex (l : Launch) (hfl : l.flags = flags0) (E : w_E) (z : Nat) (T L : Nat → Nat) (V : w_V) (P : w_P) (x0 : Int32) (x1 : Int32) (x2 : Option Nat) (post : Int32 → Prop) (w : wJ14_checkIndex E.2.2.2.2 T L V P x0 x1 x2 post) : gMi l yJ14_checkIndex (ws_ yJ14_checkIndex cJ14_checkIndex 3 (some .int)) rJ14_checkIndex 0 0 E [.int x0, .int x1, va_rf x2] (z, T, L, V, P) (xW0 z T L V P) (fun x (_ : Unit) => post x) := by
  refine g_start (S := Unit) hfl (by decide +kernel) rfl [some (.int x0), some (.int x1), some (va_rf x2)] rfl (fun _ h => h) (by cases x2 <;> exact Nat.le_of_ble_eq_true rfl) (fun X hl hRm hEe O hQ => ?_)
  subst hl
  subst hEe
  unfold wJ14_checkIndex at w
  refine g_iload_n O dJ14_checkIndex_0 rfl ?_
  refine g_if_lt (tgt := 9) O w dJ14_checkIndex_1 (by decide) (fun w => ?_) (fun w => ?_)
  · exact vjJ14_checkIndex_9 O hRm (V := V) (P := P) x2 (x0) (x1) post hQ w
  · refine g_iload_n O dJ14_checkIndex_4 rfl ?_
    refine g_iload_n O dJ14_checkIndex_5 rfl ?_
    refine g_icmp_lt (tgt := 16) O w dJ14_checkIndex_6 (by decide) (fun w => ?_) (fun w => ?_)
    · refine g_iload_n O dJ14_checkIndex_16 rfl ?_
      exact g_iret (f := xW0 z T L V P) (u := ()) O hQ rfl rfl w dJ14_checkIndex_17
    · exact vjJ14_checkIndex_9 O hRm (V := V) (P := P) x2 (x0) (x1) post hQ w
-- J9_checkIndex
abbrev rJ9_checkIndex : Room := { frames := 2, cells := 0, slots := 0, locals := 34 }
set_option maxHeartbeats 4000000 in
theorem kJ9_checkIndex (l : Launch) (hfl : l.flags = flags0) (E : w_E) (z : Nat) (T L : Nat → Nat) (V : w_V) (P : w_P) (x0 : Int32) (x1 : Int32) (post : Prop) (w : wJ9_checkIndex E.2.2.2.2 T L V P x0 x1 post) : gMv l yJ9_checkIndex (ws_ yJ9_checkIndex cJ9_checkIndex 2 none) rJ9_checkIndex 0 0 E [.int x0, .int x1] (z, T, L, V, P) (xW0 z T L V P) (fun (_ : Unit) => post) := by
  refine g_start (S := Unit) hfl (by decide +kernel) rfl [some (.int x0), some (.int x1)] rfl (fun _ h => h) (Nat.le_of_ble_eq_true rfl) (fun X hl hRm hEe O hQ => ?_)
  subst hl
  subst hEe
  unfold wJ9_checkIndex at w
  refine g_iload_n O dJ9_checkIndex_0 rfl ?_
  refine g_iload_n O dJ9_checkIndex_1 rfl ?_
  refine gx_getstQ O q316 (lw_all_tbl q123) sioobe_in q315 dJ9_checkIndex_2 (fun s1 => ?_)
  replace w := w s1
  refine g_ri0 (gr_S (nA := 3) (As := [.int x0, .int x1, va_rf s1]) (rest := []) O hRm (kJ14_checkIndex _ O.2.2.2.2.2.2.2.2 _ _ _ _ _ _ (x0) (x1) s1 _ w) (lw_S q952 q803 q123 q804) rfl rfl (by decide +kernel) ⟨Nat.le_of_ble_eq_true rfl, Nat.le_of_ble_eq_true rfl⟩ rfl rfl rfl (Nat.le_of_ble_eq_true rfl) dJ9_checkIndex_5 ⟨Nat.le_of_ble_eq_true rfl, Nat.le_of_ble_eq_true rfl⟩) (fun r2 w => ?_)
  refine g_pop O dJ9_checkIndex_8 rfl ?_
  exact g_vret (f := xW0 z T L V P) (u := ()) O hQ rfl w dJ9_checkIndex_9
-- J10_checkIndex
abbrev rJ10_checkIndex : Room := { frames := 1, cells := 0, slots := 0, locals := 12 }
set_option maxHeartbeats 4000000 in
theorem kJ10_checkIndex (l : Launch) (hfl : l.flags = flags0) (E : w_E) (z : Nat) (T L : Nat → Nat) (V : w_V) (P : w_P) (x0 : Int32) (d1 a1 k1 n1 : Nat) (h1 : hArr T L d1 a1 k1 n1 1) (g1 : n1 < 2147483648) (post : Prop) (w : wJ10_checkIndex E.2.2.2.2 T L V P x0 a1 k1 n1 post) : gMv l yJ10_checkIndex (ws_ yJ10_checkIndex cJ10_checkIndex 2 none) rJ10_checkIndex 0 0 E [.int x0, .ref d1] (z, T, L, V, P) (xW0 z T L V P) (fun (_ : Unit) => post) := by
  refine g_start (S := Unit) hfl (by decide +kernel) rfl [some (.int x0), some (.ref d1)] rfl (fun _ h => h) (Nat.le_of_ble_eq_true rfl) (fun X hl hRm hEe O hQ => ?_)
  subst hl
  subst hEe
  unfold wJ10_checkIndex at w
  refine g_iload_n O dJ10_checkIndex_0 rfl ?_
  refine g_aload_n O dJ10_checkIndex_1 rfl ?_
  exact w.elim
-- J10_charAt
abbrev rJ10_charAt : Room := { frames := 1, cells := 0, slots := 0, locals := 12 }
set_option maxHeartbeats 4000000 in
theorem kJ10_charAt (l : Launch) (hfl : l.flags = flags0) (E : w_E) (z : Nat) (T L : Nat → Nat) (V : w_V) (P : w_P) (d0 a0 k0 n0 : Nat) (h0 : hArr T L d0 a0 k0 n0 1) (g0 : n0 < 2147483648) (x1 : Int32) (post : Int32 → Prop) (w : wJ10_charAt E.2.2.2.2 T L V P a0 k0 n0 x1 post) : gMi l yJ10_charAt (ws_ yJ10_charAt cJ10_charAt 2 (some .char)) rJ10_charAt 0 0 E [.ref d0, .int x1] (z, T, L, V, P) (xW0 z T L V P) (fun x (_ : Unit) => post x) := by
  refine g_start (S := Unit) hfl (by decide +kernel) rfl [some (.ref d0), some (.int x1)] rfl (fun _ h => h) (Nat.le_of_ble_eq_true rfl) (fun X hl hRm hEe O hQ => ?_)
  subst hl
  subst hEe
  unfold wJ10_charAt at w
  refine g_iload_n O dJ10_charAt_0 rfl ?_
  refine g_aload_n O dJ10_charAt_1 rfl ?_
  exact w.elim
-- J15_canEncode
abbrev rJ15_canEncode : Room := { frames := 1, cells := 0, slots := 0, locals := 12 }
set_option maxHeartbeats 4000000 in
theorem kJ15_canEncode (l : Launch) (hfl : l.flags = flags0) (E : w_E) (z : Nat) (T L : Nat → Nat) (V : w_V) (P : w_P) (x0 : Int32) (post : Int32 → Prop) (w : wJ15_canEncode E.2.2.2.2 T L V P x0 post) : gMi l yJ15_canEncode (ws_ yJ15_canEncode cJ15_canEncode 1 (some .boolean)) rJ15_canEncode 0 0 E [.int x0] (z, T, L, V, P) (xW0 z T L V P) (fun x (_ : Unit) => post x) := by
  refine g_start (S := Unit) hfl (by decide +kernel) rfl [some (.int x0)] rfl (fun _ h => h) (Nat.le_of_ble_eq_true rfl) (fun X hl hRm hEe O hQ => ?_)
  subst hl
  subst hEe
  unfold wJ15_canEncode at w
  refine g_iload_n O dJ15_canEncode_0 rfl ?_
  refine g_sipush (v := 255) O dJ15_canEncode_1 (by decide) ?_
  refine g_icmp_gt (tgt := 11) O w dJ15_canEncode_4 (by decide) (fun w => ?_) (fun w => ?_)
  · refine g_iconst (v := 0) O dJ15_canEncode_11 (by decide) ?_
    exact g_iret (f := xW0 z T L V P) (u := ()) O hQ rfl rfl w dJ15_canEncode_12
  · refine g_iconst (v := 1) O dJ15_canEncode_7 (by decide) ?_
    refine g_goto (tgt := 12) O dJ15_canEncode_8 (by decide) ?_
    exact g_iret (f := xW0 z T L V P) (u := ()) O hQ rfl rfl w dJ15_canEncode_12
-- J15_equals
abbrev rJ15_equals : Room := { frames := 1, cells := 0, slots := 0, locals := 12 }
set_option maxHeartbeats 4000000 in
theorem vlJ15_equals_9 {X : Cx} {z : Nat} {T L : Nat → Nat} {V : w_V} {P : w_P} (O : Okc X cJ15_equals RJ15 3 (some .boolean)) (hRm : cxR X = rJ15_equals) (d0 a0 k0 n0 : Nat) (h0 : hArr T L d0 a0 k0 n0 1) (g0 : n0 < 2147483648) (d1 a1 k1 n1 : Nat) (h1 : hArr T L d1 a1 k1 n1 1) (g1 : n1 < 2147483648) (post : Int32 → Prop) (hQ : cxMQ X (va_Qi (fun x (_ : Unit) => post x) (fun u t => wdW (cxE X) (xW0 z T L V P u) t.heap) (w_A (cxE X))) 0 0)  : ∀ (n : Nat) (x2 : Int32), lJ15_equals_9 (cxE X).2.2.2.2 T L V P a0 k0 n0 a1 k1 n1 post n x2 → gW X 0 0 z T L V P 9 [some (.ref d0), some (.ref d1), some (.int x2)] [] := by
  intro n
  induction n with
  | zero =>
    intro x2 w
    exact w.elim
  | succ n ih =>
    intro x2 w
    unfold lJ15_equals_9 at w
    refine g_iload_n O dJ15_equals_9 rfl ?_
    refine g_aload_n O dJ15_equals_10 rfl ?_
    refine gx_alen (a := a0) (kk0 := k0) (len := n0) (ty := 1) (fty := .byte) O h0 rfl dJ15_equals_11 ?_
    refine g_icmp_ge (tgt := 32) O w dJ15_equals_12 (by decide) (fun w => ?_) (fun w => ?_)
    · refine g_iconst (v := 1) O dJ15_equals_32 (by decide) ?_
      exact g_iret (f := xW0 z T L V P) (u := ()) O hQ rfl rfl w dJ15_equals_33
    · refine g_aload_n O dJ15_equals_15 rfl ?_
      refine g_iload_n O dJ15_equals_16 rfl ?_
      obtain ⟨i1, hi2, e3, w⟩ := w
      refine gx_bald (a := a0) (kk0 := k0) (len := n0) (nn := i1) O h0 hi2 g0 e3 dJ15_equals_17 ?_
      refine g_aload_n O dJ15_equals_18 rfl ?_
      refine g_iload_n O dJ15_equals_19 rfl ?_
      obtain ⟨i4, hi5, e6, w⟩ := w
      refine gx_bald (a := a1) (kk0 := k1) (len := n1) (nn := i4) O h1 hi5 g1 e6 dJ15_equals_20 ?_
      refine g_icmp_eq (tgt := 26) O w dJ15_equals_21 (by decide) (fun w => ?_) (fun w => ?_)
      · refine g_iinc (v := (x2 + 1)) O dJ15_equals_26 rfl rfl rfl (lv' := [some (.ref d0), some (.ref d1), some (.int (x2 + 1))]) rfl ?_
        refine g_goto (tgt := 9) O dJ15_equals_29 (by decide) ?_
        exact ih ((x2 + 1)) w
      · refine g_iconst (v := 0) O dJ15_equals_24 (by decide) ?_
        exact g_iret (f := xW0 z T L V P) (u := ()) O hQ rfl rfl w dJ15_equals_25
set_option maxHeartbeats 4000000 in
theorem kJ15_equals (l : Launch) (hfl : l.flags = flags0) (E : w_E) (z : Nat) (T L : Nat → Nat) (V : w_V) (P : w_P) (d0 a0 k0 n0 : Nat) (h0 : hArr T L d0 a0 k0 n0 1) (g0 : n0 < 2147483648) (d1 a1 k1 n1 : Nat) (h1 : hArr T L d1 a1 k1 n1 1) (g1 : n1 < 2147483648) (post : Int32 → Prop) (w : wJ15_equals E.2.2.2.2 T L V P a0 k0 n0 a1 k1 n1 post) : gMi l yJ15_equals (ws_ yJ15_equals cJ15_equals 3 (some .boolean)) rJ15_equals 0 0 E [.ref d0, .ref d1] (z, T, L, V, P) (xW0 z T L V P) (fun x (_ : Unit) => post x) := by
  refine g_start (S := Unit) hfl (by decide +kernel) rfl [some (.ref d0), some (.ref d1), none] rfl (fun _ h => h) (Nat.le_of_ble_eq_true rfl) (fun X hl hRm hEe O hQ => ?_)
  subst hl
  subst hEe
  unfold wJ15_equals at w
  refine g_aload_n O dJ15_equals_0 rfl ?_
  refine gx_alen (a := a0) (kk0 := k0) (len := n0) (ty := 1) (fty := .byte) O h0 rfl dJ15_equals_1 ?_
  refine g_aload_n O dJ15_equals_2 rfl ?_
  refine gx_alen (a := a1) (kk0 := k1) (len := n1) (ty := 1) (fty := .byte) O h1 rfl dJ15_equals_3 ?_
  refine g_icmp_ne (tgt := 34) O w dJ15_equals_4 (by decide) (fun w => ?_) (fun w => ?_)
  · refine g_iconst (v := 0) O dJ15_equals_34 (by decide) ?_
    exact g_iret (f := xW0 z T L V P) (u := ()) O hQ rfl rfl w dJ15_equals_35
  · refine g_iconst (v := 0) O dJ15_equals_7 (by decide) ?_
    refine g_istore_n O dJ15_equals_8 (Nat.le_of_ble_eq_true rfl) rfl (lv' := [some (.ref d0), some (.ref d1), some (.int 0)]) rfl ?_
    obtain ⟨n7, w⟩ := w
    exact vlJ15_equals_9 O hRm (V := V) (P := P) d0 a0 k0 n0 h0 g0 d1 a1 k1 n1 h1 g1 post hQ n7 (0) w
-- J15_charAt
abbrev rJ15_charAt : Room := { frames := 3, cells := 0, slots := 0, locals := 55 }
set_option maxHeartbeats 4000000 in
theorem kJ15_charAt (l : Launch) (hfl : l.flags = flags0) (E : w_E) (z : Nat) (T L : Nat → Nat) (V : w_V) (P : w_P) (d0 a0 k0 n0 : Nat) (h0 : hArr T L d0 a0 k0 n0 1) (g0 : n0 < 2147483648) (x1 : Int32) (post : Int32 → Prop) (w : wJ15_charAt E.2.2.2.2 T L V P a0 k0 n0 x1 post) : gMi l yJ15_charAt (ws_ yJ15_charAt cJ15_charAt 2 (some .char)) rJ15_charAt 0 0 E [.ref d0, .int x1] (z, T, L, V, P) (xW0 z T L V P) (fun x (_ : Unit) => post x) := by
  refine g_start (S := Unit) hfl (by decide +kernel) rfl [some (.ref d0), some (.int x1)] rfl (fun _ h => h) (Nat.le_of_ble_eq_true rfl) (fun X hl hRm hEe O hQ => ?_)
  subst hl
  subst hEe
  unfold wJ15_charAt at w
  refine g_iload_n O dJ15_charAt_0 rfl ?_
  refine g_aload_n O dJ15_charAt_1 rfl ?_
  refine gx_alen (a := a0) (kk0 := k0) (len := n0) (ty := 1) (fty := .byte) O h0 rfl dJ15_charAt_2 ?_
  refine g_rv0 (gr_S (nA := 2) (As := [.int x1, .int (nI n0)]) (rest := []) O hRm (kJ9_checkIndex _ O.2.2.2.2.2.2.2.2 _ _ _ _ _ _ (x1) ((nI n0)) _ w) (lw_S q1159 q950 q117 q951) rfl rfl (by decide +kernel) ⟨Nat.le_of_ble_eq_true rfl, Nat.le_of_ble_eq_true rfl⟩ rfl rfl rfl (Nat.le_of_ble_eq_true rfl) dJ15_charAt_3 ⟨Nat.le_of_ble_eq_true rfl, Nat.le_of_ble_eq_true rfl⟩) (fun w => ?_)
  refine g_aload_n O dJ15_charAt_6 rfl ?_
  refine g_iload_n O dJ15_charAt_7 rfl ?_
  obtain ⟨i4, hi5, e6, w⟩ := w
  refine gx_bald (a := a0) (kk0 := k0) (len := n0) (nn := i4) O h0 hi5 g0 e6 dJ15_charAt_8 ?_
  refine g_sipush (v := 255) O dJ15_charAt_9 (by decide) ?_
  refine g_iand O dJ15_charAt_12 ?_
  refine g_i2c O dJ15_charAt_13 ?_
  exact g_iret (f := xW0 z T L V P) (u := ()) O hQ w.1 rfl w.2 dJ15_charAt_14
-- J16_bitCount
abbrev rJ16_bitCount : Room := { frames := 1, cells := 0, slots := 0, locals := 12 }
set_option maxHeartbeats 4000000 in
theorem kJ16_bitCount (l : Launch) (hfl : l.flags = flags0) (E : w_E) (z : Nat) (T L : Nat → Nat) (V : w_V) (P : w_P) (x0 : Int32) (post : Int32 → Prop) (w : wJ16_bitCount E.2.2.2.2 T L V P x0 post) : gMi l yJ16_bitCount (ws_ yJ16_bitCount cJ16_bitCount 1 (some .int)) rJ16_bitCount 0 0 E [.int x0] (z, T, L, V, P) (xW0 z T L V P) (fun x (_ : Unit) => post x) := by
  refine g_start (S := Unit) hfl (by decide +kernel) rfl [some (.int x0)] rfl (fun _ h => h) (Nat.le_of_ble_eq_true rfl) (fun X hl hRm hEe O hQ => ?_)
  subst hl
  subst hEe
  unfold wJ16_bitCount at w
  refine g_iload_n O dJ16_bitCount_0 rfl ?_
  refine g_iload_n O dJ16_bitCount_1 rfl ?_
  refine g_iconst (v := 1) O dJ16_bitCount_2 (by decide) ?_
  refine g_iushr O dJ16_bitCount_3 ?_
  refine g_ldcw O q1649 dJ16_bitCount_4 ?_
  refine g_iand O dJ16_bitCount_7 ?_
  refine g_isub O dJ16_bitCount_8 ?_
  refine g_istore_n O dJ16_bitCount_9 (Nat.le_of_ble_eq_true rfl) rfl (lv' := [some (.int (x0 - (((x0 : Int32).toUInt32 >>> ((1 : Int32).toUInt32 &&& Int32.toUInt32 31)).toInt32 &&& 1431655765)))]) rfl ?_
  refine g_iload_n O dJ16_bitCount_10 rfl ?_
  refine g_ldcw O q1650 dJ16_bitCount_11 ?_
  refine g_iand O dJ16_bitCount_14 ?_
  refine g_iload_n O dJ16_bitCount_15 rfl ?_
  refine g_iconst (v := 2) O dJ16_bitCount_16 (by decide) ?_
  refine g_iushr O dJ16_bitCount_17 ?_
  refine g_ldcw O q1650 dJ16_bitCount_18 ?_
  refine g_iand O dJ16_bitCount_21 ?_
  refine g_iadd O dJ16_bitCount_22 ?_
  refine g_istore_n O dJ16_bitCount_23 (Nat.le_of_ble_eq_true rfl) rfl (lv' := [some (.int (((x0 - (((x0 : Int32).toUInt32 >>> ((1 : Int32).toUInt32 &&& Int32.toUInt32 31)).toInt32 &&& 1431655765)) &&& 858993459) + ((((x0 - (((x0 : Int32).toUInt32 >>> ((1 : Int32).toUInt32 &&& Int32.toUInt32 31)).toInt32 &&& 1431655765)) : Int32).toUInt32 >>> ((2 : Int32).toUInt32 &&& Int32.toUInt32 31)).toInt32 &&& 858993459)))]) rfl ?_
  refine g_iload_n O dJ16_bitCount_24 rfl ?_
  refine g_iload_n O dJ16_bitCount_25 rfl ?_
  refine g_iconst (v := 4) O dJ16_bitCount_26 (by decide) ?_
  refine g_iushr O dJ16_bitCount_27 ?_
  refine g_iadd O dJ16_bitCount_28 ?_
  refine g_ldcw O q1651 dJ16_bitCount_29 ?_
  refine g_iand O dJ16_bitCount_32 ?_
  refine g_istore_n O dJ16_bitCount_33 (Nat.le_of_ble_eq_true rfl) rfl (lv' := [some (.int (((((x0 - (((x0 : Int32).toUInt32 >>> ((1 : Int32).toUInt32 &&& Int32.toUInt32 31)).toInt32 &&& 1431655765)) &&& 858993459) + ((((x0 - (((x0 : Int32).toUInt32 >>> ((1 : Int32).toUInt32 &&& Int32.toUInt32 31)).toInt32 &&& 1431655765)) : Int32).toUInt32 >>> ((2 : Int32).toUInt32 &&& Int32.toUInt32 31)).toInt32 &&& 858993459)) + (((((x0 - (((x0 : Int32).toUInt32 >>> ((1 : Int32).toUInt32 &&& Int32.toUInt32 31)).toInt32 &&& 1431655765)) &&& 858993459) + ((((x0 - (((x0 : Int32).toUInt32 >>> ((1 : Int32).toUInt32 &&& Int32.toUInt32 31)).toInt32 &&& 1431655765)) : Int32).toUInt32 >>> ((2 : Int32).toUInt32 &&& Int32.toUInt32 31)).toInt32 &&& 858993459)) : Int32).toUInt32 >>> ((4 : Int32).toUInt32 &&& Int32.toUInt32 31)).toInt32) &&& 252645135))]) rfl ?_
  refine g_iload_n O dJ16_bitCount_34 rfl ?_
  refine g_iload_n O dJ16_bitCount_35 rfl ?_
  refine g_bipush (v := 8) O dJ16_bitCount_36 (by decide) ?_
  refine g_iushr O dJ16_bitCount_38 ?_
  refine g_iadd O dJ16_bitCount_39 ?_
  refine g_istore_n O dJ16_bitCount_40 (Nat.le_of_ble_eq_true rfl) rfl (lv' := [some (.int ((((((x0 - (((x0 : Int32).toUInt32 >>> ((1 : Int32).toUInt32 &&& Int32.toUInt32 31)).toInt32 &&& 1431655765)) &&& 858993459) + ((((x0 - (((x0 : Int32).toUInt32 >>> ((1 : Int32).toUInt32 &&& Int32.toUInt32 31)).toInt32 &&& 1431655765)) : Int32).toUInt32 >>> ((2 : Int32).toUInt32 &&& Int32.toUInt32 31)).toInt32 &&& 858993459)) + (((((x0 - (((x0 : Int32).toUInt32 >>> ((1 : Int32).toUInt32 &&& Int32.toUInt32 31)).toInt32 &&& 1431655765)) &&& 858993459) + ((((x0 - (((x0 : Int32).toUInt32 >>> ((1 : Int32).toUInt32 &&& Int32.toUInt32 31)).toInt32 &&& 1431655765)) : Int32).toUInt32 >>> ((2 : Int32).toUInt32 &&& Int32.toUInt32 31)).toInt32 &&& 858993459)) : Int32).toUInt32 >>> ((4 : Int32).toUInt32 &&& Int32.toUInt32 31)).toInt32) &&& 252645135) + (((((((x0 - (((x0 : Int32).toUInt32 >>> ((1 : Int32).toUInt32 &&& Int32.toUInt32 31)).toInt32 &&& 1431655765)) &&& 858993459) + ((((x0 - (((x0 : Int32).toUInt32 >>> ((1 : Int32).toUInt32 &&& Int32.toUInt32 31)).toInt32 &&& 1431655765)) : Int32).toUInt32 >>> ((2 : Int32).toUInt32 &&& Int32.toUInt32 31)).toInt32 &&& 858993459)) + (((((x0 - (((x0 : Int32).toUInt32 >>> ((1 : Int32).toUInt32 &&& Int32.toUInt32 31)).toInt32 &&& 1431655765)) &&& 858993459) + ((((x0 - (((x0 : Int32).toUInt32 >>> ((1 : Int32).toUInt32 &&& Int32.toUInt32 31)).toInt32 &&& 1431655765)) : Int32).toUInt32 >>> ((2 : Int32).toUInt32 &&& Int32.toUInt32 31)).toInt32 &&& 858993459)) : Int32).toUInt32 >>> ((4 : Int32).toUInt32 &&& Int32.toUInt32 31)).toInt32) &&& 252645135) : Int32).toUInt32 >>> ((8 : Int32).toUInt32 &&& Int32.toUInt32 31)).toInt32))]) rfl ?_
  refine g_iload_n O dJ16_bitCount_41 rfl ?_
  refine g_iload_n O dJ16_bitCount_42 rfl ?_
  refine g_bipush (v := 16) O dJ16_bitCount_43 (by decide) ?_
  refine g_iushr O dJ16_bitCount_45 ?_
  refine g_iadd O dJ16_bitCount_46 ?_
  refine g_istore_n O dJ16_bitCount_47 (Nat.le_of_ble_eq_true rfl) rfl (lv' := [some (.int (((((((x0 - (((x0 : Int32).toUInt32 >>> ((1 : Int32).toUInt32 &&& Int32.toUInt32 31)).toInt32 &&& 1431655765)) &&& 858993459) + ((((x0 - (((x0 : Int32).toUInt32 >>> ((1 : Int32).toUInt32 &&& Int32.toUInt32 31)).toInt32 &&& 1431655765)) : Int32).toUInt32 >>> ((2 : Int32).toUInt32 &&& Int32.toUInt32 31)).toInt32 &&& 858993459)) + (((((x0 - (((x0 : Int32).toUInt32 >>> ((1 : Int32).toUInt32 &&& Int32.toUInt32 31)).toInt32 &&& 1431655765)) &&& 858993459) + ((((x0 - (((x0 : Int32).toUInt32 >>> ((1 : Int32).toUInt32 &&& Int32.toUInt32 31)).toInt32 &&& 1431655765)) : Int32).toUInt32 >>> ((2 : Int32).toUInt32 &&& Int32.toUInt32 31)).toInt32 &&& 858993459)) : Int32).toUInt32 >>> ((4 : Int32).toUInt32 &&& Int32.toUInt32 31)).toInt32) &&& 252645135) + (((((((x0 - (((x0 : Int32).toUInt32 >>> ((1 : Int32).toUInt32 &&& Int32.toUInt32 31)).toInt32 &&& 1431655765)) &&& 858993459) + ((((x0 - (((x0 : Int32).toUInt32 >>> ((1 : Int32).toUInt32 &&& Int32.toUInt32 31)).toInt32 &&& 1431655765)) : Int32).toUInt32 >>> ((2 : Int32).toUInt32 &&& Int32.toUInt32 31)).toInt32 &&& 858993459)) + (((((x0 - (((x0 : Int32).toUInt32 >>> ((1 : Int32).toUInt32 &&& Int32.toUInt32 31)).toInt32 &&& 1431655765)) &&& 858993459) + ((((x0 - (((x0 : Int32).toUInt32 >>> ((1 : Int32).toUInt32 &&& Int32.toUInt32 31)).toInt32 &&& 1431655765)) : Int32).toUInt32 >>> ((2 : Int32).toUInt32 &&& Int32.toUInt32 31)).toInt32 &&& 858993459)) : Int32).toUInt32 >>> ((4 : Int32).toUInt32 &&& Int32.toUInt32 31)).toInt32) &&& 252645135) : Int32).toUInt32 >>> ((8 : Int32).toUInt32 &&& Int32.toUInt32 31)).toInt32) + ((((((((x0 - (((x0 : Int32).toUInt32 >>> ((1 : Int32).toUInt32 &&& Int32.toUInt32 31)).toInt32 &&& 1431655765)) &&& 858993459) + ((((x0 - (((x0 : Int32).toUInt32 >>> ((1 : Int32).toUInt32 &&& Int32.toUInt32 31)).toInt32 &&& 1431655765)) : Int32).toUInt32 >>> ((2 : Int32).toUInt32 &&& Int32.toUInt32 31)).toInt32 &&& 858993459)) + (((((x0 - (((x0 : Int32).toUInt32 >>> ((1 : Int32).toUInt32 &&& Int32.toUInt32 31)).toInt32 &&& 1431655765)) &&& 858993459) + ((((x0 - (((x0 : Int32).toUInt32 >>> ((1 : Int32).toUInt32 &&& Int32.toUInt32 31)).toInt32 &&& 1431655765)) : Int32).toUInt32 >>> ((2 : Int32).toUInt32 &&& Int32.toUInt32 31)).toInt32 &&& 858993459)) : Int32).toUInt32 >>> ((4 : Int32).toUInt32 &&& Int32.toUInt32 31)).toInt32) &&& 252645135) + (((((((x0 - (((x0 : Int32).toUInt32 >>> ((1 : Int32).toUInt32 &&& Int32.toUInt32 31)).toInt32 &&& 1431655765)) &&& 858993459) + ((((x0 - (((x0 : Int32).toUInt32 >>> ((1 : Int32).toUInt32 &&& Int32.toUInt32 31)).toInt32 &&& 1431655765)) : Int32).toUInt32 >>> ((2 : Int32).toUInt32 &&& Int32.toUInt32 31)).toInt32 &&& 858993459)) + (((((x0 - (((x0 : Int32).toUInt32 >>> ((1 : Int32).toUInt32 &&& Int32.toUInt32 31)).toInt32 &&& 1431655765)) &&& 858993459) + ((((x0 - (((x0 : Int32).toUInt32 >>> ((1 : Int32).toUInt32 &&& Int32.toUInt32 31)).toInt32 &&& 1431655765)) : Int32).toUInt32 >>> ((2 : Int32).toUInt32 &&& Int32.toUInt32 31)).toInt32 &&& 858993459)) : Int32).toUInt32 >>> ((4 : Int32).toUInt32 &&& Int32.toUInt32 31)).toInt32) &&& 252645135) : Int32).toUInt32 >>> ((8 : Int32).toUInt32 &&& Int32.toUInt32 31)).toInt32) : Int32).toUInt32 >>> ((16 : Int32).toUInt32 &&& Int32.toUInt32 31)).toInt32))]) rfl ?_
  refine g_iload_n O dJ16_bitCount_48 rfl ?_
  refine g_bipush (v := 63) O dJ16_bitCount_49 (by decide) ?_
  refine g_iand O dJ16_bitCount_51 ?_
  exact g_iret (f := xW0 z T L V P) (u := ()) O hQ rfl rfl w dJ16_bitCount_52
-- J18_checkIndex
abbrev rJ18_checkIndex : Room := { frames := 2, cells := 0, slots := 0, locals := 34 }
set_option maxHeartbeats 4000000 in
theorem kJ18_checkIndex (l : Launch) (hfl : l.flags = flags0) (E : w_E) (z : Nat) (T L : Nat → Nat) (V : w_V) (P : w_P) (x0 : Int32) (x1 : Int32) (post : Int32 → Prop) (w : wJ18_checkIndex E.2.2.2.2 T L V P x0 x1 post) : gMi l yJ18_checkIndex (ws_ yJ18_checkIndex cJ18_checkIndex 2 (some .int)) rJ18_checkIndex 0 0 E [.int x0, .int x1] (z, T, L, V, P) (xW0 z T L V P) (fun x (_ : Unit) => post x) := by
  refine g_start (S := Unit) hfl (by decide +kernel) rfl [some (.int x0), some (.int x1)] rfl (fun _ h => h) (Nat.le_of_ble_eq_true rfl) (fun X hl hRm hEe O hQ => ?_)
  subst hl
  subst hEe
  unfold wJ18_checkIndex at w
  refine g_iload_n O dJ18_checkIndex_0 rfl ?_
  refine g_iload_n O dJ18_checkIndex_1 rfl ?_
  refine g_null O dJ18_checkIndex_2 ?_
  refine g_ri0 (gr_S (nA := 3) (As := [.int x0, .int x1, .null]) (rest := []) O hRm (kJ14_checkIndex _ O.2.2.2.2.2.2.2.2 _ _ _ _ _ _ (x0) (x1) none _ w) (lw_S q802 q803 q123 q804) rfl rfl (by decide +kernel) ⟨Nat.le_of_ble_eq_true rfl, Nat.le_of_ble_eq_true rfl⟩ rfl rfl rfl (Nat.le_of_ble_eq_true rfl) dJ18_checkIndex_3 ⟨Nat.le_of_ble_eq_true rfl, Nat.le_of_ble_eq_true rfl⟩) (fun r1 w => ?_)
  exact g_iret (f := xW0 z T L V P) (u := ()) O hQ rfl rfl w dJ18_checkIndex_6
-- J2_add_2
abbrev rJ2_add_2 : Room := { frames := 1, cells := 0, slots := 0, locals := 12 }
set_option maxHeartbeats 4000000 in
theorem vjJ2_add_2_11 {X : Cx} {z : Nat} {T L : Nat → Nat} {V : w_V} {P : w_P} (O : Okc X cJ2_add_2 RJ2 4 none) (hRm : cxR X = rJ2_add_2) (t : Nat) (hT : T t = 16) (x1 : Nat) (x2 : Nat) (hx2 : T x2 = 2004) (x2 : Nat) (hx2 : T x2 = 2004) (x3 : Int32) (post : w_V → w_P → Prop) (hQ : cxMQ X (va_Qv (fun (u : w_V × w_P) => post u.1 u.2) (fun u t => wdW (cxE X) (xW2 z T L u) t.heap) (w_A (cxE X))) 0 0) (w : jJ2_add_2_11 (cxE X).2.2.2.2 T L V P t x1 x2 x2 x3 post) : gW X 0 0 z T L V P 11 [some (.ref t), some (.ref x1), some (.ref x2), some (.int x3)] [] := by
  unfold jJ2_add_2_11 at w
  refine g_aload_n O dJ2_add_2_11 rfl ?_
  refine g_iload_n O dJ2_add_2_12 rfl ?_
  refine g_aload_n O dJ2_add_2_13 rfl ?_
  obtain ⟨i1, hi2, g3, e4, hv5, w⟩ := w
  refine gx_aast (nn := i1) O hx2 hi2 g3 e4 hv5 dJ2_add_2_14 ?_
  refine g_nP w (fun P6 w _ => ?_)
  refine g_aload_n O dJ2_add_2_15 rfl ?_
  refine g_iload_n O dJ2_add_2_16 rfl ?_
  refine g_iconst (v := 1) O dJ2_add_2_17 (by decide) ?_
  refine g_iadd O dJ2_add_2_18 ?_
  refine gx_putI (lay := 15) (j := 2) (ty := .int) O ck15 (by decide) rfl rfl (by decide) hT q491 rfl rfl rfl rfl dJ2_add_2_19 ?_
  refine g_nV w (fun V7 w _ => ?_)
  exact g_vret (f := xW2 z T L) (u := (V7, P6)) O hQ rfl w dJ2_add_2_22
set_option maxHeartbeats 4000000 in
theorem kJ2_add_2 (l : Launch) (hfl : l.flags = flags0) (E : w_E) (z : Nat) (T L : Nat → Nat) (V : w_V) (P : w_P) (t : Nat) (hT : T t = 16) (x1 : Nat) (x2 : Nat) (hx2 : T x2 = 2004) (x3 : Int32) (post : w_V → w_P → Prop) (w : wJ2_add_2 E.2.2.2.2 T L V P t x1 x2 x3 post) : gMv l yJ2_add_2 (ws_ yJ2_add_2 cJ2_add_2 4 none) rJ2_add_2 0 0 E [.ref t, .ref x1, .ref x2, .int x3] (z, T, L, V, P) (xW2 z T L) (fun (u : w_V × w_P) => post u.1 u.2) := by
  refine g_start (S := Unit) hfl (by decide +kernel) rfl [some (.ref t), some (.ref x1), some (.ref x2), some (.int x3)] rfl (fun _ h => h) (Nat.le_of_ble_eq_true rfl) (fun X hl hRm hEe O hQ => ?_)
  subst hl
  subst hEe
  unfold wJ2_add_2 at w
  refine g_iload_n O dJ2_add_2_0 rfl ?_
  refine g_aload_n O dJ2_add_2_1 rfl ?_
  refine gx_alenR (ty := 4) O hx2 (by decide) rfl dJ2_add_2_2 ?_
  refine g_icmp_ne (tgt := 11) O w dJ2_add_2_3 (by decide) (fun w => ?_) (fun w => ?_)
  · exact vjJ2_add_2_11 O hRm (V := V) (P := P) t hT x1 x2 hx2 x2 hx2 (x3) post hQ w
  · refine g_aload_n O dJ2_add_2_6 rfl ?_
    exact w.elim
-- J2_add
abbrev rJ2_add : Room := { frames := 2, cells := 0, slots := 0, locals := 35 }
set_option maxHeartbeats 4000000 in
theorem kJ2_add (l : Launch) (hfl : l.flags = flags0) (E : w_E) (z : Nat) (T L : Nat → Nat) (V : w_V) (P : w_P) (t : Nat) (hT : T t = 16) (x1 : Nat) (post : Int32 → w_V → w_P → Prop) (w : wJ2_add E.2.2.2.2 T L V P t x1 post) : gMi l yJ2_add (ws_ yJ2_add cJ2_add 2 (some .boolean)) rJ2_add 0 0 E [.ref t, .ref x1] (z, T, L, V, P) (xW2 z T L) (fun x (u : w_V × w_P) => post x u.1 u.2) := by
  refine g_start (S := Unit) hfl (by decide +kernel) rfl [some (.ref t), some (.ref x1)] rfl (fun _ h => h) (Nat.le_of_ble_eq_true rfl) (fun X hl hRm hEe O hQ => ?_)
  subst hl
  subst hEe
  unfold wJ2_add at w
  refine g_aload_n O dJ2_add_0 rfl ?_
  refine g_dup O dJ2_add_1 rfl ?_
  refine gx_getIs (ref := "java/util/ArrayList") (lay := 15) (j := 0) O ck15 (by decide) rfl rfl (by decide) hT q493 q494 dJ2_add_2 ?_
  refine g_iconst (v := 1) O dJ2_add_5 (by decide) ?_
  refine g_iadd O dJ2_add_6 ?_
  refine gx_putIs (ref := "java/util/ArrayList") (lay := 15) (j := 0) (ty := .int) O ck15 (by decide) rfl rfl (by decide) hT q493 q494 rfl rfl rfl rfl dJ2_add_7 ?_
  refine g_nV w (fun V1 w _ => ?_)
  refine g_aload_n O dJ2_add_10 rfl ?_
  refine g_aload_n O dJ2_add_11 rfl ?_
  refine g_aload_n O dJ2_add_12 rfl ?_
  obtain ⟨b2, hp3, ht4, w⟩ := w
  refine gx_getR (lay := 15) (j := 1) O ck15 (by decide) rfl rfl hp3 (by decide) hT q490 dJ2_add_13 ?_
  refine g_aload_n O dJ2_add_16 rfl ?_
  refine gx_getI (lay := 15) (j := 2) O ck15 (by decide) rfl rfl (by decide) hT q491 dJ2_add_17 ?_
  refine g_rv2 (gr_V (lay := 15) (nA := 3) (As := [.ref x1, .ref b2, .int (V1 t 0 2)]) (rest := []) O hRm (kJ2_add_2 _ O.2.2.2.2.2.2.2.2 _ _ _ _ _ _ t hT x1 b2 ht4 ((V1 t 0 2)) _ w) (lw_V q646 q648 qs1 q110 q649) rfl rfl (by decide +kernel) ⟨Nat.le_of_ble_eq_true rfl, Nat.le_of_ble_eq_true rfl⟩ ck15 (by decide) rfl hT rfl rfl rfl (Nat.le_of_ble_eq_true rfl) dJ2_add_20 ⟨Nat.le_of_ble_eq_true rfl, Nat.le_of_ble_eq_true rfl⟩) (fun V6 P7 w => ?_)
  refine g_iconst (v := 1) O dJ2_add_23 (by decide) ?_
  exact g_iret (f := xW2 z T L) (u := (V6, P7)) O hQ rfl rfl w dJ2_add_24
-- J2_grow
abbrev rJ2_grow : Room := { frames := 1, cells := 0, slots := 0, locals := 12 }
set_option maxHeartbeats 4000000 in
theorem kJ2_grow (l : Launch) (hfl : l.flags = flags0) (E : w_E) (z : Nat) (T L : Nat → Nat) (V : w_V) (P : w_P) (t : Nat) (hT : T t = 16) (post : Nat → Prop) (w : wJ2_grow E.2.2.2.2 T L V P t post) : gMr l yJ2_grow (ws_ yJ2_grow cJ2_grow 1 (some (.array (.object "java/lang/Object")))) rJ2_grow 0 0 E [.ref t] (z, T, L, V, P) (xW0 z T L V P) (fun x (_ : Unit) => qN post x) := by
  refine g_start (S := Unit) hfl (by decide +kernel) rfl [some (.ref t)] rfl (fun _ h => h) (Nat.le_of_ble_eq_true rfl) (fun X hl hRm hEe O hQ => ?_)
  subst hl
  subst hEe
  unfold wJ2_grow at w
  refine g_aload_n O dJ2_grow_0 rfl ?_
  refine g_aload_n O dJ2_grow_1 rfl ?_
  refine gx_getI (lay := 15) (j := 2) O ck15 (by decide) rfl rfl (by decide) hT q491 dJ2_grow_2 ?_
  refine g_iconst (v := 1) O dJ2_grow_5 (by decide) ?_
  refine g_iadd O dJ2_grow_6 ?_
  exact w.elim
-- J2_size
abbrev rJ2_size : Room := { frames := 1, cells := 0, slots := 0, locals := 12 }
set_option maxHeartbeats 4000000 in
theorem kJ2_size (l : Launch) (hfl : l.flags = flags0) (E : w_E) (z : Nat) (T L : Nat → Nat) (V : w_V) (P : w_P) (t : Nat) (hT : T t = 16) (post : Int32 → Prop) (w : wJ2_size E.2.2.2.2 T L V P t post) : gMi l yJ2_size (ws_ yJ2_size cJ2_size 1 (some .int)) rJ2_size 0 0 E [.ref t] (z, T, L, V, P) (xW0 z T L V P) (fun x (_ : Unit) => post x) := by
  refine g_start (S := Unit) hfl (by decide +kernel) rfl [some (.ref t)] rfl (fun _ h => h) (Nat.le_of_ble_eq_true rfl) (fun X hl hRm hEe O hQ => ?_)
  subst hl
  subst hEe
  unfold wJ2_size at w
  refine g_aload_n O dJ2_size_0 rfl ?_
  refine gx_getI (lay := 15) (j := 2) O ck15 (by decide) rfl rfl (by decide) hT q491 dJ2_size_1 ?_
  exact g_iret (f := xW0 z T L V P) (u := ()) O hQ rfl rfl w dJ2_size_4
-- J2_elementData
abbrev rJ2_elementData : Room := { frames := 1, cells := 0, slots := 0, locals := 12 }
set_option maxHeartbeats 4000000 in
theorem kJ2_elementData (l : Launch) (hfl : l.flags = flags0) (E : w_E) (z : Nat) (T L : Nat → Nat) (V : w_V) (P : w_P) (t : Nat) (hT : T t = 16) (x1 : Int32) (post : Nat → Prop) (w : wJ2_elementData E.2.2.2.2 T L V P t x1 post) : gMr l yJ2_elementData (ws_ yJ2_elementData cJ2_elementData 2 (some (.object "java/lang/Object"))) rJ2_elementData 0 0 E [.ref t, .int x1] (z, T, L, V, P) (xW0 z T L V P) (fun x (_ : Unit) => qN post x) := by
  refine g_start (S := Unit) hfl (by decide +kernel) rfl [some (.ref t), some (.int x1)] rfl (fun _ h => h) (Nat.le_of_ble_eq_true rfl) (fun X hl hRm hEe O hQ => ?_)
  subst hl
  subst hEe
  unfold wJ2_elementData at w
  refine g_aload_n O dJ2_elementData_0 rfl ?_
  obtain ⟨b1, hp2, ht3, w⟩ := w
  refine gx_getR (lay := 15) (j := 1) O ck15 (by decide) rfl rfl hp2 (by decide) hT q490 dJ2_elementData_1 ?_
  refine g_iload_n O dJ2_elementData_4 rfl ?_
  obtain ⟨i4, b8, hi5, g6, e7, hb9, w⟩ := w
  refine gx_aald (ty := 4) O ht3 (by decide) rfl hi5 g6 e7 hb9 dJ2_elementData_5 ?_
  exact g_aret (r := some b8) (f := xW0 z T L V P) (u := ()) O hQ (by first | exact Or.inl ⟨_, rfl⟩ | exact Or.inr ⟨_, rfl⟩) rfl ⟨_, rfl, w⟩ dJ2_elementData_6
-- J2_get
abbrev rJ2_get : Room := { frames := 3, cells := 0, slots := 0, locals := 55 }
set_option maxHeartbeats 4000000 in
theorem kJ2_get (l : Launch) (hfl : l.flags = flags0) (E : w_E) (z : Nat) (T L : Nat → Nat) (V : w_V) (P : w_P) (t : Nat) (hT : T t = 16) (x1 : Int32) (post : Nat → Prop) (w : wJ2_get E.2.2.2.2 T L V P t x1 post) : gMr l yJ2_get (ws_ yJ2_get cJ2_get 2 (some (.object "java/lang/Object"))) rJ2_get 0 0 E [.ref t, .int x1] (z, T, L, V, P) (xW0 z T L V P) (fun x (_ : Unit) => qN post x) := by
  refine g_start (S := Unit) hfl (by decide +kernel) rfl [some (.ref t), some (.int x1)] rfl (fun _ h => h) (Nat.le_of_ble_eq_true rfl) (fun X hl hRm hEe O hQ => ?_)
  subst hl
  subst hEe
  unfold wJ2_get at w
  refine g_iload_n O dJ2_get_0 rfl ?_
  refine g_aload_n O dJ2_get_1 rfl ?_
  refine gx_getI (lay := 15) (j := 2) O ck15 (by decide) rfl rfl (by decide) hT q491 dJ2_get_2 ?_
  refine g_ri0 (gr_S (nA := 2) (As := [.int x1, .int (V t 0 2)]) (rest := []) O hRm (kJ18_checkIndex _ O.2.2.2.2.2.2.2.2 _ _ _ _ _ _ (x1) ((V t 0 2)) _ w) (lw_S q799 q800 q133 q801) rfl rfl (by decide +kernel) ⟨Nat.le_of_ble_eq_true rfl, Nat.le_of_ble_eq_true rfl⟩ rfl rfl rfl (Nat.le_of_ble_eq_true rfl) dJ2_get_5 ⟨Nat.le_of_ble_eq_true rfl, Nat.le_of_ble_eq_true rfl⟩) (fun r1 w => ?_)
  refine g_pop O dJ2_get_8 rfl ?_
  refine g_aload_n O dJ2_get_9 rfl ?_
  refine g_iload_n O dJ2_get_10 rfl ?_
  refine g_rq0 (gr_V (lay := 15) (nA := 1) (As := [.int x1]) (rest := []) O hRm (kJ2_elementData _ O.2.2.2.2.2.2.2.2 _ _ _ _ _ _ t hT (x1) _ w) (lw_V q805 q806 q807 q110 q808) rfl rfl (by decide +kernel) ⟨Nat.le_of_ble_eq_true rfl, Nat.le_of_ble_eq_true rfl⟩ ck15 (by decide) rfl hT rfl rfl rfl (Nat.le_of_ble_eq_true rfl) dJ2_get_11 ⟨Nat.le_of_ble_eq_true rfl, Nat.le_of_ble_eq_true rfl⟩) (fun r4 w => ?_)
  exact g_aret (r := some r4) (f := xW0 z T L V P) (u := ()) O hQ (by first | exact Or.inl ⟨_, rfl⟩ | exact Or.inr ⟨_, rfl⟩) rfl ⟨_, rfl, w⟩ dJ2_get_14
-- J2_fastRemove
abbrev rJ2_fastRemove : Room := { frames := 1, cells := 0, slots := 0, locals := 60 }
set_option maxHeartbeats 4000000 in
theorem vjJ2_fastRemove_34 {X : Cx} {z : Nat} {T L : Nat → Nat} {V : w_V} {P : w_P} (O : Okc X cJ2_fastRemove RJ2 4 none) (hRm : cxR X = rJ2_fastRemove) (t : Nat) (hT : T t = 16) (x1 : Nat) (hx1 : T x1 = 2004) (x3 : Int32) (post : w_V → w_P → Prop) (hQ : cxMQ X (va_Qv (fun (u : w_V × w_P) => post u.1 u.2) (fun u t => wdW (cxE X) (xW2 z T L u) t.heap) (w_A (cxE X))) 0 0) (w : jJ2_fastRemove_34 (cxE X).2.2.2.2 T L V P t x1 x3 post) : gW X 0 0 z T L V P 34 [some (.ref t), some (.ref x1), none, some (.int x3)] [] := by
  unfold jJ2_fastRemove_34 at w
  refine g_aload_n O dJ2_fastRemove_34 rfl ?_
  refine g_aload_n O dJ2_fastRemove_35 rfl ?_
  refine g_iload_n O dJ2_fastRemove_36 rfl ?_
  refine g_dup_x1 O dJ2_fastRemove_37 rfl rfl ?_
  refine gx_putI (lay := 15) (j := 2) (ty := .int) O ck15 (by decide) rfl rfl (by decide) hT q491 rfl rfl rfl rfl dJ2_fastRemove_38 ?_
  refine g_nV w (fun V2 w _ => ?_)
  refine g_null O dJ2_fastRemove_41 ?_
  obtain ⟨i3, hi4, g5, e6, w⟩ := w
  refine gx_aastN (nn := i3) O hx1 hi4 g5 e6 dJ2_fastRemove_42 ?_
  refine g_nP w (fun P8 w _ => ?_)
  exact g_vret (f := xW2 z T L) (u := (V2, P8)) O hQ rfl w dJ2_fastRemove_43
set_option maxHeartbeats 4000000 in
theorem kJ2_fastRemove (l : Launch) (hfl : l.flags = flags0) (E : w_E) (z : Nat) (T L : Nat → Nat) (V : w_V) (P : w_P) (t : Nat) (hT : T t = 16) (x1 : Nat) (hx1 : T x1 = 2004) (x2 : Int32) (post : w_V → w_P → Prop) (w : wJ2_fastRemove E.2.2.2.2 T L V P t x1 x2 post) : gMv l yJ2_fastRemove (ws_ yJ2_fastRemove cJ2_fastRemove 4 none) rJ2_fastRemove 0 0 E [.ref t, .ref x1, .int x2] (z, T, L, V, P) (xW2 z T L) (fun (u : w_V × w_P) => post u.1 u.2) := by
  refine g_start (S := Unit) hfl (by decide +kernel) rfl [some (.ref t), some (.ref x1), some (.int x2), none] rfl (fun _ h => h) (Nat.le_of_ble_eq_true rfl) (fun X hl hRm hEe O hQ => ?_)
  subst hl
  subst hEe
  unfold wJ2_fastRemove at w
  refine g_aload_n O dJ2_fastRemove_0 rfl ?_
  refine g_dup O dJ2_fastRemove_1 rfl ?_
  refine gx_getIs (ref := "java/util/ArrayList") (lay := 15) (j := 0) O ck15 (by decide) rfl rfl (by decide) hT q493 q494 dJ2_fastRemove_2 ?_
  refine g_iconst (v := 1) O dJ2_fastRemove_5 (by decide) ?_
  refine g_iadd O dJ2_fastRemove_6 ?_
  refine gx_putIs (ref := "java/util/ArrayList") (lay := 15) (j := 0) (ty := .int) O ck15 (by decide) rfl rfl (by decide) hT q493 q494 rfl rfl rfl rfl dJ2_fastRemove_7 ?_
  refine g_nV w (fun V1 w _ => ?_)
  refine g_aload_n O dJ2_fastRemove_10 rfl ?_
  refine gx_getI (lay := 15) (j := 2) O ck15 (by decide) rfl rfl (by decide) hT q491 dJ2_fastRemove_11 ?_
  refine g_iconst (v := 1) O dJ2_fastRemove_14 (by decide) ?_
  refine g_isub O dJ2_fastRemove_15 ?_
  refine g_dup O dJ2_fastRemove_16 rfl ?_
  refine g_istore_n O dJ2_fastRemove_17 (Nat.le_of_ble_eq_true rfl) rfl (lv' := [some (.ref t), some (.ref x1), some (.int x2), some (.int ((V1 t 0 2) - 1))]) rfl ?_
  refine g_iload_n O dJ2_fastRemove_18 rfl ?_
  refine g_icmp_le (tgt := 34) O w dJ2_fastRemove_19 (by decide) (fun w => ?_) (fun w => ?_)
  · refine g_drop [2] (lv' := [some (.ref t), some (.ref x1), none, some (.int ((V1 t 0 2) - 1))]) rfl ?_
    exact vjJ2_fastRemove_34 O hRm (V := V1) (P := P) t hT x1 hx1 (((V1 t 0 2) - 1)) post hQ w
  · refine g_aload_n O dJ2_fastRemove_22 rfl ?_
    refine g_iload_n O dJ2_fastRemove_23 rfl ?_
    refine g_iconst (v := 1) O dJ2_fastRemove_24 (by decide) ?_
    refine g_iadd O dJ2_fastRemove_25 ?_
    refine g_aload_n O dJ2_fastRemove_26 rfl ?_
    refine g_iload_n O dJ2_fastRemove_27 rfl ?_
    refine g_iload_n O dJ2_fastRemove_28 rfl ?_
    refine g_iload_n O dJ2_fastRemove_29 rfl ?_
    refine g_isub O dJ2_fastRemove_30 ?_
    obtain ⟨i9, j10, m11, e12, e13, e14, h15, h16, h17, h18, hel19, w⟩ := w
    refine gx_copyR (sp := i9) (dp := j10) (nn := m11) O hRm q1559 hx1 hx1 e12 e13 e14 h15 h16 h17 h18 hel19 (Nat.le_of_ble_eq_true rfl) (Nat.le_of_ble_eq_true rfl) rfl dJ2_fastRemove_31 ?_
    refine g_nP w (fun P20 w _ => ?_)
    refine g_drop [2] (lv' := [some (.ref t), some (.ref x1), none, some (.int ((V1 t 0 2) - 1))]) rfl ?_
    exact vjJ2_fastRemove_34 O hRm (V := V1) (P := P20) t hT x1 hx1 (((V1 t 0 2) - 1)) post hQ w
-- J2_remove
abbrev rJ2_remove : Room := { frames := 3, cells := 0, slots := 0, locals := 83 }
set_option maxHeartbeats 4000000 in
theorem kJ2_remove (l : Launch) (hfl : l.flags = flags0) (E : w_E) (z : Nat) (T L : Nat → Nat) (V : w_V) (P : w_P) (t : Nat) (hT : T t = 16) (x1 : Int32) (post : Nat → w_V → w_P → Prop) (w : wJ2_remove E.2.2.2.2 T L V P t x1 post) : gMr l yJ2_remove (ws_ yJ2_remove cJ2_remove 4 (some (.object "java/lang/Object"))) rJ2_remove 0 0 E [.ref t, .int x1] (z, T, L, V, P) (xW2 z T L) (fun x (u : w_V × w_P) => qN (fun b => post b u.1 u.2) x) := by
  refine g_start (S := Unit) hfl (by decide +kernel) rfl [some (.ref t), some (.int x1), none, none] rfl (fun _ h => h) (Nat.le_of_ble_eq_true rfl) (fun X hl hRm hEe O hQ => ?_)
  subst hl
  subst hEe
  unfold wJ2_remove at w
  refine g_iload_n O dJ2_remove_0 rfl ?_
  refine g_aload_n O dJ2_remove_1 rfl ?_
  refine gx_getI (lay := 15) (j := 2) O ck15 (by decide) rfl rfl (by decide) hT q491 dJ2_remove_2 ?_
  refine g_ri0 (gr_S (nA := 2) (As := [.int x1, .int (V t 0 2)]) (rest := []) O hRm (kJ18_checkIndex _ O.2.2.2.2.2.2.2.2 _ _ _ _ _ _ (x1) ((V t 0 2)) _ w) (lw_S q799 q800 q133 q801) rfl rfl (by decide +kernel) ⟨Nat.le_of_ble_eq_true rfl, Nat.le_of_ble_eq_true rfl⟩ rfl rfl rfl (Nat.le_of_ble_eq_true rfl) dJ2_remove_5 ⟨Nat.le_of_ble_eq_true rfl, Nat.le_of_ble_eq_true rfl⟩) (fun r1 w => ?_)
  refine g_pop O dJ2_remove_8 rfl ?_
  refine g_aload_n O dJ2_remove_9 rfl ?_
  obtain ⟨b4, hp5, ht6, w⟩ := w
  refine gx_getR (lay := 15) (j := 1) O ck15 (by decide) rfl rfl hp5 (by decide) hT q490 dJ2_remove_10 ?_
  refine g_astore_n O dJ2_remove_13 (Nat.le_of_ble_eq_true rfl) rfl (lv' := [some (.ref t), some (.int x1), some (.ref b4), none]) rfl ?_
  refine g_aload_n O dJ2_remove_14 rfl ?_
  refine g_iload_n O dJ2_remove_15 rfl ?_
  obtain ⟨i7, b11, hi8, g9, e10, hb12, w⟩ := w
  refine gx_aald (ty := 4) O ht6 (by decide) rfl hi8 g9 e10 hb12 dJ2_remove_16 ?_
  refine g_astore_n O dJ2_remove_17 (Nat.le_of_ble_eq_true rfl) rfl (lv' := [some (.ref t), some (.int x1), some (.ref b4), some (.ref b11)]) rfl ?_
  refine g_aload_n O dJ2_remove_18 rfl ?_
  refine g_aload_n O dJ2_remove_19 rfl ?_
  refine g_iload_n O dJ2_remove_20 rfl ?_
  refine g_rv2 (gr_V (lay := 15) (nA := 2) (As := [.ref b4, .int x1]) (rest := []) O hRm (kJ2_fastRemove _ O.2.2.2.2.2.2.2.2 _ _ _ _ _ _ t hT b4 ht6 (x1) _ w) (lw_V q1555 q1557 qs42 q110 q1558) rfl rfl (by decide +kernel) ⟨Nat.le_of_ble_eq_true rfl, Nat.le_of_ble_eq_true rfl⟩ ck15 (by decide) rfl hT rfl rfl rfl (Nat.le_of_ble_eq_true rfl) dJ2_remove_21 ⟨Nat.le_of_ble_eq_true rfl, Nat.le_of_ble_eq_true rfl⟩) (fun V14 P15 w => ?_)
  refine g_aload_n O dJ2_remove_24 rfl ?_
  exact g_aret (r := some b11) (f := xW2 z T L) (u := (V14, P15)) O hQ (by first | exact Or.inl ⟨_, rfl⟩ | exact Or.inr ⟨_, rfl⟩) rfl ⟨_, rfl, w⟩ dJ2_remove_25
-- J7_inflate
abbrev rJ7_inflate : Room := { frames := 2, cells := 0, slots := 0, locals := 32 }
set_option maxHeartbeats 4000000 in
theorem kJ7_inflate (l : Launch) (hfl : l.flags = flags0) (E : w_E) (z : Nat) (T L : Nat → Nat) (V : w_V) (P : w_P) (t : Nat) (hT : T t = 19) (post : w_V → w_P → Prop) (w : wJ7_inflate E.2.2.2.2 T L V P t post) : gMv l yJ7_inflate (ws_ yJ7_inflate cJ7_inflate 2 none) rJ7_inflate 0 0 E [.ref t] (z, T, L, V, P) (xW2 z T L) (fun (u : w_V × w_P) => post u.1 u.2) := by
  refine g_start (S := Unit) hfl (by decide +kernel) rfl [some (.ref t), none] rfl (fun _ h => h) (Nat.le_of_ble_eq_true rfl) (fun X hl hRm hEe O hQ => ?_)
  subst hl
  subst hEe
  unfold wJ7_inflate at w
  refine g_aload_n O dJ7_inflate_0 rfl ?_
  refine g_ri0 (gr_U (owner := "java/lang/AbstractStringBuilder") (lay := 18) (nA := 0) (As := []) (rest := []) O hRm (kJ7_isLatin1 _ O.2.2.2.2.2.2.2.2 _ _ _ _ _ _ t hT _ w) (lw_U q298 q300 q301 q299 q115 q302) rfl rfl rfl (by decide +kernel) ⟨Nat.le_of_ble_eq_true rfl, Nat.le_of_ble_eq_true rfl⟩ ck18 (by decide) rfl hT rfl rfl rfl (Nat.le_of_ble_eq_true rfl) dJ7_inflate_1 ⟨Nat.le_of_ble_eq_true rfl, Nat.le_of_ble_eq_true rfl⟩) (fun r1 w => ?_)
  refine g_if_ne (tgt := 8) O w dJ7_inflate_4 (by decide) (fun w => ?_) (fun w => ?_)
  · refine g_aload_n O dJ7_inflate_8 rfl ?_
    obtain ⟨b4, a6, k7, n8, hp5, h9, g10, w⟩ := w
    refine gx_getR (lay := 18) (j := 0) O ck18 (by decide) rfl rfl hp5 (by decide) hT q236 dJ7_inflate_9 ?_
    refine gx_alen (a := a6) (kk0 := k7) (len := n8) (ty := 1) (fty := .byte) O h9 rfl dJ7_inflate_12 ?_
    exact w.elim
  · exact g_vret (f := xW2 z T L) (u := (V, P)) O hQ rfl w dJ7_inflate_7
-- J7_append_3
abbrev rJ7_append_3 : Room := { frames := 3, cells := 0, slots := 0, locals := 53 }
set_option maxHeartbeats 4000000 in
theorem vjJ7_append_3_56 {X : Cx} {z : Nat} {T L : Nat → Nat} {V : w_V} {P : w_P} (O : Okc X cJ7_append_3 RJ7 2 (some (.object "java/lang/AbstractStringBuilder"))) (hRm : cxR X = rJ7_append_3) (t : Nat) (hT : T t = 19) (x1 : Int32) (post : Nat → w_V → w_P → Prop) (hQ : cxMQ X (va_Qq (fun x (u : w_V × w_P) => qN (fun b => post b u.1 u.2) x) (fun u t => wdW (cxE X) (xW2 z T L u) t.heap) (w_A (cxE X))) 0 0) (w : jJ7_append_3_56 (cxE X).2.2.2.2 T L V P t x1 post) : gW X 0 0 z T L V P 56 [some (.ref t), some (.int x1)] [] := by
  unfold jJ7_append_3_56 at w
  refine g_aload_n O dJ7_append_3_56 rfl ?_
  obtain ⟨b10, a12, k13, n14, hp11, h15, g16, w⟩ := w
  refine gx_getR (lay := 18) (j := 0) O ck18 (by decide) rfl rfl hp11 (by decide) hT q236 dJ7_append_3_57 ?_
  refine g_aload_n O dJ7_append_3_60 rfl ?_
  refine g_dup O dJ7_append_3_61 rfl ?_
  refine gx_getI (lay := 18) (j := 3) O ck18 (by decide) rfl rfl (by decide) hT q239 dJ7_append_3_62 ?_
  refine g_dup_x1 O dJ7_append_3_65 rfl rfl ?_
  refine g_iconst (v := 1) O dJ7_append_3_66 (by decide) ?_
  refine g_iadd O dJ7_append_3_67 ?_
  refine gx_putI (lay := 18) (j := 3) (ty := .int) O ck18 (by decide) rfl rfl (by decide) hT q239 rfl rfl rfl rfl dJ7_append_3_68 ?_
  refine g_nV w (fun V17 w _ => ?_)
  refine g_iload_n O dJ7_append_3_71 rfl ?_
  exact w.elim
set_option maxHeartbeats 4000000 in
theorem vjJ7_append_3_45 {X : Cx} {z : Nat} {T L : Nat → Nat} {V : w_V} {P : w_P} (O : Okc X cJ7_append_3 RJ7 2 (some (.object "java/lang/AbstractStringBuilder"))) (hRm : cxR X = rJ7_append_3) (t : Nat) (hT : T t = 19) (x1 : Int32) (post : Nat → w_V → w_P → Prop) (hQ : cxMQ X (va_Qq (fun x (u : w_V × w_P) => qN (fun b => post b u.1 u.2) x) (fun u t => wdW (cxE X) (xW2 z T L u) t.heap) (w_A (cxE X))) 0 0) (w : jJ7_append_3_45 (cxE X).2.2.2.2 T L V P t x1 post) : gW X 0 0 z T L V P 45 [some (.ref t), some (.int x1)] [] := by
  unfold jJ7_append_3_45 at w
  refine g_aload_n O dJ7_append_3_45 rfl ?_
  refine g_ri0 (gr_U (owner := "java/lang/AbstractStringBuilder") (lay := 18) (nA := 0) (As := []) (rest := []) O hRm (kJ7_isLatin1 _ O.2.2.2.2.2.2.2.2 _ _ _ _ _ _ t hT _ w) (lw_U q298 q300 q301 q299 q115 q302) rfl rfl rfl (by decide +kernel) ⟨Nat.le_of_ble_eq_true rfl, Nat.le_of_ble_eq_true rfl⟩ ck18 (by decide) rfl hT rfl rfl rfl (Nat.le_of_ble_eq_true rfl) dJ7_append_3_46 ⟨Nat.le_of_ble_eq_true rfl, Nat.le_of_ble_eq_true rfl⟩) (fun r7 w => ?_)
  refine g_if_eq (tgt := 56) O w dJ7_append_3_49 (by decide) (fun w => ?_) (fun w => ?_)
  · exact vjJ7_append_3_56 O hRm (V := V) (P := P) t hT (x1) post hQ w
  · refine g_aload_n O dJ7_append_3_52 rfl ?_
    refine g_rv2 (gr_P (lay := 18) (nA := 0) (As := []) (rest := []) (N0 := 4) (x0 := ⟨"java/lang/AbstractStringBuilder", "isLatin1", "()Z"⟩) (y0 := ⟨"java/lang/AbstractStringBuilder", "isLatin1", "()Z"⟩) O hRm (kJ7_inflate _ O.2.2.2.2.2.2.2.2 _ _ _ _ _ _ t hT _ w) (lw_meth q350) q347 q2340 q349 q115 q350 q219 q348 q301 rfl rfl rfl (by decide +kernel) ⟨Nat.le_of_ble_eq_true rfl, Nat.le_of_ble_eq_true rfl⟩ ck18 (by decide) rfl hT rfl rfl rfl (Nat.le_of_ble_eq_true rfl) dJ7_append_3_53 ⟨Nat.le_of_ble_eq_true rfl, Nat.le_of_ble_eq_true rfl⟩) (fun V19 P20 w => ?_)
    exact vjJ7_append_3_56 O hRm (V := V19) (P := P20) t hT (x1) post hQ w
set_option maxHeartbeats 4000000 in
theorem vjJ7_append_3_75 {X : Cx} {z : Nat} {T L : Nat → Nat} {V : w_V} {P : w_P} (O : Okc X cJ7_append_3 RJ7 2 (some (.object "java/lang/AbstractStringBuilder"))) (hRm : cxR X = rJ7_append_3) (t : Nat) (hT : T t = 19) (post : Nat → w_V → w_P → Prop) (hQ : cxMQ X (va_Qq (fun x (u : w_V × w_P) => qN (fun b => post b u.1 u.2) x) (fun u t => wdW (cxE X) (xW2 z T L u) t.heap) (w_A (cxE X))) 0 0) (w : jJ7_append_3_75 (cxE X).2.2.2.2 T L V P t post) : gW X 0 0 z T L V P 75 [some (.ref t), none] [] := by
  unfold jJ7_append_3_75 at w
  refine g_aload_n O dJ7_append_3_75 rfl ?_
  exact g_aret (r := some t) (f := xW2 z T L) (u := (V, P)) O hQ (by first | exact Or.inl ⟨_, rfl⟩ | exact Or.inr ⟨_, rfl⟩) rfl ⟨_, rfl, w⟩ dJ7_append_3_76
set_option maxHeartbeats 4000000 in
theorem kJ7_append_3 (l : Launch) (hfl : l.flags = flags0) (E : w_E) (z : Nat) (T L : Nat → Nat) (V : w_V) (P : w_P) (t : Nat) (hT : T t = 19) (x1 : Int32) (post : Nat → w_V → w_P → Prop) (w : wJ7_append_3 E.2.2.2.2 T L V P t x1 post) : gMr l yJ7_append_3 (ws_ yJ7_append_3 cJ7_append_3 2 (some (.object "java/lang/AbstractStringBuilder"))) rJ7_append_3 0 0 E [.ref t, .int x1] (z, T, L, V, P) (xW2 z T L) (fun x (u : w_V × w_P) => qN (fun b => post b u.1 u.2) x) := by
  refine g_start (S := Unit) hfl (by decide +kernel) rfl [some (.ref t), some (.int x1)] rfl (fun _ h => h) (Nat.le_of_ble_eq_true rfl) (fun X hl hRm hEe O hQ => ?_)
  subst hl
  subst hEe
  unfold wJ7_append_3 at w
  refine g_aload_n O dJ7_append_3_0 rfl ?_
  refine g_aload_n O dJ7_append_3_1 rfl ?_
  refine gx_getI (lay := 18) (j := 3) O ck18 (by decide) rfl rfl (by decide) hT q239 dJ7_append_3_2 ?_
  refine g_iconst (v := 1) O dJ7_append_3_5 (by decide) ?_
  refine g_iadd O dJ7_append_3_6 ?_
  refine g_rv2 (gr_P (lay := 18) (nA := 1) (As := [.int ((V t 0 3) + 1)]) (rest := []) (N0 := 4) (x0 := ⟨"java/lang/AbstractStringBuilder", "isLatin1", "()Z"⟩) (y0 := ⟨"java/lang/AbstractStringBuilder", "isLatin1", "()Z"⟩) O hRm (kJ7_ensureCapacityInternal _ O.2.2.2.2.2.2.2.2 _ _ _ _ _ _ t hT (((V t 0 3) + 1)) _ w) (lw_meth q266) q263 q2336 q265 q115 q266 q219 q264 q301 rfl rfl rfl (by decide +kernel) ⟨Nat.le_of_ble_eq_true rfl, Nat.le_of_ble_eq_true rfl⟩ ck18 (by decide) rfl hT rfl rfl rfl (Nat.le_of_ble_eq_true rfl) dJ7_append_3_7 ⟨Nat.le_of_ble_eq_true rfl, Nat.le_of_ble_eq_true rfl⟩) (fun V2 P3 w => ?_)
  refine g_aload_n O dJ7_append_3_10 rfl ?_
  refine g_ri0 (gr_U (owner := "java/lang/AbstractStringBuilder") (lay := 18) (nA := 0) (As := []) (rest := []) O hRm (kJ7_isLatin1 _ O.2.2.2.2.2.2.2.2 _ _ _ _ _ _ t hT _ w) (lw_U q298 q300 q301 q299 q115 q302) rfl rfl rfl (by decide +kernel) ⟨Nat.le_of_ble_eq_true rfl, Nat.le_of_ble_eq_true rfl⟩ ck18 (by decide) rfl hT rfl rfl rfl (Nat.le_of_ble_eq_true rfl) dJ7_append_3_11 ⟨Nat.le_of_ble_eq_true rfl, Nat.le_of_ble_eq_true rfl⟩) (fun r4 w => ?_)
  refine g_if_eq (tgt := 45) O w dJ7_append_3_14 (by decide) (fun w => ?_) (fun w => ?_)
  · exact vjJ7_append_3_45 O hRm (V := V2) (P := P3) t hT (x1) post hQ w
  · refine g_iload_n O dJ7_append_3_17 rfl ?_
    refine g_ri0 (gr_S (nA := 1) (As := [.int x1]) (rest := []) O hRm (kJ15_canEncode _ O.2.2.2.2.2.2.2.2 _ _ _ _ _ _ (x1) _ w) (lw_S q940 q941 q124 q942) rfl rfl (by decide +kernel) ⟨Nat.le_of_ble_eq_true rfl, Nat.le_of_ble_eq_true rfl⟩ rfl rfl rfl (Nat.le_of_ble_eq_true rfl) dJ7_append_3_18 ⟨Nat.le_of_ble_eq_true rfl, Nat.le_of_ble_eq_true rfl⟩) (fun r21 w => ?_)
    refine g_if_eq (tgt := 45) O w dJ7_append_3_21 (by decide) (fun w => ?_) (fun w => ?_)
    · exact vjJ7_append_3_45 O hRm (V := V2) (P := P3) t hT (x1) post hQ w
    · refine g_aload_n O dJ7_append_3_24 rfl ?_
      obtain ⟨b24, a26, k27, n28, hp25, h29, g30, w⟩ := w
      refine gx_getR (lay := 18) (j := 0) O ck18 (by decide) rfl rfl hp25 (by decide) hT q236 dJ7_append_3_25 ?_
      refine g_aload_n O dJ7_append_3_28 rfl ?_
      refine g_dup O dJ7_append_3_29 rfl ?_
      refine gx_getI (lay := 18) (j := 3) O ck18 (by decide) rfl rfl (by decide) hT q239 dJ7_append_3_30 ?_
      refine g_dup_x1 O dJ7_append_3_33 rfl rfl ?_
      refine g_iconst (v := 1) O dJ7_append_3_34 (by decide) ?_
      refine g_iadd O dJ7_append_3_35 ?_
      refine gx_putI (lay := 18) (j := 3) (ty := .int) O ck18 (by decide) rfl rfl (by decide) hT q239 rfl rfl rfl rfl dJ7_append_3_36 ?_
      refine g_nV w (fun V31 w _ => ?_)
      refine g_iload_n O dJ7_append_3_39 rfl ?_
      refine g_i2b O dJ7_append_3_40 ?_
      obtain ⟨i32, hi33, e34, w⟩ := w
      refine gx_bast (a := a26) (kk0 := k27) (len := n28) (nn := i32) O h29 hi33 g30 e34 dJ7_append_3_41 ?_
      refine g_nV w (fun V35 w _ => ?_)
      refine g_goto (tgt := 75) O dJ7_append_3_42 (by decide) ?_
      refine g_drop [1] (lv' := [some (.ref t), none]) rfl ?_
      exact vjJ7_append_3_75 O hRm (V := V35) (P := P3) t hT post hQ w
-- J8_length
abbrev rJ8_length : Room := { frames := 2, cells := 0, slots := 0, locals := 32 }
set_option maxHeartbeats 4000000 in
theorem kJ8_length (l : Launch) (hfl : l.flags = flags0) (E : w_E) (z : Nat) (T L : Nat → Nat) (V : w_V) (P : w_P) (t : Nat) (hT : T t = 19) (post : Int32 → Prop) (w : wJ8_length E.2.2.2.2 T L V P t post) : gMi l yJ8_length (ws_ yJ8_length cJ8_length 1 (some .int)) rJ8_length 0 0 E [.ref t] (z, T, L, V, P) (xW0 z T L V P) (fun x (_ : Unit) => post x) := by
  refine g_start (S := Unit) hfl (by decide +kernel) rfl [some (.ref t)] rfl (fun _ h => h) (Nat.le_of_ble_eq_true rfl) (fun X hl hRm hEe O hQ => ?_)
  subst hl
  subst hEe
  unfold wJ8_length at w
  refine g_aload_n O dJ8_length_0 rfl ?_
  refine g_ri0 (gr_SU (lay := 18) (nA := 0) (As := []) (rest := []) O hRm (kJ7_length _ O.2.2.2.2.2.2.2.2 _ _ _ _ _ _ t (hT) _ w) (lw_SU q421 q417 q248 q416 q115 q422) rfl rfl (by decide +kernel) ⟨Nat.le_of_ble_eq_true rfl, Nat.le_of_ble_eq_true rfl⟩ ck18 (by decide) rfl hT rfl rfl rfl (Nat.le_of_ble_eq_true rfl) dJ8_length_1 ⟨Nat.le_of_ble_eq_true rfl, Nat.le_of_ble_eq_true rfl⟩) (fun r1 w => ?_)
  exact g_iret (f := xW0 z T L V P) (u := ()) O hQ rfl rfl w dJ8_length_4
-- J8_append_3
abbrev rJ8_append_3 : Room := { frames := 4, cells := 0, slots := 0, locals := 74 }
set_option maxHeartbeats 4000000 in
theorem kJ8_append_3 (l : Launch) (hfl : l.flags = flags0) (E : w_E) (z : Nat) (T L : Nat → Nat) (V : w_V) (P : w_P) (t : Nat) (hT : T t = 19) (x1 : Int32) (post : Nat → w_V → w_P → Prop) (w : wJ8_append_3 E.2.2.2.2 T L V P t x1 post) : gMr l yJ8_append_3 (ws_ yJ8_append_3 cJ8_append_3 2 (some (.object "java/lang/StringBuilder"))) rJ8_append_3 0 0 E [.ref t, .int x1] (z, T, L, V, P) (xW2 z T L) (fun x (u : w_V × w_P) => qN (fun b => post b u.1 u.2) x) := by
  refine g_start (S := Unit) hfl (by decide +kernel) rfl [some (.ref t), some (.int x1)] rfl (fun _ h => h) (Nat.le_of_ble_eq_true rfl) (fun X hl hRm hEe O hQ => ?_)
  subst hl
  subst hEe
  unfold wJ8_append_3 at w
  refine g_aload_n O dJ8_append_3_0 rfl ?_
  refine g_iload_n O dJ8_append_3_1 rfl ?_
  refine g_rq2 (gr_SU (lay := 18) (nA := 1) (As := [.int x1]) (rest := []) O hRm (kJ7_append_3 _ O.2.2.2.2.2.2.2.2 _ _ _ _ _ _ t (hT) (x1) _ w) (lw_SU q937 q2343 q248 q938 q115 q939) rfl rfl (by decide +kernel) ⟨Nat.le_of_ble_eq_true rfl, Nat.le_of_ble_eq_true rfl⟩ ck18 (by decide) rfl hT rfl rfl rfl (Nat.le_of_ble_eq_true rfl) dJ8_append_3_2 ⟨Nat.le_of_ble_eq_true rfl, Nat.le_of_ble_eq_true rfl⟩) (fun r1 V2 P3 w => ?_)
  refine g_pop O dJ8_append_3_5 rfl ?_
  refine g_aload_n O dJ8_append_3_6 rfl ?_
  exact g_aret (r := some t) (f := xW2 z T L) (u := (V2, P3)) O hQ (by first | exact Or.inl ⟨_, rfl⟩ | exact Or.inr ⟨_, rfl⟩) rfl ⟨_, rfl, w⟩ dJ8_append_3_7
-- J15m_equals
abbrev rJ15m_equals : Room := { frames := 1, cells := 0, slots := 0, locals := 12 }
set_option maxHeartbeats 4000000 in
theorem vlJ15m_equals_9 {X : Cx} {z : Nat} {T L : Nat → Nat} {V : w_V} {P : w_P} (O : Okc X cJ15_equals RJ15 3 (some .boolean)) (hRm : cxR X = rJ15m_equals) (d0 a0 k0 n0 : Nat) (h0 : hArr T L d0 a0 k0 n0 1) (g0 : n0 < 2147483648) (x1 : Nat) (tx1 : List Nat) (hs1 : cArr (cxE X) x1 tx1) (post : Int32 → Prop) (hQ : cxMQ X (va_Qi (fun x (_ : Unit) => post x) (fun u t => wdW (cxE X) (xW0 z T L V P u) t.heap) (w_A (cxE X))) 0 0)  : ∀ (n : Nat) (x2 : Int32), lJ15m_equals_9 (cxE X).2.2.2.2 T L V P a0 k0 n0 x1 tx1 post n x2 → gW X 0 0 z T L V P 9 [some (.ref d0), some (.ref x1), some (.int x2)] [] := by
  intro n
  induction n with
  | zero =>
    intro x2 w
    exact w.elim
  | succ n ih =>
    intro x2 w
    unfold lJ15m_equals_9 at w
    refine g_iload_n O dJ15_equals_9 rfl ?_
    refine g_aload_n O dJ15_equals_10 rfl ?_
    refine gx_alen (a := a0) (kk0 := k0) (len := n0) (ty := 1) (fty := .byte) O h0 rfl dJ15_equals_11 ?_
    refine g_icmp_ge (tgt := 32) O w dJ15_equals_12 (by decide) (fun w => ?_) (fun w => ?_)
    · refine g_iconst (v := 1) O dJ15_equals_32 (by decide) ?_
      exact g_iret (f := xW0 z T L V P) (u := ()) O hQ rfl rfl w dJ15_equals_33
    · refine g_aload_n O dJ15_equals_15 rfl ?_
      refine g_iload_n O dJ15_equals_16 rfl ?_
      obtain ⟨i1, hi2, e3, w⟩ := w
      refine gx_bald (a := a0) (kk0 := k0) (len := n0) (nn := i1) O h0 hi2 g0 e3 dJ15_equals_17 ?_
      refine g_aload_n O dJ15_equals_18 rfl ?_
      refine g_iload_n O dJ15_equals_19 rfl ?_
      obtain ⟨i4, hi5, e6, w⟩ := w
      refine gs_bald O hs1 hi5 e6 dJ15_equals_20 ?_
      refine g_icmp_eq (tgt := 26) O w dJ15_equals_21 (by decide) (fun w => ?_) (fun w => ?_)
      · refine g_iinc (v := (x2 + 1)) O dJ15_equals_26 rfl rfl rfl (lv' := [some (.ref d0), some (.ref x1), some (.int (x2 + 1))]) rfl ?_
        refine g_goto (tgt := 9) O dJ15_equals_29 (by decide) ?_
        exact ih ((x2 + 1)) w
      · refine g_iconst (v := 0) O dJ15_equals_24 (by decide) ?_
        exact g_iret (f := xW0 z T L V P) (u := ()) O hQ rfl rfl w dJ15_equals_25
set_option maxHeartbeats 4000000 in
theorem kJ15m_equals (l : Launch) (hfl : l.flags = flags0) (E : w_E) (z : Nat) (T L : Nat → Nat) (V : w_V) (P : w_P) (d0 a0 k0 n0 : Nat) (h0 : hArr T L d0 a0 k0 n0 1) (g0 : n0 < 2147483648) (x1 : Nat) (tx1 : List Nat) (hs1 : cArr E x1 tx1) (post : Int32 → Prop) (w : wJ15m_equals E.2.2.2.2 T L V P a0 k0 n0 x1 tx1 post) : gMi l yJ15_equals (ws_ yJ15_equals cJ15_equals 3 (some .boolean)) rJ15m_equals 0 0 E [.ref d0, .ref x1] (z, T, L, V, P) (xW0 z T L V P) (fun x (_ : Unit) => post x) := by
  refine g_start (S := Unit) hfl (by decide +kernel) rfl [some (.ref d0), some (.ref x1), none] rfl (fun _ h => h) (Nat.le_of_ble_eq_true rfl) (fun X hl hRm hEe O hQ => ?_)
  subst hl
  subst hEe
  unfold wJ15m_equals at w
  refine g_aload_n O dJ15_equals_0 rfl ?_
  refine gx_alen (a := a0) (kk0 := k0) (len := n0) (ty := 1) (fty := .byte) O h0 rfl dJ15_equals_1 ?_
  refine g_aload_n O dJ15_equals_2 rfl ?_
  refine gs_alen O hs1 dJ15_equals_3 ?_
  refine g_icmp_ne (tgt := 34) O w dJ15_equals_4 (by decide) (fun w => ?_) (fun w => ?_)
  · refine g_iconst (v := 0) O dJ15_equals_34 (by decide) ?_
    exact g_iret (f := xW0 z T L V P) (u := ()) O hQ rfl rfl w dJ15_equals_35
  · refine g_iconst (v := 0) O dJ15_equals_7 (by decide) ?_
    refine g_istore_n O dJ15_equals_8 (Nat.le_of_ble_eq_true rfl) rfl (lv' := [some (.ref d0), some (.ref x1), some (.int 0)]) rfl ?_
    obtain ⟨n7, w⟩ := w
    exact vlJ15m_equals_9 O hRm (V := V) (P := P) d0 a0 k0 n0 h0 g0 x1 tx1 hs1 post hQ n7 (0) w
-- J15k_charAt
abbrev rJ15k_charAt : Room := { frames := 3, cells := 0, slots := 0, locals := 55 }
set_option maxHeartbeats 4000000 in
theorem kJ15k_charAt (l : Launch) (hfl : l.flags = flags0) (E : w_E) (z : Nat) (T L : Nat → Nat) (V : w_V) (P : w_P) (x0 : Nat) (tx0 : List Nat) (hs0 : cArr E x0 tx0) (x1 : Int32) (post : Int32 → Prop) (w : wJ15k_charAt E.2.2.2.2 T L V P x0 tx0 x1 post) : gMi l yJ15_charAt (ws_ yJ15_charAt cJ15_charAt 2 (some .char)) rJ15k_charAt 0 0 E [.ref x0, .int x1] (z, T, L, V, P) (xW0 z T L V P) (fun x (_ : Unit) => post x) := by
  refine g_start (S := Unit) hfl (by decide +kernel) rfl [some (.ref x0), some (.int x1)] rfl (fun _ h => h) (Nat.le_of_ble_eq_true rfl) (fun X hl hRm hEe O hQ => ?_)
  subst hl
  subst hEe
  unfold wJ15k_charAt at w
  refine g_iload_n O dJ15_charAt_0 rfl ?_
  refine g_aload_n O dJ15_charAt_1 rfl ?_
  refine gs_alen O hs0 dJ15_charAt_2 ?_
  refine g_rv0 (gr_S (nA := 2) (As := [.int x1, .int (nI tx0.length)]) (rest := []) O hRm (kJ9_checkIndex _ O.2.2.2.2.2.2.2.2 _ _ _ _ _ _ (x1) ((nI tx0.length)) _ w) (lw_S q1159 q950 q117 q951) rfl rfl (by decide +kernel) ⟨Nat.le_of_ble_eq_true rfl, Nat.le_of_ble_eq_true rfl⟩ rfl rfl rfl (Nat.le_of_ble_eq_true rfl) dJ15_charAt_3 ⟨Nat.le_of_ble_eq_true rfl, Nat.le_of_ble_eq_true rfl⟩) (fun w => ?_)
  refine g_aload_n O dJ15_charAt_6 rfl ?_
  refine g_iload_n O dJ15_charAt_7 rfl ?_
  obtain ⟨i4, hi5, e6, w⟩ := w
  refine gs_bald O hs0 hi5 e6 dJ15_charAt_8 ?_
  refine g_sipush (v := 255) O dJ15_charAt_9 (by decide) ?_
  refine g_iand O dJ15_charAt_12 ?_
  refine g_i2c O dJ15_charAt_13 ?_
  exact g_iret (f := xW0 z T L V P) (u := ()) O hQ w.1 rfl w.2 dJ15_charAt_14
-- J9_isLatin1
abbrev rJ9_isLatin1 : Room := { frames := 1, cells := 0, slots := 0, locals := 12 }
set_option maxHeartbeats 4000000 in
theorem kJ9_isLatin1 (l : Launch) (hfl : l.flags = flags0) (E : w_E) (z : Nat) (T L : Nat → Nat) (V : w_V) (P : w_P) (t : Nat) (hT : T t = 18) (post : Int32 → Prop) (w : wJ9_isLatin1 E.2.2.2.2 T L V P t post) : gMi l yJ9_isLatin1 (ws_ yJ9_isLatin1 cJ9_isLatin1 1 (some .boolean)) rJ9_isLatin1 0 0 E [.ref t] (z, T, L, V, P) (xW0 z T L V P) (fun x (_ : Unit) => post x) := by
  refine g_start (S := Unit) hfl (by decide +kernel) rfl [some (.ref t)] rfl (fun _ h => h) (Nat.le_of_ble_eq_true rfl) (fun X hl hRm hEe O hQ => ?_)
  subst hl
  subst hEe
  unfold wJ9_isLatin1 at w
  refine gs_compact O q337 dJ9_isLatin1_0 ?_
  refine g_if_eq_f O (by decide) dJ9_isLatin1_3 17 (by decide) ?_
  refine g_aload_n O dJ9_isLatin1_6 rfl ?_
  refine gx_getI (lay := 17) (j := 1) O ck17 (by decide) rfl rfl (by decide) hT q479 dJ9_isLatin1_7 ?_
  refine g_if_ne (tgt := 17) O w dJ9_isLatin1_10 (by decide) (fun w => ?_) (fun w => ?_)
  · refine g_iconst (v := 0) O dJ9_isLatin1_17 (by decide) ?_
    exact g_iret (f := xW0 z T L V P) (u := ()) O hQ rfl rfl w dJ9_isLatin1_18
  · refine g_iconst (v := 1) O dJ9_isLatin1_13 (by decide) ?_
    refine g_goto (tgt := 18) O dJ9_isLatin1_14 (by decide) ?_
    exact g_iret (f := xW0 z T L V P) (u := ()) O hQ rfl rfl w dJ9_isLatin1_18
-- J9k_isLatin1
abbrev rJ9k_isLatin1 : Room := { frames := 1, cells := 0, slots := 0, locals := 12 }
set_option maxHeartbeats 4000000 in
theorem kJ9k_isLatin1 (l : Launch) (hfl : l.flags = flags0) (E : w_E) (z : Nat) (T L : Nat → Nat) (V : w_V) (P : w_P) (x0 : Nat) (tx0 : List Nat) (hs0 : isStr E x0 tx0) (post : Int32 → Prop) (w : wJ9k_isLatin1 E.2.2.2.2 T L V P x0 tx0 post) : gMi l yJ9_isLatin1 (ws_ yJ9_isLatin1 cJ9_isLatin1 1 (some .boolean)) rJ9k_isLatin1 0 0 E [.ref x0] (z, T, L, V, P) (xW0 z T L V P) (fun x (_ : Unit) => post x) := by
  refine g_start (S := Unit) hfl (by decide +kernel) rfl [some (.ref x0)] rfl (fun _ h => h) (Nat.le_of_ble_eq_true rfl) (fun X hl hRm hEe O hQ => ?_)
  subst hl
  subst hEe
  unfold wJ9k_isLatin1 at w
  refine gs_compact O q337 dJ9_isLatin1_0 ?_
  refine g_if_eq_f O (by decide) dJ9_isLatin1_3 17 (by decide) ?_
  refine g_aload_n O dJ9_isLatin1_6 rfl ?_
  refine gs_coder O hs0 q479 dJ9_isLatin1_7 ?_
  refine g_if_ne_f O (by decide) dJ9_isLatin1_10 17 (by decide) ?_
  refine g_iconst (v := 1) O dJ9_isLatin1_13 (by decide) ?_
  refine g_goto (tgt := 18) O dJ9_isLatin1_14 (by decide) ?_
  exact g_iret (f := xW0 z T L V P) (u := ()) O hQ rfl rfl w dJ9_isLatin1_18
-- J9_charAt
abbrev rJ9_charAt : Room := { frames := 4, cells := 0, slots := 0, locals := 76 }
set_option maxHeartbeats 4000000 in
theorem kJ9_charAt (l : Launch) (hfl : l.flags = flags0) (E : w_E) (z : Nat) (T L : Nat → Nat) (V : w_V) (P : w_P) (t : Nat) (hT : T t = 18) (x1 : Int32) (post : Int32 → Prop) (w : wJ9_charAt E.2.2.2.2 T L V P t x1 post) : gMi l yJ9_charAt (ws_ yJ9_charAt cJ9_charAt 2 (some .char)) rJ9_charAt 0 0 E [.ref t, .int x1] (z, T, L, V, P) (xW0 z T L V P) (fun x (_ : Unit) => post x) := by
  refine g_start (S := Unit) hfl (by decide +kernel) rfl [some (.ref t), some (.int x1)] rfl (fun _ h => h) (Nat.le_of_ble_eq_true rfl) (fun X hl hRm hEe O hQ => ?_)
  subst hl
  subst hEe
  unfold wJ9_charAt at w
  refine g_aload_n O dJ9_charAt_0 rfl ?_
  refine g_ri0 (gr_V (lay := 17) (nA := 0) (As := []) (rest := []) O hRm (kJ9_isLatin1 _ O.2.2.2.2.2.2.2.2 _ _ _ _ _ _ t hT _ w) (lw_V q1152 q1153 q1154 q117 q1155) rfl rfl (by decide +kernel) ⟨Nat.le_of_ble_eq_true rfl, Nat.le_of_ble_eq_true rfl⟩ ck17 (by decide) rfl hT rfl rfl rfl (Nat.le_of_ble_eq_true rfl) dJ9_charAt_1 ⟨Nat.le_of_ble_eq_true rfl, Nat.le_of_ble_eq_true rfl⟩) (fun r1 w => ?_)
  refine g_if_eq (tgt := 16) O w dJ9_charAt_4 (by decide) (fun w => ?_) (fun w => ?_)
  · refine g_aload_n O dJ9_charAt_16 rfl ?_
    obtain ⟨b4, a6, k7, n8, hp5, h9, g10, w⟩ := w
    refine gx_getR (lay := 17) (j := 0) O ck17 (by decide) rfl rfl hp5 (by decide) hT q478 dJ9_charAt_17 ?_
    refine g_iload_n O dJ9_charAt_20 rfl ?_
    exact w.elim
  · refine g_aload_n O dJ9_charAt_7 rfl ?_
    obtain ⟨b11, a13, k14, n15, hp12, h16, g17, w⟩ := w
    refine gx_getR (lay := 17) (j := 0) O ck17 (by decide) rfl rfl hp12 (by decide) hT q478 dJ9_charAt_8 ?_
    refine g_iload_n O dJ9_charAt_11 rfl ?_
    refine g_ri0 (gr_S (nA := 2) (As := [.ref b11, .int x1]) (rest := []) O hRm (kJ15_charAt _ O.2.2.2.2.2.2.2.2 _ _ _ _ _ _ (b11) a13 k14 n15 h16 g17 (x1) _ w) (lw_S q1156 q1157 q124 q1158) rfl rfl (by decide +kernel) ⟨Nat.le_of_ble_eq_true rfl, Nat.le_of_ble_eq_true rfl⟩ rfl rfl rfl (Nat.le_of_ble_eq_true rfl) dJ9_charAt_12 ⟨Nat.le_of_ble_eq_true rfl, Nat.le_of_ble_eq_true rfl⟩) (fun r18 w => ?_)
    exact g_iret (f := xW0 z T L V P) (u := ()) O hQ w.1 rfl w.2 dJ9_charAt_15
-- X2_measures
abbrev rX2_measures : Room := { frames := 1, cells := 0, slots := 0, locals := 21 }
set_option maxHeartbeats 4000000 in
theorem vjX2_measures_45 {X : Cx} {z : Nat} {T L : Nat → Nat} {V : w_V} {P : w_P} (O : Okc X cX2_measures RX2 4 none) (hRm : cxR X = rX2_measures) (t : Nat) (hT : T t = 3) (x1 : Int32) (t0 : Int32) (t1 : Int32) (post : w_V → Prop) (hQ : cxMQ X (va_Qv post (fun u t => wdW (cxE X) (xW1 z T L P u) t.heap) (w_A (cxE X))) 0 0) (kb : Int32 → w_V → Prop) (hkb : ∀ (y1 : Int32) (V2 : w_V), kb y1 V2 → gW X 0 0 z T L V2 P 2 [some (.ref t), some (.int y1), none, none] []) (w : jX2_measures_45 (cxE X).2.2.2.2 T L V P t x1 t0 t1 post kb) : gW X 0 0 z T L V P 45 [some (.ref t), some (.int x1), none, none] [.int t0, .int t1, .ref (t + 2)] := by
  unfold jX2_measures_45 at w
  obtain ⟨i4, hi5, e6, w⟩ := w
  refine gx_iast (a := t) (kk0 := 6) (len := 81) (nn := i4) O (ha_own (lay := 2) (j := 5) (off := 2) (ty := 0) (len := 81) (by decide) hT rfl (by decide)) hi5 (by decide) e6 dX2_measures_45 ?_
  refine g_nV w (fun V7 w _ => ?_)
  refine g_iinc (v := (x1 + 1)) O dX2_measures_46 rfl rfl rfl (lv' := [some (.ref t), some (.int (x1 + 1)), none, none]) rfl ?_
  refine g_goto (tgt := 2) O dX2_measures_49 (by decide) ?_
  exact hkb ((x1 + 1)) (V7) w
set_option maxHeartbeats 4000000 in
theorem vlX2_measures_2 {X : Cx} {z : Nat} {T L : Nat → Nat} {P : w_P} (O : Okc X cX2_measures RX2 4 none) (hRm : cxR X = rX2_measures) (t : Nat) (hT : T t = 3) (post : w_V → Prop) (hQ : cxMQ X (va_Qv post (fun u t => wdW (cxE X) (xW1 z T L P u) t.heap) (w_A (cxE X))) 0 0) (ke_52 : w_V → Prop) (hke_52 : ∀ (V2 : w_V), ke_52 V2 → gW X 0 0 z T L V2 P 52 [some (.ref t), none, none, none] [])  : ∀ (n : Nat) (x1 : Int32) (V : w_V), lX2_measures_2 (cxE X).2.2.2.2 T L P t post ke_52 n x1 V → gW X 0 0 z T L V P 2 [some (.ref t), some (.int x1), none, none] [] := by
  intro n
  induction n with
  | zero =>
    intro x1 V w
    exact w.elim
  | succ n ih =>
    intro x1 V w
    unfold lX2_measures_2 at w
    refine g_iload_n O dX2_measures_2 rfl ?_
    refine g_bipush (v := 81) O dX2_measures_3 (by decide) ?_
    refine g_icmp_ge (tgt := 52) O w dX2_measures_5 (by decide) (fun w => ?_) (fun w => ?_)
    · refine g_drop [1] (lv' := [some (.ref t), none, none, none]) rfl ?_
      exact hke_52 (V) w
    · refine g_aload_n O dX2_measures_8 rfl ?_
      refine gx_getA (lay := 2) (j := 5) O ck2 (by decide) rfl rfl (by decide) hT q537 dX2_measures_9 ?_
      refine g_iload_n O dX2_measures_12 rfl ?_
      refine g_iload_n O dX2_measures_13 rfl ?_
      refine g_bipush (v := 10) O dX2_measures_14 (by decide) ?_
      refine g_irem O (by decide) dX2_measures_16 ?_
      refine g_if_ne (tgt := 24) O w dX2_measures_17 (by decide) (fun w => ?_) (fun w => ?_)
      · refine g_aload_n O dX2_measures_24 rfl ?_
        refine gx_getA (lay := 2) (j := 4) O ck2 (by decide) rfl rfl (by decide) hT q534 dX2_measures_25 ?_
        refine g_iload_n O dX2_measures_28 rfl ?_
        obtain ⟨i1, hi2, e3, w⟩ := w
        refine gx_iald (a := t) (kk0 := 5) (len := 81) (nn := i1) O (ha_own (lay := 2) (j := 4) (off := 1) (ty := 0) (len := 81) (by decide) hT rfl (by decide)) hi2 (by decide) e3 dX2_measures_29 ?_
        refine g_if_le (tgt := 42) O w dX2_measures_30 (by decide) (fun w => ?_) (fun w => ?_)
        · refine g_sipush (v := 9999) O dX2_measures_42 (by decide) ?_
          exact vjX2_measures_45 O hRm (V := V) (P := P) t hT (x1) (9999) (x1) post hQ (lX2_measures_2 (cxE X).2.2.2.2 T L P t post ke_52 n) ih w
        · refine g_aload_n O dX2_measures_33 rfl ?_
          refine gx_getA (lay := 2) (j := 4) O ck2 (by decide) rfl rfl (by decide) hT q534 dX2_measures_34 ?_
          refine g_iload_n O dX2_measures_37 rfl ?_
          obtain ⟨i8, hi9, e10, w⟩ := w
          refine gx_iald (a := t) (kk0 := 5) (len := 81) (nn := i8) O (ha_own (lay := 2) (j := 4) (off := 1) (ty := 0) (len := 81) (by decide) hT rfl (by decide)) hi9 (by decide) e10 dX2_measures_38 ?_
          refine g_goto (tgt := 45) O dX2_measures_39 (by decide) ?_
          exact vjX2_measures_45 O hRm (V := V) (P := P) t hT (x1) ((V t 5 i8)) (x1) post hQ (lX2_measures_2 (cxE X).2.2.2.2 T L P t post ke_52 n) ih w
      · refine g_iconst (v := 0) O dX2_measures_20 (by decide) ?_
        refine g_goto (tgt := 45) O dX2_measures_21 (by decide) ?_
        exact vjX2_measures_45 O hRm (V := V) (P := P) t hT (x1) (0) (x1) post hQ (lX2_measures_2 (cxE X).2.2.2.2 T L P t post ke_52 n) ih w
set_option maxHeartbeats 4000000 in
theorem vlX2_measures_74 {X : Cx} {z : Nat} {T L : Nat → Nat} {P : w_P} (O : Okc X cX2_measures RX2 4 none) (hRm : cxR X = rX2_measures) (t : Nat) (hT : T t = 3) (x1 : Int32) (x2 : Int32) (post : w_V → Prop) (hQ : cxMQ X (va_Qv post (fun u t => wdW (cxE X) (xW1 z T L P u) t.heap) (w_A (cxE X))) 0 0) (ke_136 : w_V → Prop) (hke_136 : ∀ (V2 : w_V), ke_136 V2 → gW X 0 0 z T L V2 P 136 [some (.ref t), some (.int x1), some (.int x2), none] [])  : ∀ (n : Nat) (x3 : Int32) (V : w_V), lX2_measures_74 (cxE X).2.2.2.2 T L P t x1 x2 post ke_136 n x3 V → gW X 0 0 z T L V P 74 [some (.ref t), some (.int x1), some (.int x2), some (.int x3)] [] := by
  intro n
  induction n with
  | zero =>
    intro x3 V w
    exact w.elim
  | succ n ih =>
    intro x3 V w
    unfold lX2_measures_74 at w
    refine g_iload_n O dX2_measures_74 rfl ?_
    refine g_aload_n O dX2_measures_75 rfl ?_
    refine gx_getI (lay := 2) (j := 0) O ck2 (by decide) rfl rfl (by decide) hT q524 dX2_measures_76 ?_
    refine g_icmp_ge (tgt := 136) O w dX2_measures_79 (by decide) (fun w => ?_) (fun w => ?_)
    · refine g_drop [3] (lv' := [some (.ref t), some (.int x1), some (.int x2), none]) rfl ?_
      exact hke_136 (V) w
    · refine g_aload_n O dX2_measures_82 rfl ?_
      refine gx_getA (lay := 2) (j := 5) O ck2 (by decide) rfl rfl (by decide) hT q537 dX2_measures_83 ?_
      refine g_bipush (v := 9) O dX2_measures_86 (by decide) ?_
      refine g_iload_n O dX2_measures_88 rfl ?_
      refine g_imul O dX2_measures_89 ?_
      refine g_iload_n O dX2_measures_90 rfl ?_
      refine g_iadd O dX2_measures_91 ?_
      refine g_aload_n O dX2_measures_92 rfl ?_
      refine gx_getA (lay := 2) (j := 5) O ck2 (by decide) rfl rfl (by decide) hT q537 dX2_measures_93 ?_
      refine g_bipush (v := 9) O dX2_measures_96 (by decide) ?_
      refine g_iload_n O dX2_measures_98 rfl ?_
      refine g_imul O dX2_measures_99 ?_
      refine g_iload_n O dX2_measures_100 rfl ?_
      refine g_iadd O dX2_measures_101 ?_
      obtain ⟨i12, hi13, e14, w⟩ := w
      refine gx_iald (a := t) (kk0 := 6) (len := 81) (nn := i12) O (ha_own (lay := 2) (j := 5) (off := 2) (ty := 0) (len := 81) (by decide) hT rfl (by decide)) hi13 (by decide) e14 dX2_measures_102 ?_
      refine g_aload_n O dX2_measures_103 rfl ?_
      refine gx_getA (lay := 2) (j := 5) O ck2 (by decide) rfl rfl (by decide) hT q537 dX2_measures_104 ?_
      refine g_bipush (v := 9) O dX2_measures_107 (by decide) ?_
      refine g_iload_n O dX2_measures_109 rfl ?_
      refine g_imul O dX2_measures_110 ?_
      refine g_iload_n O dX2_measures_111 rfl ?_
      refine g_iadd O dX2_measures_112 ?_
      obtain ⟨i15, hi16, e17, w⟩ := w
      refine gx_iald (a := t) (kk0 := 6) (len := 81) (nn := i15) O (ha_own (lay := 2) (j := 5) (off := 2) (ty := 0) (len := 81) (by decide) hT rfl (by decide)) hi16 (by decide) e17 dX2_measures_113 ?_
      refine g_aload_n O dX2_measures_114 rfl ?_
      refine gx_getA (lay := 2) (j := 5) O ck2 (by decide) rfl rfl (by decide) hT q537 dX2_measures_115 ?_
      refine g_bipush (v := 9) O dX2_measures_118 (by decide) ?_
      refine g_iload_n O dX2_measures_120 rfl ?_
      refine g_imul O dX2_measures_121 ?_
      refine g_iload_n O dX2_measures_122 rfl ?_
      refine g_iadd O dX2_measures_123 ?_
      obtain ⟨i18, hi19, e20, w⟩ := w
      refine gx_iald (a := t) (kk0 := 6) (len := 81) (nn := i18) O (ha_own (lay := 2) (j := 5) (off := 2) (ty := 0) (len := 81) (by decide) hT rfl (by decide)) hi19 (by decide) e20 dX2_measures_124 ?_
      refine g_iadd O dX2_measures_125 ?_
      refine g_mmin O q786 hRm (Nat.le_of_ble_eq_true rfl) (Nat.le_of_ble_eq_true rfl) ⟨Nat.le_of_ble_eq_true rfl, Nat.le_of_ble_eq_true rfl⟩ rfl dX2_measures_126 ?_
      obtain ⟨i21, hi22, e23, w⟩ := w
      refine gx_iast (a := t) (kk0 := 6) (len := 81) (nn := i21) O (ha_own (lay := 2) (j := 5) (off := 2) (ty := 0) (len := 81) (by decide) hT rfl (by decide)) hi22 (by decide) e23 dX2_measures_129 ?_
      refine g_nV w (fun V24 w _ => ?_)
      refine g_iinc (v := (x3 + 1)) O dX2_measures_130 rfl rfl rfl (lv' := [some (.ref t), some (.int x1), some (.int x2), some (.int (x3 + 1))]) rfl ?_
      refine g_goto (tgt := 74) O dX2_measures_133 (by decide) ?_
      exact ih ((x3 + 1)) (V24) w
set_option maxHeartbeats 4000000 in
theorem vlX2_measures_64 {X : Cx} {z : Nat} {T L : Nat → Nat} {P : w_P} (O : Okc X cX2_measures RX2 4 none) (hRm : cxR X = rX2_measures) (t : Nat) (hT : T t = 3) (x1 : Int32) (post : w_V → Prop) (hQ : cxMQ X (va_Qv post (fun u t => wdW (cxE X) (xW1 z T L P u) t.heap) (w_A (cxE X))) 0 0) (ke_142 : w_V → Prop) (hke_142 : ∀ (V2 : w_V), ke_142 V2 → gW X 0 0 z T L V2 P 142 [some (.ref t), some (.int x1), none, none] [])  : ∀ (n : Nat) (x2 : Int32) (V : w_V), lX2_measures_64 (cxE X).2.2.2.2 T L P t x1 post ke_142 n x2 V → gW X 0 0 z T L V P 64 [some (.ref t), some (.int x1), some (.int x2), none] [] := by
  intro n
  induction n with
  | zero =>
    intro x2 V w
    exact w.elim
  | succ n ih =>
    intro x2 V w
    unfold lX2_measures_64 at w
    refine g_iload_n O dX2_measures_64 rfl ?_
    refine g_aload_n O dX2_measures_65 rfl ?_
    refine gx_getI (lay := 2) (j := 0) O ck2 (by decide) rfl rfl (by decide) hT q524 dX2_measures_66 ?_
    refine g_icmp_ge (tgt := 142) O w dX2_measures_69 (by decide) (fun w => ?_) (fun w => ?_)
    · refine g_drop [2] (lv' := [some (.ref t), some (.int x1), none, none]) rfl ?_
      exact hke_142 (V) w
    · refine g_iconst (v := 0) O dX2_measures_72 (by decide) ?_
      refine g_istore_n O dX2_measures_73 (Nat.le_of_ble_eq_true rfl) rfl (lv' := [some (.ref t), some (.int x1), some (.int x2), some (.int 0)]) rfl ?_
      obtain ⟨n26, w⟩ := w
      refine vlX2_measures_74 O hRm (P := P) t hT (x1) (x2) post hQ _ (fun V25 w => ?_) n26 (0) (V) w
      refine g_iinc (v := (x2 + 1)) O dX2_measures_136 rfl rfl rfl (lv' := [some (.ref t), some (.int x1), some (.int (x2 + 1)), none]) rfl ?_
      refine g_goto (tgt := 64) O dX2_measures_139 (by decide) ?_
      exact ih ((x2 + 1)) (V25) w
set_option maxHeartbeats 4000000 in
theorem vlX2_measures_54 {X : Cx} {z : Nat} {T L : Nat → Nat} {P : w_P} (O : Okc X cX2_measures RX2 4 none) (hRm : cxR X = rX2_measures) (t : Nat) (hT : T t = 3) (post : w_V → Prop) (hQ : cxMQ X (va_Qv post (fun u t => wdW (cxE X) (xW1 z T L P u) t.heap) (w_A (cxE X))) 0 0)  : ∀ (n : Nat) (x1 : Int32) (V : w_V), lX2_measures_54 (cxE X).2.2.2.2 T L P t post n x1 V → gW X 0 0 z T L V P 54 [some (.ref t), some (.int x1), none, none] [] := by
  intro n
  induction n with
  | zero =>
    intro x1 V w
    exact w.elim
  | succ n ih =>
    intro x1 V w
    unfold lX2_measures_54 at w
    refine g_iload_n O dX2_measures_54 rfl ?_
    refine g_aload_n O dX2_measures_55 rfl ?_
    refine gx_getI (lay := 2) (j := 0) O ck2 (by decide) rfl rfl (by decide) hT q524 dX2_measures_56 ?_
    refine g_icmp_ge (tgt := 148) O w dX2_measures_59 (by decide) (fun w => ?_) (fun w => ?_)
    · exact g_vret (f := xW1 z T L P) (u := V) O hQ rfl w dX2_measures_148
    · refine g_iconst (v := 0) O dX2_measures_62 (by decide) ?_
      refine g_istore_n O dX2_measures_63 (Nat.le_of_ble_eq_true rfl) rfl (lv' := [some (.ref t), some (.int x1), some (.int 0), none]) rfl ?_
      obtain ⟨n28, w⟩ := w
      refine vlX2_measures_64 O hRm (P := P) t hT (x1) post hQ _ (fun V27 w => ?_) n28 (0) (V) w
      refine g_iinc (v := (x1 + 1)) O dX2_measures_142 rfl rfl rfl (lv' := [some (.ref t), some (.int (x1 + 1)), none, none]) rfl ?_
      refine g_goto (tgt := 54) O dX2_measures_145 (by decide) ?_
      exact ih ((x1 + 1)) (V27) w
set_option maxHeartbeats 4000000 in
theorem kX2_measures (l : Launch) (hfl : l.flags = flags0) (E : w_E) (z : Nat) (T L : Nat → Nat) (V : w_V) (P : w_P) (t : Nat) (hT : T t = 3) (post : w_V → Prop) (w : wX2_measures E.2.2.2.2 T L V P t post) : gMv l yX2_measures (ws_ yX2_measures cX2_measures 4 none) rX2_measures 0 0 E [.ref t] (z, T, L, V, P) (xW1 z T L P) post := by
  refine g_start (S := Unit) hfl (by decide +kernel) rfl [some (.ref t), none, none, none] rfl (fun _ h => h) (Nat.le_of_ble_eq_true rfl) (fun X hl hRm hEe O hQ => ?_)
  subst hl
  subst hEe
  unfold wX2_measures at w
  refine g_iconst (v := 0) O dX2_measures_0 (by decide) ?_
  refine g_istore_n O dX2_measures_1 (Nat.le_of_ble_eq_true rfl) rfl (lv' := [some (.ref t), some (.int 0), none, none]) rfl ?_
  obtain ⟨n30, w⟩ := w
  refine vlX2_measures_2 O hRm (P := P) t hT post hQ _ (fun V11 w => ?_) n30 (0) (V) w
  refine g_iconst (v := 0) O dX2_measures_52 (by decide) ?_
  refine g_istore_n O dX2_measures_53 (Nat.le_of_ble_eq_true rfl) rfl (lv' := [some (.ref t), some (.int 0), none, none]) rfl ?_
  obtain ⟨n29, w⟩ := w
  exact vlX2_measures_54 O hRm (P := P) t hT post hQ n29 (0) (V11) w
-- X6_begins
abbrev rX6_begins : Room := { frames := 4, cells := 0, slots := 0, locals := 76 }
set_option maxHeartbeats 4000000 in
theorem vlX6_begins_2 {X : Cx} {z : Nat} {T L : Nat → Nat} {P : w_P} (O : Okc X cX6_begins RX6 3 none) (hRm : cxR X = rX6_begins) (t : Nat) (hT : T t = 6) (x1 : Nat) (hx1 : T x1 = 3) (post : w_V → Prop) (hQ : cxMQ X (va_Qv post (fun u t => wdW (cxE X) (xW1 z T L P u) t.heap) (w_A (cxE X))) 0 0) (ke_39 : w_V → Prop) (hke_39 : ∀ (V2 : w_V), ke_39 V2 → gW X 0 0 z T L V2 P 39 [some (.ref t), some (.ref x1), none] [])  : ∀ (n : Nat) (x2 : Int32) (V : w_V), lX6_begins_2 (cxE X).2.2.2.2 T L P t x1 post ke_39 n x2 V → gW X 0 0 z T L V P 2 [some (.ref t), some (.ref x1), some (.int x2)] [] := by
  intro n
  induction n with
  | zero =>
    intro x2 V w
    exact w.elim
  | succ n ih =>
    intro x2 V w
    unfold lX6_begins_2 at w
    refine g_iload_n O dX6_begins_2 rfl ?_
    refine g_aload_n O dX6_begins_3 rfl ?_
    obtain ⟨b1, hp2, ht3, w⟩ := w
    refine gx_getRN (lay := 2) (j := 6) O ck2 (by decide) rfl rfl hp2 (by decide) hx1 q539 dX6_begins_4 ?_
    refine g_ri0 (gr_V (lay := 15) (nA := 0) (As := []) (rest := [.int x2]) O hRm (kJ2_size _ O.2.2.2.2.2.2.2.2 _ _ _ _ _ _ b1 ht3 _ w) (lw_V q791 q792 q793 q110 q794) rfl rfl (by decide +kernel) ⟨Nat.le_of_ble_eq_true rfl, Nat.le_of_ble_eq_true rfl⟩ ck15 (by decide) rfl ht3 rfl rfl rfl (Nat.le_of_ble_eq_true rfl) dX6_begins_7 ⟨Nat.le_of_ble_eq_true rfl, Nat.le_of_ble_eq_true rfl⟩) (fun r4 w => ?_)
    refine g_icmp_ge (tgt := 39) O w dX6_begins_10 (by decide) (fun w => ?_) (fun w => ?_)
    · refine g_drop [2] (lv' := [some (.ref t), some (.ref x1), none]) rfl ?_
      exact hke_39 (V) w
    · refine g_aload_n O dX6_begins_13 rfl ?_
      refine gx_getA (lay := 5) (j := 0) O ck5 (by decide) rfl rfl (by decide) hT q583 dX6_begins_14 ?_
      refine g_iload_n O dX6_begins_17 rfl ?_
      refine g_aload_n O dX6_begins_18 rfl ?_
      obtain ⟨b7, hp8, ht9, w⟩ := w
      refine gx_getRN (lay := 2) (j := 6) O ck2 (by decide) rfl rfl hp8 (by decide) hx1 q539 dX6_begins_19 ?_
      refine g_iload_n O dX6_begins_22 rfl ?_
      refine g_rq0 (gr_V (lay := 15) (nA := 1) (As := [.int x2]) (rest := [.int x2, .ref (t + 1)]) O hRm (kJ2_get _ O.2.2.2.2.2.2.2.2 _ _ _ _ _ _ b7 ht9 (x2) _ w) (lw_V q795 q796 q797 q110 q798) rfl rfl (by decide +kernel) ⟨Nat.le_of_ble_eq_true rfl, Nat.le_of_ble_eq_true rfl⟩ ck15 (by decide) rfl ht9 rfl rfl rfl (Nat.le_of_ble_eq_true rfl) dX6_begins_23 ⟨Nat.le_of_ble_eq_true rfl, Nat.le_of_ble_eq_true rfl⟩) (fun r10 w => ?_)
      obtain ⟨ht13, w⟩ := w
      refine gj_cast O ht13 q809 dX6_begins_26 ?_
      refine gj_getI (j := 0) O (by decide) ht13 q1220 dX6_begins_29 ?_
      obtain ⟨i14, hi15, e16, w⟩ := w
      refine gx_iast (a := t) (kk0 := 1) (len := 5) (nn := i14) O (ha_own (lay := 5) (j := 0) (off := 1) (ty := 0) (len := 5) (by decide) hT rfl (by decide)) hi15 (by decide) e16 dX6_begins_32 ?_
      refine g_nV w (fun V17 w _ => ?_)
      refine g_iinc (v := (x2 + 1)) O dX6_begins_33 rfl rfl rfl (lv' := [some (.ref t), some (.ref x1), some (.int (x2 + 1))]) rfl ?_
      refine g_goto (tgt := 2) O dX6_begins_36 (by decide) ?_
      exact ih ((x2 + 1)) (V17) w
set_option maxHeartbeats 4000000 in
theorem kX6_begins (l : Launch) (hfl : l.flags = flags0) (E : w_E) (z : Nat) (T L : Nat → Nat) (V : w_V) (P : w_P) (t : Nat) (hT : T t = 6) (x1 : Nat) (hx1 : T x1 = 3) (post : w_V → Prop) (w : wX6_begins E.2.2.2.2 T L V P t x1 post) : gMv l yX6_begins (ws_ yX6_begins cX6_begins 3 none) rX6_begins 0 0 E [.ref t, .ref x1] (z, T, L, V, P) (xW1 z T L P) post := by
  refine g_start (S := Unit) hfl (by decide +kernel) rfl [some (.ref t), some (.ref x1), none] rfl (fun _ h => h) (Nat.le_of_ble_eq_true rfl) (fun X hl hRm hEe O hQ => ?_)
  subst hl
  subst hEe
  unfold wX6_begins at w
  refine g_iconst (v := 0) O dX6_begins_0 (by decide) ?_
  refine g_istore_n O dX6_begins_1 (Nat.le_of_ble_eq_true rfl) rfl (lv' := [some (.ref t), some (.ref x1), some (.int 0)]) rfl ?_
  obtain ⟨n27, w⟩ := w
  refine vlX6_begins_2 O hRm (P := P) t hT x1 hx1 post hQ _ (fun V18 w => ?_) n27 (0) (V) w
  refine g_aload_n O dX6_begins_39 rfl ?_
  refine g_aload_n O dX6_begins_40 rfl ?_
  refine gx_getIN (lay := 2) (j := 3) O ck2 (by decide) rfl rfl (by decide) hx1 q532 dX6_begins_41 ?_
  refine gx_putI (lay := 5) (j := 4) (ty := .int) O ck5 (by decide) rfl rfl (by decide) hT q592 rfl rfl rfl rfl dX6_begins_44 ?_
  refine g_nV w (fun V19 w _ => ?_)
  refine g_aload_n O dX6_begins_47 rfl ?_
  refine g_iconst (v := 0) O dX6_begins_48 (by decide) ?_
  refine gx_putI (lay := 5) (j := 5) (ty := .int) O ck5 (by decide) rfl rfl (by decide) hT q595 rfl rfl rfl rfl dX6_begins_49 ?_
  refine g_nV w (fun V20 w _ => ?_)
  refine g_aload_n O dX6_begins_52 rfl ?_
  refine g_iconst (v := 0) O dX6_begins_53 (by decide) ?_
  refine gx_putI (lay := 5) (j := 6) (ty := .int) O ck5 (by decide) rfl rfl (by decide) hT q598 rfl rfl rfl rfl dX6_begins_54 ?_
  refine g_nV w (fun V21 w _ => ?_)
  refine g_aload_n O dX6_begins_57 rfl ?_
  refine g_iconst (v := 0) O dX6_begins_58 (by decide) ?_
  refine gx_putI (lay := 5) (j := 7) (ty := .int) O ck5 (by decide) rfl rfl (by decide) hT q600 rfl rfl rfl rfl dX6_begins_59 ?_
  refine g_nV w (fun V22 w _ => ?_)
  refine g_aload_n O dX6_begins_62 rfl ?_
  refine g_iconst (v := 0) O dX6_begins_63 (by decide) ?_
  refine gx_putI (lay := 5) (j := 8) (ty := .int) O ck5 (by decide) rfl rfl (by decide) hT q603 rfl rfl rfl rfl dX6_begins_64 ?_
  refine g_nV w (fun V23 w _ => ?_)
  refine g_aload_n O dX6_begins_67 rfl ?_
  refine g_iconst (v := 0) O dX6_begins_68 (by decide) ?_
  refine gx_putI (lay := 5) (j := 9) (ty := .int) O ck5 (by decide) rfl rfl (by decide) hT q606 rfl rfl rfl rfl dX6_begins_69 ?_
  refine g_nV w (fun V24 w _ => ?_)
  refine g_aload_n O dX6_begins_72 rfl ?_
  refine g_iconst (v := 0) O dX6_begins_73 (by decide) ?_
  refine gx_putI (lay := 5) (j := 10) (ty := .int) O ck5 (by decide) rfl rfl (by decide) hT q609 rfl rfl rfl rfl dX6_begins_74 ?_
  refine g_nV w (fun V25 w _ => ?_)
  refine g_aload_n O dX6_begins_77 rfl ?_
  refine g_iconst (v := (-1)) O dX6_begins_78 (by decide) ?_
  refine gx_putI (lay := 5) (j := 11) (ty := .int) O ck5 (by decide) rfl rfl (by decide) hT q612 rfl rfl rfl rfl dX6_begins_79 ?_
  refine g_nV w (fun V26 w _ => ?_)
  exact g_vret (f := xW1 z T L P) (u := V26) O hQ rfl w dX6_begins_82
-- X1_lay
abbrev rX1_lay : Room := { frames := 1, cells := 0, slots := 0, locals := 12 }
set_option maxHeartbeats 4000000 in
theorem vlX1_lay_3 {X : Cx} {z : Nat} {T L : Nat → Nat} {P : w_P} (O : Okc X cX1_lay RX1 3 none) (hRm : cxR X = rX1_lay) (t : Nat) (hT : T t = 2) (x1 : Int32) (post : w_V → Prop) (hQ : cxMQ X (va_Qv post (fun u t => wdW (cxE X) (xW1 z T L P u) t.heap) (w_A (cxE X))) 0 0)  : ∀ (n : Nat) (x2 : Int32) (V : w_V), lX1_lay_3 (cxE X).2.2.2.2 T L P t x1 post n x2 V → gW X 0 0 z T L V P 3 [some (.ref t), some (.int x1), some (.int x2)] [] := by
  intro n
  induction n with
  | zero =>
    intro x2 V w
    exact w.elim
  | succ n ih =>
    intro x2 V w
    unfold lX1_lay_3 at w
    refine g_iload_n O dX1_lay_3 rfl ?_
    refine g_if_lt (tgt := 36) O w dX1_lay_4 (by decide) (fun w => ?_) (fun w => ?_)
    · exact g_vret (f := xW1 z T L P) (u := V) O hQ rfl w dX1_lay_36
    · refine g_aload_n O dX1_lay_7 rfl ?_
      refine gx_getA (lay := 1) (j := 7) O ck1 (by decide) rfl rfl (by decide) hT q817 dX1_lay_8 ?_
      refine g_aload_n O dX1_lay_11 rfl ?_
      refine gx_getI (lay := 1) (j := 8) O ck1 (by decide) rfl rfl (by decide) hT q818 dX1_lay_12 ?_
      refine g_iload_n O dX1_lay_15 rfl ?_
      refine g_iload_n O dX1_lay_16 rfl ?_
      refine g_ishr O dX1_lay_17 ?_
      refine g_i2b O dX1_lay_18 ?_
      obtain ⟨i1, hi2, e3, w⟩ := w
      refine gx_bast (a := t) (kk0 := 8) (len := 600) (nn := i1) O (ha_own (lay := 1) (j := 7) (off := 450) (ty := 1) (len := 600) (by decide) hT rfl (by decide)) hi2 (by decide) e3 dX1_lay_19 ?_
      refine g_nV w (fun V4 w _ => ?_)
      refine g_aload_n O dX1_lay_20 rfl ?_
      refine g_dup O dX1_lay_21 rfl ?_
      refine gx_getI (lay := 1) (j := 8) O ck1 (by decide) rfl rfl (by decide) hT q818 dX1_lay_22 ?_
      refine g_iconst (v := 1) O dX1_lay_25 (by decide) ?_
      refine g_iadd O dX1_lay_26 ?_
      refine gx_putI (lay := 1) (j := 8) (ty := .int) O ck1 (by decide) rfl rfl (by decide) hT q818 rfl rfl rfl rfl dX1_lay_27 ?_
      refine g_nV w (fun V5 w _ => ?_)
      refine g_iinc (v := (x2 + (-8))) O dX1_lay_30 rfl rfl rfl (lv' := [some (.ref t), some (.int x1), some (.int (x2 + (-8)))]) rfl ?_
      refine g_goto (tgt := 3) O dX1_lay_33 (by decide) ?_
      exact ih ((x2 + (-8))) (V5) w
set_option maxHeartbeats 4000000 in
theorem kX1_lay (l : Launch) (hfl : l.flags = flags0) (E : w_E) (z : Nat) (T L : Nat → Nat) (V : w_V) (P : w_P) (t : Nat) (hT : T t = 2) (x1 : Int32) (post : w_V → Prop) (w : wX1_lay E.2.2.2.2 T L V P t x1 post) : gMv l yX1_lay (ws_ yX1_lay cX1_lay 3 none) rX1_lay 0 0 E [.ref t, .int x1] (z, T, L, V, P) (xW1 z T L P) post := by
  refine g_start (S := Unit) hfl (by decide +kernel) rfl [some (.ref t), some (.int x1), none] rfl (fun _ h => h) (Nat.le_of_ble_eq_true rfl) (fun X hl hRm hEe O hQ => ?_)
  subst hl
  subst hEe
  unfold wX1_lay at w
  refine g_bipush (v := 24) O dX1_lay_0 (by decide) ?_
  refine g_istore_n O dX1_lay_2 (Nat.le_of_ble_eq_true rfl) rfl (lv' := [some (.ref t), some (.int x1), some (.int 24)]) rfl ?_
  obtain ⟨n6, w⟩ := w
  exact vlX1_lay_3 O hRm (P := P) t hT (x1) post hQ n6 (24) (V) w
-- X1_feed
abbrev rX1_feed : Room := { frames := 2, cells := 0, slots := 0, locals := 34 }
set_option maxHeartbeats 4000000 in
theorem kX1_feed (l : Launch) (hfl : l.flags = flags0) (E : w_E) (z : Nat) (T L : Nat → Nat) (V : w_V) (P : w_P) (t : Nat) (hT : T t = 2) (x1 : Int32) (x2 : Int32) (x3 : Int32) (x4 : Int32) (x5 : Int32) (post : Int32 → w_V → Prop) (w : wX1_feed E.2.2.2.2 T L V P t x1 x2 x3 x4 x5 post) : gMi l yX1_feed (ws_ yX1_feed cX1_feed 6 (some .int)) rX1_feed 0 0 E [.ref t, .int x1, .int x2, .int x3, .int x4, .int x5] (z, T, L, V, P) (xW1 z T L P) post := by
  refine g_start (S := Unit) hfl (by decide +kernel) rfl [some (.ref t), some (.int x1), some (.int x2), some (.int x3), some (.int x4), some (.int x5)] rfl (fun _ h => h) (Nat.le_of_ble_eq_true rfl) (fun X hl hRm hEe O hQ => ?_)
  subst hl
  subst hEe
  unfold wX1_feed at w
  refine g_aload_n O dX1_feed_0 rfl ?_
  refine gx_getI (lay := 1) (j := 8) O ck1 (by decide) rfl rfl (by decide) hT q818 dX1_feed_1 ?_
  refine g_bipush (v := 20) O dX1_feed_4 (by decide) ?_
  refine g_iadd O dX1_feed_6 ?_
  refine g_sipush (v := 600) O dX1_feed_7 (by decide) ?_
  refine g_icmp_le (tgt := 15) O w dX1_feed_10 (by decide) (fun w => ?_) (fun w => ?_)
  · refine g_aload_n O dX1_feed_15 rfl ?_
    refine g_iload_n O dX1_feed_16 rfl ?_
    refine g_rv1 (gr_V (lay := 1) (nA := 1) (As := [.int x1]) (rest := []) O hRm (kX1_lay _ O.2.2.2.2.2.2.2.2 _ _ _ _ _ _ t hT (x1) _ w) (lw_V q848 q850 qs4 q106 q851) rfl rfl (by decide +kernel) ⟨Nat.le_of_ble_eq_true rfl, Nat.le_of_ble_eq_true rfl⟩ ck1 (by decide) rfl hT rfl rfl rfl (Nat.le_of_ble_eq_true rfl) dX1_feed_17 ⟨Nat.le_of_ble_eq_true rfl, Nat.le_of_ble_eq_true rfl⟩) (fun V2 w => ?_)
    refine g_aload_n O dX1_feed_20 rfl ?_
    refine g_iload_n O dX1_feed_21 rfl ?_
    refine g_rv1 (gr_V (lay := 1) (nA := 1) (As := [.int x2]) (rest := []) O hRm (kX1_lay _ O.2.2.2.2.2.2.2.2 _ _ _ _ _ _ t hT (x2) _ w) (lw_V q848 q850 qs4 q106 q851) rfl rfl (by decide +kernel) ⟨Nat.le_of_ble_eq_true rfl, Nat.le_of_ble_eq_true rfl⟩ ck1 (by decide) rfl hT rfl rfl rfl (Nat.le_of_ble_eq_true rfl) dX1_feed_22 ⟨Nat.le_of_ble_eq_true rfl, Nat.le_of_ble_eq_true rfl⟩) (fun V5 w => ?_)
    refine g_aload_n O dX1_feed_25 rfl ?_
    refine g_iload_n O dX1_feed_26 rfl ?_
    refine g_rv1 (gr_V (lay := 1) (nA := 1) (As := [.int x3]) (rest := []) O hRm (kX1_lay _ O.2.2.2.2.2.2.2.2 _ _ _ _ _ _ t hT (x3) _ w) (lw_V q848 q850 qs4 q106 q851) rfl rfl (by decide +kernel) ⟨Nat.le_of_ble_eq_true rfl, Nat.le_of_ble_eq_true rfl⟩ ck1 (by decide) rfl hT rfl rfl rfl (Nat.le_of_ble_eq_true rfl) dX1_feed_27 ⟨Nat.le_of_ble_eq_true rfl, Nat.le_of_ble_eq_true rfl⟩) (fun V8 w => ?_)
    refine g_aload_n O dX1_feed_30 rfl ?_
    refine g_iload O dX1_feed_31 rfl ?_
    refine g_rv1 (gr_V (lay := 1) (nA := 1) (As := [.int x4]) (rest := []) O hRm (kX1_lay _ O.2.2.2.2.2.2.2.2 _ _ _ _ _ _ t hT (x4) _ w) (lw_V q848 q850 qs4 q106 q851) rfl rfl (by decide +kernel) ⟨Nat.le_of_ble_eq_true rfl, Nat.le_of_ble_eq_true rfl⟩ ck1 (by decide) rfl hT rfl rfl rfl (Nat.le_of_ble_eq_true rfl) dX1_feed_33 ⟨Nat.le_of_ble_eq_true rfl, Nat.le_of_ble_eq_true rfl⟩) (fun V11 w => ?_)
    refine g_aload_n O dX1_feed_36 rfl ?_
    refine g_iload O dX1_feed_37 rfl ?_
    refine g_rv1 (gr_V (lay := 1) (nA := 1) (As := [.int x5]) (rest := []) O hRm (kX1_lay _ O.2.2.2.2.2.2.2.2 _ _ _ _ _ _ t hT (x5) _ w) (lw_V q848 q850 qs4 q106 q851) rfl rfl (by decide +kernel) ⟨Nat.le_of_ble_eq_true rfl, Nat.le_of_ble_eq_true rfl⟩ ck1 (by decide) rfl hT rfl rfl rfl (Nat.le_of_ble_eq_true rfl) dX1_feed_39 ⟨Nat.le_of_ble_eq_true rfl, Nat.le_of_ble_eq_true rfl⟩) (fun V14 w => ?_)
    refine g_aload_n O dX1_feed_42 rfl ?_
    refine gx_getI (lay := 1) (j := 8) O ck1 (by decide) rfl rfl (by decide) hT q818 dX1_feed_43 ?_
    exact g_iret (f := xW1 z T L P) (u := V14) O hQ rfl rfl w dX1_feed_46
  · refine g_iconst (v := (-1)) O dX1_feed_13 (by decide) ?_
    exact g_iret (f := xW1 z T L P) (u := V) O hQ rfl rfl w dX1_feed_14
-- X1_fault
abbrev rX1_fault : Room := { frames := 1, cells := 0, slots := 0, locals := 12 }
set_option maxHeartbeats 4000000 in
theorem kX1_fault (l : Launch) (hfl : l.flags = flags0) (E : w_E) (z : Nat) (T L : Nat → Nat) (V : w_V) (P : w_P) (t : Nat) (hT : T t = 2) (post : Int32 → Prop) (w : wX1_fault E.2.2.2.2 T L V P t post) : gMi l yX1_fault (ws_ yX1_fault cX1_fault 1 (some .int)) rX1_fault 0 0 E [.ref t] (z, T, L, V, P) (xW0 z T L V P) (fun x (_ : Unit) => post x) := by
  refine g_start (S := Unit) hfl (by decide +kernel) rfl [some (.ref t)] rfl (fun _ h => h) (Nat.le_of_ble_eq_true rfl) (fun X hl hRm hEe O hQ => ?_)
  subst hl
  subst hEe
  unfold wX1_fault at w
  refine g_aload_n O dX1_fault_0 rfl ?_
  refine gx_getI (lay := 1) (j := 9) O ck1 (by decide) rfl rfl (by decide) hT q819 dX1_fault_1 ?_
  exact g_iret (f := xW0 z T L V P) (u := ()) O hQ rfl rfl w dX1_fault_4
-- X6_like
abbrev rX6_like : Room := { frames := 1, cells := 0, slots := 0, locals := 60 }
set_option maxHeartbeats 4000000 in
theorem kX6_like (l : Launch) (hfl : l.flags = flags0) (E : w_E) (z : Nat) (T L : Nat → Nat) (V : w_V) (P : w_P) (t : Nat) (hT : T t = 6) (x1 : Nat) (hx1 : T x1 = 6) (post : w_V → Prop) (w : wX6_like E.2.2.2.2 T L V P t x1 post) : gMv l yX6_like (ws_ yX6_like cX6_like 2 none) rX6_like 0 0 E [.ref t, .ref x1] (z, T, L, V, P) (xW1 z T L P) post := by
  refine g_start (S := Unit) hfl (by decide +kernel) rfl [some (.ref t), some (.ref x1)] rfl (fun _ h => h) (Nat.le_of_ble_eq_true rfl) (fun X hl hRm hEe O hQ => ?_)
  subst hl
  subst hEe
  unfold wX6_like at w
  refine g_aload_n O dX6_like_0 rfl ?_
  refine gx_getA (lay := 5) (j := 0) O ck5 (by decide) rfl rfl (by decide) hx1 q583 dX6_like_1 ?_
  refine g_iconst (v := 0) O dX6_like_4 (by decide) ?_
  refine g_aload_n O dX6_like_5 rfl ?_
  refine gx_getA (lay := 5) (j := 0) O ck5 (by decide) rfl rfl (by decide) hT q583 dX6_like_6 ?_
  refine g_iconst (v := 0) O dX6_like_9 (by decide) ?_
  refine g_iconst (v := 5) O dX6_like_10 (by decide) ?_
  obtain ⟨i1, j2, m3, e4, e5, e6, h7, h8, hf9, w⟩ := w
  refine gx_copy (a0 := x1) (k0 := 1) (n0 := 5) (a1 := t) (k1 := 1) (n1 := 5) (ty := 0) (sp := i1) (dp := j2) (nn := m3) (fty := .int) O hRm q865 (ha_own (lay := 5) (j := 0) (off := 1) (ty := 0) (len := 5) (by decide) hx1 rfl (by decide)) (ha_own (lay := 5) (j := 0) (off := 1) (ty := 0) (len := 5) (by decide) hT rfl (by decide)) rfl rfl e4 e5 e6 h7 h8 (by decide) (by decide) hf9 (Nat.le_of_ble_eq_true rfl) (Nat.le_of_ble_eq_true rfl) rfl dX6_like_11 ?_
  refine g_nV w (fun V10 w _ => ?_)
  refine g_aload_n O dX6_like_14 rfl ?_
  refine gx_getA (lay := 5) (j := 1) O ck5 (by decide) rfl rfl (by decide) hx1 q586 dX6_like_15 ?_
  refine g_iconst (v := 0) O dX6_like_18 (by decide) ?_
  refine g_aload_n O dX6_like_19 rfl ?_
  refine gx_getA (lay := 5) (j := 1) O ck5 (by decide) rfl rfl (by decide) hT q586 dX6_like_20 ?_
  refine g_iconst (v := 0) O dX6_like_23 (by decide) ?_
  refine g_aload_n O dX6_like_24 rfl ?_
  refine gx_getA (lay := 5) (j := 1) O ck5 (by decide) rfl rfl (by decide) hT q586 dX6_like_25 ?_
  refine gx_alen (a := t) (kk0 := 2) (len := 15) (ty := 0) (fty := .int) O (ha_own (lay := 5) (j := 1) (off := 2) (ty := 0) (len := 15) (by decide) hT rfl (by decide)) rfl dX6_like_28 ?_
  obtain ⟨i11, j12, m13, e14, e15, e16, h17, h18, hf19, w⟩ := w
  refine gx_copy (a0 := x1) (k0 := 2) (n0 := 15) (a1 := t) (k1 := 2) (n1 := 15) (ty := 0) (sp := i11) (dp := j12) (nn := m13) (fty := .int) O hRm q865 (ha_own (lay := 5) (j := 1) (off := 2) (ty := 0) (len := 15) (by decide) hx1 rfl (by decide)) (ha_own (lay := 5) (j := 1) (off := 2) (ty := 0) (len := 15) (by decide) hT rfl (by decide)) rfl rfl e14 e15 e16 h17 h18 (by decide) (by decide) hf19 (Nat.le_of_ble_eq_true rfl) (Nat.le_of_ble_eq_true rfl) rfl dX6_like_29 ?_
  refine g_nV w (fun V20 w _ => ?_)
  refine g_aload_n O dX6_like_32 rfl ?_
  refine gx_getA (lay := 5) (j := 2) O ck5 (by decide) rfl rfl (by decide) hx1 q589 dX6_like_33 ?_
  refine g_iconst (v := 0) O dX6_like_36 (by decide) ?_
  refine g_aload_n O dX6_like_37 rfl ?_
  refine gx_getA (lay := 5) (j := 2) O ck5 (by decide) rfl rfl (by decide) hT q589 dX6_like_38 ?_
  refine g_iconst (v := 0) O dX6_like_41 (by decide) ?_
  refine g_aload_n O dX6_like_42 rfl ?_
  refine gx_getA (lay := 5) (j := 2) O ck5 (by decide) rfl rfl (by decide) hT q589 dX6_like_43 ?_
  refine gx_alen (a := t) (kk0 := 3) (len := 12) (ty := 0) (fty := .int) O (ha_own (lay := 5) (j := 2) (off := 3) (ty := 0) (len := 12) (by decide) hT rfl (by decide)) rfl dX6_like_46 ?_
  obtain ⟨i21, j22, m23, e24, e25, e26, h27, h28, hf29, w⟩ := w
  refine gx_copy (a0 := x1) (k0 := 3) (n0 := 12) (a1 := t) (k1 := 3) (n1 := 12) (ty := 0) (sp := i21) (dp := j22) (nn := m23) (fty := .int) O hRm q865 (ha_own (lay := 5) (j := 2) (off := 3) (ty := 0) (len := 12) (by decide) hx1 rfl (by decide)) (ha_own (lay := 5) (j := 2) (off := 3) (ty := 0) (len := 12) (by decide) hT rfl (by decide)) rfl rfl e24 e25 e26 h27 h28 (by decide) (by decide) hf29 (Nat.le_of_ble_eq_true rfl) (Nat.le_of_ble_eq_true rfl) rfl dX6_like_47 ?_
  refine g_nV w (fun V30 w _ => ?_)
  refine g_aload_n O dX6_like_50 rfl ?_
  refine gx_getA (lay := 5) (j := 3) O ck5 (by decide) rfl rfl (by decide) hx1 q590 dX6_like_51 ?_
  refine g_iconst (v := 0) O dX6_like_54 (by decide) ?_
  refine g_aload_n O dX6_like_55 rfl ?_
  refine gx_getA (lay := 5) (j := 3) O ck5 (by decide) rfl rfl (by decide) hT q590 dX6_like_56 ?_
  refine g_iconst (v := 0) O dX6_like_59 (by decide) ?_
  refine g_aload_n O dX6_like_60 rfl ?_
  refine gx_getA (lay := 5) (j := 3) O ck5 (by decide) rfl rfl (by decide) hT q590 dX6_like_61 ?_
  refine gx_alen (a := t) (kk0 := 4) (len := 18) (ty := 0) (fty := .int) O (ha_own (lay := 5) (j := 3) (off := 4) (ty := 0) (len := 18) (by decide) hT rfl (by decide)) rfl dX6_like_64 ?_
  obtain ⟨i31, j32, m33, e34, e35, e36, h37, h38, hf39, w⟩ := w
  refine gx_copy (a0 := x1) (k0 := 4) (n0 := 18) (a1 := t) (k1 := 4) (n1 := 18) (ty := 0) (sp := i31) (dp := j32) (nn := m33) (fty := .int) O hRm q865 (ha_own (lay := 5) (j := 3) (off := 4) (ty := 0) (len := 18) (by decide) hx1 rfl (by decide)) (ha_own (lay := 5) (j := 3) (off := 4) (ty := 0) (len := 18) (by decide) hT rfl (by decide)) rfl rfl e34 e35 e36 h37 h38 (by decide) (by decide) hf39 (Nat.le_of_ble_eq_true rfl) (Nat.le_of_ble_eq_true rfl) rfl dX6_like_65 ?_
  refine g_nV w (fun V40 w _ => ?_)
  refine g_aload_n O dX6_like_68 rfl ?_
  refine g_aload_n O dX6_like_69 rfl ?_
  refine gx_getI (lay := 5) (j := 4) O ck5 (by decide) rfl rfl (by decide) hx1 q592 dX6_like_70 ?_
  refine gx_putI (lay := 5) (j := 4) (ty := .int) O ck5 (by decide) rfl rfl (by decide) hT q592 rfl rfl rfl rfl dX6_like_73 ?_
  refine g_nV w (fun V41 w _ => ?_)
  refine g_aload_n O dX6_like_76 rfl ?_
  refine g_aload_n O dX6_like_77 rfl ?_
  refine gx_getI (lay := 5) (j := 5) O ck5 (by decide) rfl rfl (by decide) hx1 q595 dX6_like_78 ?_
  refine gx_putI (lay := 5) (j := 5) (ty := .int) O ck5 (by decide) rfl rfl (by decide) hT q595 rfl rfl rfl rfl dX6_like_81 ?_
  refine g_nV w (fun V42 w _ => ?_)
  refine g_aload_n O dX6_like_84 rfl ?_
  refine g_aload_n O dX6_like_85 rfl ?_
  refine gx_getI (lay := 5) (j := 6) O ck5 (by decide) rfl rfl (by decide) hx1 q598 dX6_like_86 ?_
  refine gx_putI (lay := 5) (j := 6) (ty := .int) O ck5 (by decide) rfl rfl (by decide) hT q598 rfl rfl rfl rfl dX6_like_89 ?_
  refine g_nV w (fun V43 w _ => ?_)
  refine g_aload_n O dX6_like_92 rfl ?_
  refine g_aload_n O dX6_like_93 rfl ?_
  refine gx_getI (lay := 5) (j := 7) O ck5 (by decide) rfl rfl (by decide) hx1 q600 dX6_like_94 ?_
  refine gx_putI (lay := 5) (j := 7) (ty := .int) O ck5 (by decide) rfl rfl (by decide) hT q600 rfl rfl rfl rfl dX6_like_97 ?_
  refine g_nV w (fun V44 w _ => ?_)
  refine g_aload_n O dX6_like_100 rfl ?_
  refine g_aload_n O dX6_like_101 rfl ?_
  refine gx_getI (lay := 5) (j := 8) O ck5 (by decide) rfl rfl (by decide) hx1 q603 dX6_like_102 ?_
  refine gx_putI (lay := 5) (j := 8) (ty := .int) O ck5 (by decide) rfl rfl (by decide) hT q603 rfl rfl rfl rfl dX6_like_105 ?_
  refine g_nV w (fun V45 w _ => ?_)
  refine g_aload_n O dX6_like_108 rfl ?_
  refine g_aload_n O dX6_like_109 rfl ?_
  refine gx_getI (lay := 5) (j := 9) O ck5 (by decide) rfl rfl (by decide) hx1 q606 dX6_like_110 ?_
  refine gx_putI (lay := 5) (j := 9) (ty := .int) O ck5 (by decide) rfl rfl (by decide) hT q606 rfl rfl rfl rfl dX6_like_113 ?_
  refine g_nV w (fun V46 w _ => ?_)
  refine g_aload_n O dX6_like_116 rfl ?_
  refine g_aload_n O dX6_like_117 rfl ?_
  refine gx_getI (lay := 5) (j := 10) O ck5 (by decide) rfl rfl (by decide) hx1 q609 dX6_like_118 ?_
  refine gx_putI (lay := 5) (j := 10) (ty := .int) O ck5 (by decide) rfl rfl (by decide) hT q609 rfl rfl rfl rfl dX6_like_121 ?_
  refine g_nV w (fun V47 w _ => ?_)
  refine g_aload_n O dX6_like_124 rfl ?_
  refine g_aload_n O dX6_like_125 rfl ?_
  refine gx_getI (lay := 5) (j := 11) O ck5 (by decide) rfl rfl (by decide) hx1 q612 dX6_like_126 ?_
  refine gx_putI (lay := 5) (j := 11) (ty := .int) O ck5 (by decide) rfl rfl (by decide) hT q612 rfl rfl rfl rfl dX6_like_129 ?_
  refine g_nV w (fun V48 w _ => ?_)
  exact g_vret (f := xW1 z T L P) (u := V48) O hQ rfl w dX6_like_132
-- X1_undo
abbrev rX1_undo : Room := { frames := 4, cells := 0, slots := 0, locals := 81 }
set_option maxHeartbeats 4000000 in
theorem kX1_undo (l : Launch) (hfl : l.flags = flags0) (E : w_E) (z : Nat) (T L : Nat → Nat) (V : w_V) (P : w_P) (t : Nat) (hT : T t = 2) (post : Int32 → w_V → Prop) (w : wX1_undo E.2.2.2.2 T L V P t post) : gMi l yX1_undo (ws_ yX1_undo cX1_undo 1 (some .int)) rX1_undo 0 0 E [.ref t] (z, T, L, V, P) (xW1 z T L P) post := by
  refine g_start (S := Unit) hfl (by decide +kernel) rfl [some (.ref t)] rfl (fun _ h => h) (Nat.le_of_ble_eq_true rfl) (fun X hl hRm hEe O hQ => ?_)
  subst hl
  subst hEe
  unfold wX1_undo at w
  refine g_aload_n O dX1_undo_0 rfl ?_
  obtain ⟨b1, hp2, ht3, w⟩ := w
  refine gx_getR (lay := 1) (j := 1) O ck1 (by decide) rfl rfl hp2 (by decide) hT q811 dX1_undo_1 ?_
  refine gx_getIN (lay := 4) (j := 6) O ck4 (by decide) rfl rfl (by decide) ht3 q710 dX1_undo_4 ?_
  refine g_if_ne (tgt := 12) O w dX1_undo_7 (by decide) (fun w => ?_) (fun w => ?_)
  · refine g_aload_n O dX1_undo_12 rfl ?_
    obtain ⟨b4, hp5, ht6, w⟩ := w
    refine gx_getR (lay := 1) (j := 1) O ck1 (by decide) rfl rfl hp5 (by decide) hT q811 dX1_undo_13 ?_
    refine g_dup O dX1_undo_16 rfl ?_
    refine gx_getIN (lay := 4) (j := 6) O ck4 (by decide) rfl rfl (by decide) ht6 q710 dX1_undo_17 ?_
    refine g_iconst (v := 1) O dX1_undo_20 (by decide) ?_
    refine g_isub O dX1_undo_21 ?_
    refine gx_putIN (lay := 4) (j := 6) (ty := .int) O ck4 (by decide) rfl rfl (by decide) ht6 q710 rfl rfl rfl rfl dX1_undo_22 ?_
    refine g_nV w (fun V7 w _ => ?_)
    refine g_aload_n O dX1_undo_25 rfl ?_
    obtain ⟨b8, hp9, ht10, w⟩ := w
    refine gx_getR (lay := 1) (j := 3) O ck1 (by decide) rfl rfl hp9 (by decide) hT q813 dX1_undo_26 ?_
    refine g_aload_n O dX1_undo_29 rfl ?_
    obtain ⟨b11, hp12, ht13, w⟩ := w
    refine gx_getR (lay := 1) (j := 1) O ck1 (by decide) rfl rfl hp12 (by decide) hT q811 dX1_undo_30 ?_
    obtain ⟨b14, hp15, ht16, w⟩ := w
    refine gx_getRN (lay := 4) (j := 1) O ck4 (by decide) rfl rfl hp15 (by decide) ht13 q700 dX1_undo_33 ?_
    refine g_aload_n O dX1_undo_36 rfl ?_
    obtain ⟨b17, hp18, ht19, w⟩ := w
    refine gx_getR (lay := 1) (j := 1) O ck1 (by decide) rfl rfl hp18 (by decide) hT q811 dX1_undo_37 ?_
    refine gx_getIN (lay := 4) (j := 6) O ck4 (by decide) rfl rfl (by decide) ht19 q710 dX1_undo_40 ?_
    refine g_rq0 (gr_V (lay := 15) (nA := 1) (As := [.int (V7 b17 0 6)]) (rest := [.ref b8]) O hRm (kJ2_get _ O.2.2.2.2.2.2.2.2 _ _ _ _ _ _ b14 ht16 ((V7 b17 0 6)) _ w) (lw_V q860 q796 q797 q110 q798) rfl rfl (by decide +kernel) ⟨Nat.le_of_ble_eq_true rfl, Nat.le_of_ble_eq_true rfl⟩ ck15 (by decide) rfl ht16 rfl rfl rfl (Nat.le_of_ble_eq_true rfl) dX1_undo_43 ⟨Nat.le_of_ble_eq_true rfl, Nat.le_of_ble_eq_true rfl⟩) (fun r20 w => ?_)
    obtain ⟨ht23, w⟩ := w
    refine gx_castE (lay := 5) O ck5 (by decide) rfl ht23 q731 dX1_undo_46 ?_
    refine g_rv1 (gr_V (lay := 5) (nA := 1) (As := [.ref r20]) (rest := []) O hRm (kX6_like _ O.2.2.2.2.2.2.2.2 _ _ _ _ _ _ b8 ht10 r20 ht23 _ w) (lw_V q861 q862 q863 q131 q864) rfl rfl (by decide +kernel) ⟨Nat.le_of_ble_eq_true rfl, Nat.le_of_ble_eq_true rfl⟩ ck5 (by decide) rfl ht10 rfl rfl rfl (Nat.le_of_ble_eq_true rfl) dX1_undo_49 ⟨Nat.le_of_ble_eq_true rfl, Nat.le_of_ble_eq_true rfl⟩) (fun V25 w => ?_)
    refine g_aload_n O dX1_undo_52 rfl ?_
    obtain ⟨b27, hp28, ht29, w⟩ := w
    refine gx_getR (lay := 1) (j := 1) O ck1 (by decide) rfl rfl hp28 (by decide) hT q811 dX1_undo_53 ?_
    refine gx_getIN (lay := 4) (j := 6) O ck4 (by decide) rfl rfl (by decide) ht29 q710 dX1_undo_56 ?_
    exact g_iret (f := xW1 z T L P) (u := V25) O hQ rfl rfl w dX1_undo_59
  · refine g_iconst (v := (-1)) O dX1_undo_10 (by decide) ?_
    exact g_iret (f := xW1 z T L P) (u := V) O hQ rfl rfl w dX1_undo_11
-- X1_forget
abbrev rX1_forget : Room := { frames := 1, cells := 0, slots := 0, locals := 12 }
set_option maxHeartbeats 4000000 in
theorem kX1_forget (l : Launch) (hfl : l.flags = flags0) (E : w_E) (z : Nat) (T L : Nat → Nat) (V : w_V) (P : w_P) (t : Nat) (hT : T t = 2) (post : Int32 → w_V → Prop) (w : wX1_forget E.2.2.2.2 T L V P t post) : gMi l yX1_forget (ws_ yX1_forget cX1_forget 1 (some .int)) rX1_forget 0 0 E [.ref t] (z, T, L, V, P) (xW1 z T L P) post := by
  refine g_start (S := Unit) hfl (by decide +kernel) rfl [some (.ref t)] rfl (fun _ h => h) (Nat.le_of_ble_eq_true rfl) (fun X hl hRm hEe O hQ => ?_)
  subst hl
  subst hEe
  unfold wX1_forget at w
  refine g_aload_n O dX1_forget_0 rfl ?_
  obtain ⟨b1, hp2, ht3, w⟩ := w
  refine gx_getR (lay := 1) (j := 1) O ck1 (by decide) rfl rfl hp2 (by decide) hT q811 dX1_forget_1 ?_
  refine gx_getIN (lay := 4) (j := 7) O ck4 (by decide) rfl rfl (by decide) ht3 q712 dX1_forget_4 ?_
  refine g_if_ne (tgt := 12) O w dX1_forget_7 (by decide) (fun w => ?_) (fun w => ?_)
  · refine g_aload_n O dX1_forget_12 rfl ?_
    obtain ⟨b4, hp5, ht6, w⟩ := w
    refine gx_getR (lay := 1) (j := 1) O ck1 (by decide) rfl rfl hp5 (by decide) hT q811 dX1_forget_13 ?_
    refine g_dup O dX1_forget_16 rfl ?_
    refine gx_getIN (lay := 4) (j := 7) O ck4 (by decide) rfl rfl (by decide) ht6 q712 dX1_forget_17 ?_
    refine g_iconst (v := 1) O dX1_forget_20 (by decide) ?_
    refine g_isub O dX1_forget_21 ?_
    refine gx_putIN (lay := 4) (j := 7) (ty := .int) O ck4 (by decide) rfl rfl (by decide) ht6 q712 rfl rfl rfl rfl dX1_forget_22 ?_
    refine g_nV w (fun V7 w _ => ?_)
    refine g_aload_n O dX1_forget_25 rfl ?_
    obtain ⟨b8, hp9, ht10, w⟩ := w
    refine gx_getR (lay := 1) (j := 1) O ck1 (by decide) rfl rfl hp9 (by decide) hT q811 dX1_forget_26 ?_
    refine gx_getIN (lay := 4) (j := 7) O ck4 (by decide) rfl rfl (by decide) ht10 q712 dX1_forget_29 ?_
    exact g_iret (f := xW1 z T L P) (u := V7) O hQ rfl rfl w dX1_forget_32
  · refine g_iconst (v := (-1)) O dX1_forget_10 (by decide) ?_
    exact g_iret (f := xW1 z T L P) (u := V) O hQ rfl rfl w dX1_forget_11
-- X5_like
abbrev rX5_like : Room := { frames := 4, cells := 0, slots := 0, locals := 81 }
set_option maxHeartbeats 4000000 in
theorem vlX5_like_13 {X : Cx} {z : Nat} {T L : Nat → Nat} {P : w_P} (O : Okc X cX5_like RX5 3 none) (hRm : cxR X = rX5_like) (t : Nat) (hT : T t = 5) (x1 : Nat) (hx1 : T x1 = 5) (post : w_V → Prop) (hQ : cxMQ X (va_Qv post (fun u t => wdW (cxE X) (xW1 z T L P u) t.heap) (w_A (cxE X))) 0 0) (ke_52 : w_V → Prop) (hke_52 : ∀ (V2 : w_V), ke_52 V2 → gW X 0 0 z T L V2 P 52 [some (.ref t), some (.ref x1), none] [])  : ∀ (n : Nat) (x2 : Int32) (V : w_V), lX5_like_13 (cxE X).2.2.2.2 T L P t x1 post ke_52 n x2 V → gW X 0 0 z T L V P 13 [some (.ref t), some (.ref x1), some (.int x2)] [] := by
  intro n
  induction n with
  | zero =>
    intro x2 V w
    exact w.elim
  | succ n ih =>
    intro x2 V w
    unfold lX5_like_13 at w
    refine g_iload_n O dX5_like_13 rfl ?_
    refine g_aload_n O dX5_like_14 rfl ?_
    refine gx_getI (lay := 4) (j := 6) O ck4 (by decide) rfl rfl (by decide) hx1 q709 dX5_like_15 ?_
    refine g_icmp_ge (tgt := 52) O w dX5_like_18 (by decide) (fun w => ?_) (fun w => ?_)
    · refine g_drop [2] (lv' := [some (.ref t), some (.ref x1), none]) rfl ?_
      exact hke_52 (V) w
    · refine g_aload_n O dX5_like_21 rfl ?_
      obtain ⟨b10, hp11, ht12, w⟩ := w
      refine gx_getR (lay := 4) (j := 1) O ck4 (by decide) rfl rfl hp11 (by decide) hT q699 dX5_like_22 ?_
      refine g_iload_n O dX5_like_25 rfl ?_
      refine g_rq0 (gr_V (lay := 15) (nA := 1) (As := [.int x2]) (rest := []) O hRm (kJ2_get _ O.2.2.2.2.2.2.2.2 _ _ _ _ _ _ b10 ht12 (x2) _ w) (lw_V q879 q796 q797 q110 q798) rfl rfl (by decide +kernel) ⟨Nat.le_of_ble_eq_true rfl, Nat.le_of_ble_eq_true rfl⟩ ck15 (by decide) rfl ht12 rfl rfl rfl (Nat.le_of_ble_eq_true rfl) dX5_like_26 ⟨Nat.le_of_ble_eq_true rfl, Nat.le_of_ble_eq_true rfl⟩) (fun r13 w => ?_)
      obtain ⟨ht16, w⟩ := w
      refine gx_castE (lay := 5) O ck5 (by decide) rfl ht16 q577 dX5_like_29 ?_
      refine g_aload_n O dX5_like_32 rfl ?_
      obtain ⟨b17, hp18, ht19, w⟩ := w
      refine gx_getR (lay := 4) (j := 1) O ck4 (by decide) rfl rfl hp18 (by decide) hx1 q699 dX5_like_33 ?_
      refine g_iload_n O dX5_like_36 rfl ?_
      refine g_rq0 (gr_V (lay := 15) (nA := 1) (As := [.int x2]) (rest := [.ref r13]) O hRm (kJ2_get _ O.2.2.2.2.2.2.2.2 _ _ _ _ _ _ b17 ht19 (x2) _ w) (lw_V q879 q796 q797 q110 q798) rfl rfl (by decide +kernel) ⟨Nat.le_of_ble_eq_true rfl, Nat.le_of_ble_eq_true rfl⟩ ck15 (by decide) rfl ht19 rfl rfl rfl (Nat.le_of_ble_eq_true rfl) dX5_like_37 ⟨Nat.le_of_ble_eq_true rfl, Nat.le_of_ble_eq_true rfl⟩) (fun r20 w => ?_)
      obtain ⟨ht23, w⟩ := w
      refine gx_castE (lay := 5) O ck5 (by decide) rfl ht23 q577 dX5_like_40 ?_
      refine g_rv1 (gr_V (lay := 5) (nA := 1) (As := [.ref r20]) (rest := []) O hRm (kX6_like _ O.2.2.2.2.2.2.2.2 _ _ _ _ _ _ r13 ht16 r20 ht23 _ w) (lw_V q878 q862 q863 q131 q864) rfl rfl (by decide +kernel) ⟨Nat.le_of_ble_eq_true rfl, Nat.le_of_ble_eq_true rfl⟩ ck5 (by decide) rfl ht16 rfl rfl rfl (Nat.le_of_ble_eq_true rfl) dX5_like_43 ⟨Nat.le_of_ble_eq_true rfl, Nat.le_of_ble_eq_true rfl⟩) (fun V25 w => ?_)
      refine g_iinc (v := (x2 + 1)) O dX5_like_46 rfl rfl rfl (lv' := [some (.ref t), some (.ref x1), some (.int (x2 + 1))]) rfl ?_
      refine g_goto (tgt := 13) O dX5_like_49 (by decide) ?_
      exact ih ((x2 + 1)) (V25) w
set_option maxHeartbeats 4000000 in
theorem kX5_like (l : Launch) (hfl : l.flags = flags0) (E : w_E) (z : Nat) (T L : Nat → Nat) (V : w_V) (P : w_P) (t : Nat) (hT : T t = 5) (x1 : Nat) (hx1 : T x1 = 5) (post : w_V → Prop) (w : wX5_like E.2.2.2.2 T L V P t x1 post) : gMv l yX5_like (ws_ yX5_like cX5_like 3 none) rX5_like 0 0 E [.ref t, .ref x1] (z, T, L, V, P) (xW1 z T L P) post := by
  refine g_start (S := Unit) hfl (by decide +kernel) rfl [some (.ref t), some (.ref x1), none] rfl (fun _ h => h) (Nat.le_of_ble_eq_true rfl) (fun X hl hRm hEe O hQ => ?_)
  subst hl
  subst hEe
  unfold wX5_like at w
  refine g_aload_n O dX5_like_0 rfl ?_
  obtain ⟨b1, hp2, ht3, w⟩ := w
  refine gx_getR (lay := 4) (j := 0) O ck4 (by decide) rfl rfl hp2 (by decide) hT q697 dX5_like_1 ?_
  refine g_aload_n O dX5_like_4 rfl ?_
  obtain ⟨b4, hp5, ht6, w⟩ := w
  refine gx_getR (lay := 4) (j := 0) O ck4 (by decide) rfl rfl hp5 (by decide) hx1 q697 dX5_like_5 ?_
  refine g_rv1 (gr_V (lay := 5) (nA := 1) (As := [.ref b4]) (rest := []) O hRm (kX6_like _ O.2.2.2.2.2.2.2.2 _ _ _ _ _ _ b1 ht3 b4 ht6 _ w) (lw_V q878 q862 q863 q131 q864) rfl rfl (by decide +kernel) ⟨Nat.le_of_ble_eq_true rfl, Nat.le_of_ble_eq_true rfl⟩ ck5 (by decide) rfl ht3 rfl rfl rfl (Nat.le_of_ble_eq_true rfl) dX5_like_8 ⟨Nat.le_of_ble_eq_true rfl, Nat.le_of_ble_eq_true rfl⟩) (fun V8 w => ?_)
  refine g_iconst (v := 0) O dX5_like_11 (by decide) ?_
  refine g_istore_n O dX5_like_12 (Nat.le_of_ble_eq_true rfl) rfl (lv' := [some (.ref t), some (.ref x1), some (.int 0)]) rfl ?_
  obtain ⟨n70, w⟩ := w
  refine vlX5_like_13 O hRm (P := P) t hT x1 hx1 post hQ _ (fun V27 w => ?_) n70 (0) (V8) w
  refine g_aload_n O dX5_like_52 rfl ?_
  refine gx_getA (lay := 4) (j := 2) O ck4 (by decide) rfl rfl (by decide) hx1 q701 dX5_like_53 ?_
  refine g_iconst (v := 0) O dX5_like_56 (by decide) ?_
  refine g_aload_n O dX5_like_57 rfl ?_
  refine gx_getA (lay := 4) (j := 2) O ck4 (by decide) rfl rfl (by decide) hT q701 dX5_like_58 ?_
  refine g_iconst (v := 0) O dX5_like_61 (by decide) ?_
  refine g_bipush (v := 8) O dX5_like_62 (by decide) ?_
  obtain ⟨i28, j29, m30, e31, e32, e33, h34, h35, hf36, w⟩ := w
  refine gx_copy (a0 := x1) (k0 := 3) (n0 := 8) (a1 := t) (k1 := 3) (n1 := 8) (ty := 0) (sp := i28) (dp := j29) (nn := m30) (fty := .int) O hRm q880 (ha_own (lay := 4) (j := 2) (off := 8) (ty := 0) (len := 8) (by decide) hx1 rfl (by decide)) (ha_own (lay := 4) (j := 2) (off := 8) (ty := 0) (len := 8) (by decide) hT rfl (by decide)) rfl rfl e31 e32 e33 h34 h35 (by decide) (by decide) hf36 (Nat.le_of_ble_eq_true rfl) (Nat.le_of_ble_eq_true rfl) rfl dX5_like_64 ?_
  refine g_nV w (fun V37 w _ => ?_)
  refine g_aload_n O dX5_like_67 rfl ?_
  refine gx_getA (lay := 4) (j := 3) O ck4 (by decide) rfl rfl (by decide) hx1 q703 dX5_like_68 ?_
  refine g_iconst (v := 0) O dX5_like_71 (by decide) ?_
  refine g_aload_n O dX5_like_72 rfl ?_
  refine gx_getA (lay := 4) (j := 3) O ck4 (by decide) rfl rfl (by decide) hT q703 dX5_like_73 ?_
  refine g_iconst (v := 0) O dX5_like_76 (by decide) ?_
  refine g_bipush (v := 8) O dX5_like_77 (by decide) ?_
  obtain ⟨i38, j39, m40, e41, e42, e43, h44, h45, hf46, w⟩ := w
  refine gx_copy (a0 := x1) (k0 := 4) (n0 := 8) (a1 := t) (k1 := 4) (n1 := 8) (ty := 0) (sp := i38) (dp := j39) (nn := m40) (fty := .int) O hRm q880 (ha_own (lay := 4) (j := 3) (off := 9) (ty := 0) (len := 8) (by decide) hx1 rfl (by decide)) (ha_own (lay := 4) (j := 3) (off := 9) (ty := 0) (len := 8) (by decide) hT rfl (by decide)) rfl rfl e41 e42 e43 h44 h45 (by decide) (by decide) hf46 (Nat.le_of_ble_eq_true rfl) (Nat.le_of_ble_eq_true rfl) rfl dX5_like_79 ?_
  refine g_nV w (fun V47 w _ => ?_)
  refine g_aload_n O dX5_like_82 rfl ?_
  refine gx_getA (lay := 4) (j := 5) O ck4 (by decide) rfl rfl (by decide) hx1 q707 dX5_like_83 ?_
  refine g_iconst (v := 0) O dX5_like_86 (by decide) ?_
  refine g_aload_n O dX5_like_87 rfl ?_
  refine gx_getA (lay := 4) (j := 5) O ck4 (by decide) rfl rfl (by decide) hT q707 dX5_like_88 ?_
  refine g_iconst (v := 0) O dX5_like_91 (by decide) ?_
  refine g_bipush (v := 8) O dX5_like_92 (by decide) ?_
  obtain ⟨i48, j49, m50, e51, e52, e53, h54, h55, hf56, w⟩ := w
  refine gx_copy (a0 := x1) (k0 := 6) (n0 := 8) (a1 := t) (k1 := 6) (n1 := 8) (ty := 2) (sp := i48) (dp := j49) (nn := m50) (fty := .boolean) O hRm q880 (ha_own (lay := 4) (j := 5) (off := 11) (ty := 2) (len := 8) (by decide) hx1 rfl (by decide)) (ha_own (lay := 4) (j := 5) (off := 11) (ty := 2) (len := 8) (by decide) hT rfl (by decide)) rfl rfl e51 e52 e53 h54 h55 (by decide) (by decide) hf56 (Nat.le_of_ble_eq_true rfl) (Nat.le_of_ble_eq_true rfl) rfl dX5_like_94 ?_
  refine g_nV w (fun V57 w _ => ?_)
  refine g_aload_n O dX5_like_97 rfl ?_
  refine gx_getA (lay := 4) (j := 4) O ck4 (by decide) rfl rfl (by decide) hx1 q705 dX5_like_98 ?_
  refine g_iconst (v := 0) O dX5_like_101 (by decide) ?_
  refine g_aload_n O dX5_like_102 rfl ?_
  refine gx_getA (lay := 4) (j := 4) O ck4 (by decide) rfl rfl (by decide) hT q705 dX5_like_103 ?_
  refine g_iconst (v := 0) O dX5_like_106 (by decide) ?_
  refine g_aload_n O dX5_like_107 rfl ?_
  refine gx_getA (lay := 4) (j := 4) O ck4 (by decide) rfl rfl (by decide) hT q705 dX5_like_108 ?_
  refine gx_alen (a := t) (kk0 := 5) (len := 3) (ty := 0) (fty := .int) O (ha_own (lay := 4) (j := 4) (off := 10) (ty := 0) (len := 3) (by decide) hT rfl (by decide)) rfl dX5_like_111 ?_
  obtain ⟨i58, j59, m60, e61, e62, e63, h64, h65, hf66, w⟩ := w
  refine gx_copy (a0 := x1) (k0 := 5) (n0 := 3) (a1 := t) (k1 := 5) (n1 := 3) (ty := 0) (sp := i58) (dp := j59) (nn := m60) (fty := .int) O hRm q880 (ha_own (lay := 4) (j := 4) (off := 10) (ty := 0) (len := 3) (by decide) hx1 rfl (by decide)) (ha_own (lay := 4) (j := 4) (off := 10) (ty := 0) (len := 3) (by decide) hT rfl (by decide)) rfl rfl e61 e62 e63 h64 h65 (by decide) (by decide) hf66 (Nat.le_of_ble_eq_true rfl) (Nat.le_of_ble_eq_true rfl) rfl dX5_like_112 ?_
  refine g_nV w (fun V67 w _ => ?_)
  refine g_aload_n O dX5_like_115 rfl ?_
  refine g_aload_n O dX5_like_116 rfl ?_
  refine gx_getI (lay := 4) (j := 6) O ck4 (by decide) rfl rfl (by decide) hx1 q709 dX5_like_117 ?_
  refine gx_putI (lay := 4) (j := 6) (ty := .int) O ck4 (by decide) rfl rfl (by decide) hT q709 rfl rfl rfl rfl dX5_like_120 ?_
  refine g_nV w (fun V68 w _ => ?_)
  refine g_aload_n O dX5_like_123 rfl ?_
  refine g_aload_n O dX5_like_124 rfl ?_
  refine gx_getI (lay := 4) (j := 7) O ck4 (by decide) rfl rfl (by decide) hx1 q711 dX5_like_125 ?_
  refine gx_putI (lay := 4) (j := 7) (ty := .int) O ck4 (by decide) rfl rfl (by decide) hT q711 rfl rfl rfl rfl dX5_like_128 ?_
  refine g_nV w (fun V69 w _ => ?_)
  exact g_vret (f := xW1 z T L P) (u := V69) O hQ rfl w dX5_like_131
-- X1_image
abbrev rX1_image : Room := { frames := 5, cells := 0, slots := 0, locals := 103 }
set_option maxHeartbeats 4000000 in
theorem kX1_image (l : Launch) (hfl : l.flags = flags0) (E : w_E) (z : Nat) (T L : Nat → Nat) (V : w_V) (P : w_P) (t : Nat) (hT : T t = 2) (post : w_V → Prop) (w : wX1_image E.2.2.2.2 T L V P t post) : gMv l yX1_image (ws_ yX1_image cX1_image 1 none) rX1_image 0 0 E [.ref t] (z, T, L, V, P) (xW1 z T L P) post := by
  refine g_start (S := Unit) hfl (by decide +kernel) rfl [some (.ref t)] rfl (fun _ h => h) (Nat.le_of_ble_eq_true rfl) (fun X hl hRm hEe O hQ => ?_)
  subst hl
  subst hEe
  unfold wX1_image at w
  refine g_aload_n O dX1_image_0 rfl ?_
  obtain ⟨b1, hp2, ht3, w⟩ := w
  refine gx_getR (lay := 1) (j := 2) O ck1 (by decide) rfl rfl hp2 (by decide) hT q812 dX1_image_1 ?_
  refine g_aload_n O dX1_image_4 rfl ?_
  obtain ⟨b4, hp5, ht6, w⟩ := w
  refine gx_getR (lay := 1) (j := 1) O ck1 (by decide) rfl rfl hp5 (by decide) hT q811 dX1_image_5 ?_
  refine g_rv1 (gr_V (lay := 4) (nA := 1) (As := [.ref b4]) (rest := []) O hRm (kX5_like _ O.2.2.2.2.2.2.2.2 _ _ _ _ _ _ b1 ht3 b4 ht6 _ w) (lw_V q874 q875 q876 q130 q877) rfl rfl (by decide +kernel) ⟨Nat.le_of_ble_eq_true rfl, Nat.le_of_ble_eq_true rfl⟩ ck4 (by decide) rfl ht3 rfl rfl rfl (Nat.le_of_ble_eq_true rfl) dX1_image_8 ⟨Nat.le_of_ble_eq_true rfl, Nat.le_of_ble_eq_true rfl⟩) (fun V8 w => ?_)
  refine g_aload_n O dX1_image_11 rfl ?_
  refine g_iconst (v := 1) O dX1_image_12 (by decide) ?_
  refine gx_putI (lay := 1) (j := 6) (ty := .boolean) O ck1 (by decide) rfl rfl (by decide) hT q816 rfl rfl rfl rfl dX1_image_13 ?_
  refine g_nV w (fun V10 w _ => ?_)
  exact g_vret (f := xW1 z T L P) (u := V10) O hQ rfl w dX1_image_16
-- X1_restore
abbrev rX1_restore : Room := { frames := 5, cells := 0, slots := 0, locals := 103 }
set_option maxHeartbeats 4000000 in
theorem kX1_restore (l : Launch) (hfl : l.flags = flags0) (E : w_E) (z : Nat) (T L : Nat → Nat) (V : w_V) (P : w_P) (t : Nat) (hT : T t = 2) (post : Int32 → w_V → Prop) (w : wX1_restore E.2.2.2.2 T L V P t post) : gMi l yX1_restore (ws_ yX1_restore cX1_restore 1 (some .boolean)) rX1_restore 0 0 E [.ref t] (z, T, L, V, P) (xW1 z T L P) post := by
  refine g_start (S := Unit) hfl (by decide +kernel) rfl [some (.ref t)] rfl (fun _ h => h) (Nat.le_of_ble_eq_true rfl) (fun X hl hRm hEe O hQ => ?_)
  subst hl
  subst hEe
  unfold wX1_restore at w
  refine g_aload_n O dX1_restore_0 rfl ?_
  refine gx_getI (lay := 1) (j := 6) O ck1 (by decide) rfl rfl (by decide) hT q816 dX1_restore_1 ?_
  refine g_if_ne (tgt := 9) O w dX1_restore_4 (by decide) (fun w => ?_) (fun w => ?_)
  · refine g_aload_n O dX1_restore_9 rfl ?_
    obtain ⟨b1, hp2, ht3, w⟩ := w
    refine gx_getR (lay := 1) (j := 1) O ck1 (by decide) rfl rfl hp2 (by decide) hT q811 dX1_restore_10 ?_
    refine g_aload_n O dX1_restore_13 rfl ?_
    obtain ⟨b4, hp5, ht6, w⟩ := w
    refine gx_getR (lay := 1) (j := 2) O ck1 (by decide) rfl rfl hp5 (by decide) hT q812 dX1_restore_14 ?_
    refine g_rv1 (gr_V (lay := 4) (nA := 1) (As := [.ref b4]) (rest := []) O hRm (kX5_like _ O.2.2.2.2.2.2.2.2 _ _ _ _ _ _ b1 ht3 b4 ht6 _ w) (lw_V q874 q875 q876 q130 q877) rfl rfl (by decide +kernel) ⟨Nat.le_of_ble_eq_true rfl, Nat.le_of_ble_eq_true rfl⟩ ck4 (by decide) rfl ht3 rfl rfl rfl (Nat.le_of_ble_eq_true rfl) dX1_restore_17 ⟨Nat.le_of_ble_eq_true rfl, Nat.le_of_ble_eq_true rfl⟩) (fun V8 w => ?_)
    refine g_iconst (v := 1) O dX1_restore_20 (by decide) ?_
    exact g_iret (f := xW1 z T L P) (u := V8) O hQ rfl rfl w dX1_restore_21
  · refine g_iconst (v := 0) O dX1_restore_7 (by decide) ?_
    exact g_iret (f := xW1 z T L P) (u := V) O hQ rfl rfl w dX1_restore_8
-- X9_byteAt
abbrev rX9_byteAt : Room := { frames := 1, cells := 0, slots := 0, locals := 12 }
set_option maxHeartbeats 4000000 in
theorem kX9_byteAt (l : Launch) (hfl : l.flags = flags0) (E : w_E) (z : Nat) (T L : Nat → Nat) (V : w_V) (P : w_P) (t : Nat) (hT : T t = 8) (x1 : Int32) (post : Int32 → Prop) (w : wX9_byteAt E.2.2.2.2 T L V P t x1 post) : gMi l yX9_byteAt (ws_ yX9_byteAt cX9_byteAt 2 (some .int)) rX9_byteAt 0 0 E [.ref t, .int x1] (z, T, L, V, P) (xW0 z T L V P) (fun x (_ : Unit) => post x) := by
  refine g_start (S := Unit) hfl (by decide +kernel) rfl [some (.ref t), some (.int x1)] rfl (fun _ h => h) (Nat.le_of_ble_eq_true rfl) (fun X hl hRm hEe O hQ => ?_)
  subst hl
  subst hEe
  unfold wX9_byteAt at w
  refine g_iload_n O dX9_byteAt_0 rfl ?_
  refine g_aload_n O dX9_byteAt_1 rfl ?_
  refine gx_getI (lay := 7) (j := 1) O ck7 (by decide) rfl rfl (by decide) hT q983 dX9_byteAt_2 ?_
  refine g_icmp_ge (tgt := 21) O w dX9_byteAt_5 (by decide) (fun w => ?_) (fun w => ?_)
  · refine g_iconst (v := 0) O dX9_byteAt_21 (by decide) ?_
    exact g_iret (f := xW0 z T L V P) (u := ()) O hQ rfl rfl w dX9_byteAt_22
  · refine g_aload_n O dX9_byteAt_8 rfl ?_
    obtain ⟨b1, a3, k4, n5, hp2, h6, g7, w⟩ := w
    refine gx_getR (lay := 7) (j := 0) O ck7 (by decide) rfl rfl hp2 (by decide) hT q982 dX9_byteAt_9 ?_
    refine g_iload_n O dX9_byteAt_12 rfl ?_
    obtain ⟨i8, hi9, e10, w⟩ := w
    refine gx_bald (a := a3) (kk0 := k4) (len := n5) (nn := i8) O h6 hi9 g7 e10 dX9_byteAt_13 ?_
    refine g_sipush (v := 255) O dX9_byteAt_14 (by decide) ?_
    refine g_iand O dX9_byteAt_17 ?_
    refine g_goto (tgt := 22) O dX9_byteAt_18 (by decide) ?_
    exact g_iret (f := xW0 z T L V P) (u := ()) O hQ rfl rfl w dX9_byteAt_22
-- X9_isDigit
abbrev rX9_isDigit : Room := { frames := 1, cells := 0, slots := 0, locals := 12 }
set_option maxHeartbeats 4000000 in
theorem kX9_isDigit (l : Launch) (hfl : l.flags = flags0) (E : w_E) (z : Nat) (T L : Nat → Nat) (V : w_V) (P : w_P) (x0 : Int32) (post : Int32 → Prop) (w : wX9_isDigit E.2.2.2.2 T L V P x0 post) : gMi l yX9_isDigit (ws_ yX9_isDigit cX9_isDigit 1 (some .boolean)) rX9_isDigit 0 0 E [.int x0] (z, T, L, V, P) (xW0 z T L V P) (fun x (_ : Unit) => post x) := by
  refine g_start (S := Unit) hfl (by decide +kernel) rfl [some (.int x0)] rfl (fun _ h => h) (Nat.le_of_ble_eq_true rfl) (fun X hl hRm hEe O hQ => ?_)
  subst hl
  subst hEe
  unfold wX9_isDigit at w
  refine g_iload_n O dX9_isDigit_0 rfl ?_
  refine g_bipush (v := 48) O dX9_isDigit_1 (by decide) ?_
  refine g_icmp_lt (tgt := 16) O w dX9_isDigit_3 (by decide) (fun w => ?_) (fun w => ?_)
  · refine g_iconst (v := 0) O dX9_isDigit_16 (by decide) ?_
    exact g_iret (f := xW0 z T L V P) (u := ()) O hQ rfl rfl w dX9_isDigit_17
  · refine g_iload_n O dX9_isDigit_6 rfl ?_
    refine g_bipush (v := 57) O dX9_isDigit_7 (by decide) ?_
    refine g_icmp_gt (tgt := 16) O w dX9_isDigit_9 (by decide) (fun w => ?_) (fun w => ?_)
    · refine g_iconst (v := 0) O dX9_isDigit_16 (by decide) ?_
      exact g_iret (f := xW0 z T L V P) (u := ()) O hQ rfl rfl w dX9_isDigit_17
    · refine g_iconst (v := 1) O dX9_isDigit_12 (by decide) ?_
      refine g_goto (tgt := 17) O dX9_isDigit_13 (by decide) ?_
      exact g_iret (f := xW0 z T L V P) (u := ()) O hQ rfl rfl w dX9_isDigit_17
-- X9_isLetter
abbrev rX9_isLetter : Room := { frames := 1, cells := 0, slots := 0, locals := 12 }
set_option maxHeartbeats 4000000 in
theorem kX9_isLetter (l : Launch) (hfl : l.flags = flags0) (E : w_E) (z : Nat) (T L : Nat → Nat) (V : w_V) (P : w_P) (x0 : Int32) (post : Int32 → Prop) (w : wX9_isLetter E.2.2.2.2 T L V P x0 post) : gMi l yX9_isLetter (ws_ yX9_isLetter cX9_isLetter 1 (some .boolean)) rX9_isLetter 0 0 E [.int x0] (z, T, L, V, P) (xW0 z T L V P) (fun x (_ : Unit) => post x) := by
  refine g_start (S := Unit) hfl (by decide +kernel) rfl [some (.int x0)] rfl (fun _ h => h) (Nat.le_of_ble_eq_true rfl) (fun X hl hRm hEe O hQ => ?_)
  subst hl
  subst hEe
  unfold wX9_isLetter at w
  refine g_iload_n O dX9_isLetter_0 rfl ?_
  refine g_bipush (v := 97) O dX9_isLetter_1 (by decide) ?_
  refine g_icmp_lt (tgt := 16) O w dX9_isLetter_3 (by decide) (fun w => ?_) (fun w => ?_)
  · refine g_iconst (v := 0) O dX9_isLetter_16 (by decide) ?_
    exact g_iret (f := xW0 z T L V P) (u := ()) O hQ rfl rfl w dX9_isLetter_17
  · refine g_iload_n O dX9_isLetter_6 rfl ?_
    refine g_bipush (v := 122) O dX9_isLetter_7 (by decide) ?_
    refine g_icmp_gt (tgt := 16) O w dX9_isLetter_9 (by decide) (fun w => ?_) (fun w => ?_)
    · refine g_iconst (v := 0) O dX9_isLetter_16 (by decide) ?_
      exact g_iret (f := xW0 z T L V P) (u := ()) O hQ rfl rfl w dX9_isLetter_17
    · refine g_iconst (v := 1) O dX9_isLetter_12 (by decide) ?_
      refine g_goto (tgt := 17) O dX9_isLetter_13 (by decide) ?_
      exact g_iret (f := xW0 z T L V P) (u := ()) O hQ rfl rfl w dX9_isLetter_17
-- X9_isSign
abbrev rX9_isSign : Room := { frames := 1, cells := 0, slots := 0, locals := 12 }
set_option maxHeartbeats 4000000 in
theorem kX9_isSign (l : Launch) (hfl : l.flags = flags0) (E : w_E) (z : Nat) (T L : Nat → Nat) (V : w_V) (P : w_P) (x0 : Int32) (post : Int32 → Prop) (w : wX9_isSign E.2.2.2.2 T L V P x0 post) : gMi l yX9_isSign (ws_ yX9_isSign cX9_isSign 1 (some .boolean)) rX9_isSign 0 0 E [.int x0] (z, T, L, V, P) (xW0 z T L V P) (fun x (_ : Unit) => post x) := by
  refine g_start (S := Unit) hfl (by decide +kernel) rfl [some (.int x0)] rfl (fun _ h => h) (Nat.le_of_ble_eq_true rfl) (fun X hl hRm hEe O hQ => ?_)
  subst hl
  subst hEe
  unfold wX9_isSign at w
  refine g_iload_n O dX9_isSign_0 rfl ?_
  refine g_bipush (v := 59) O dX9_isSign_1 (by decide) ?_
  refine g_icmp_eq (tgt := 54) O w dX9_isSign_3 (by decide) (fun w => ?_) (fun w => ?_)
  · refine g_iconst (v := 1) O dX9_isSign_54 (by decide) ?_
    refine g_goto (tgt := 59) O dX9_isSign_55 (by decide) ?_
    exact g_iret (f := xW0 z T L V P) (u := ()) O hQ rfl rfl w dX9_isSign_59
  · refine g_iload_n O dX9_isSign_6 rfl ?_
    refine g_bipush (v := 40) O dX9_isSign_7 (by decide) ?_
    refine g_icmp_eq (tgt := 54) O w dX9_isSign_9 (by decide) (fun w => ?_) (fun w => ?_)
    · refine g_iconst (v := 1) O dX9_isSign_54 (by decide) ?_
      refine g_goto (tgt := 59) O dX9_isSign_55 (by decide) ?_
      exact g_iret (f := xW0 z T L V P) (u := ()) O hQ rfl rfl w dX9_isSign_59
    · refine g_iload_n O dX9_isSign_12 rfl ?_
      refine g_bipush (v := 41) O dX9_isSign_13 (by decide) ?_
      refine g_icmp_eq (tgt := 54) O w dX9_isSign_15 (by decide) (fun w => ?_) (fun w => ?_)
      · refine g_iconst (v := 1) O dX9_isSign_54 (by decide) ?_
        refine g_goto (tgt := 59) O dX9_isSign_55 (by decide) ?_
        exact g_iret (f := xW0 z T L V P) (u := ()) O hQ rfl rfl w dX9_isSign_59
      · refine g_iload_n O dX9_isSign_18 rfl ?_
        refine g_bipush (v := 43) O dX9_isSign_19 (by decide) ?_
        refine g_icmp_eq (tgt := 54) O w dX9_isSign_21 (by decide) (fun w => ?_) (fun w => ?_)
        · refine g_iconst (v := 1) O dX9_isSign_54 (by decide) ?_
          refine g_goto (tgt := 59) O dX9_isSign_55 (by decide) ?_
          exact g_iret (f := xW0 z T L V P) (u := ()) O hQ rfl rfl w dX9_isSign_59
        · refine g_iload_n O dX9_isSign_24 rfl ?_
          refine g_bipush (v := 45) O dX9_isSign_25 (by decide) ?_
          refine g_icmp_eq (tgt := 54) O w dX9_isSign_27 (by decide) (fun w => ?_) (fun w => ?_)
          · refine g_iconst (v := 1) O dX9_isSign_54 (by decide) ?_
            refine g_goto (tgt := 59) O dX9_isSign_55 (by decide) ?_
            exact g_iret (f := xW0 z T L V P) (u := ()) O hQ rfl rfl w dX9_isSign_59
          · refine g_iload_n O dX9_isSign_30 rfl ?_
            refine g_bipush (v := 42) O dX9_isSign_31 (by decide) ?_
            refine g_icmp_eq (tgt := 54) O w dX9_isSign_33 (by decide) (fun w => ?_) (fun w => ?_)
            · refine g_iconst (v := 1) O dX9_isSign_54 (by decide) ?_
              refine g_goto (tgt := 59) O dX9_isSign_55 (by decide) ?_
              exact g_iret (f := xW0 z T L V P) (u := ()) O hQ rfl rfl w dX9_isSign_59
            · refine g_iload_n O dX9_isSign_36 rfl ?_
              refine g_bipush (v := 47) O dX9_isSign_37 (by decide) ?_
              refine g_icmp_eq (tgt := 54) O w dX9_isSign_39 (by decide) (fun w => ?_) (fun w => ?_)
              · refine g_iconst (v := 1) O dX9_isSign_54 (by decide) ?_
                refine g_goto (tgt := 59) O dX9_isSign_55 (by decide) ?_
                exact g_iret (f := xW0 z T L V P) (u := ()) O hQ rfl rfl w dX9_isSign_59
              · refine g_iload_n O dX9_isSign_42 rfl ?_
                refine g_bipush (v := 60) O dX9_isSign_43 (by decide) ?_
                refine g_icmp_eq (tgt := 54) O w dX9_isSign_45 (by decide) (fun w => ?_) (fun w => ?_)
                · refine g_iconst (v := 1) O dX9_isSign_54 (by decide) ?_
                  refine g_goto (tgt := 59) O dX9_isSign_55 (by decide) ?_
                  exact g_iret (f := xW0 z T L V P) (u := ()) O hQ rfl rfl w dX9_isSign_59
                · refine g_iload_n O dX9_isSign_48 rfl ?_
                  refine g_bipush (v := 61) O dX9_isSign_49 (by decide) ?_
                  refine g_icmp_ne (tgt := 58) O w dX9_isSign_51 (by decide) (fun w => ?_) (fun w => ?_)
                  · refine g_iconst (v := 0) O dX9_isSign_58 (by decide) ?_
                    exact g_iret (f := xW0 z T L V P) (u := ()) O hQ rfl rfl w dX9_isSign_59
                  · refine g_iconst (v := 1) O dX9_isSign_54 (by decide) ?_
                    refine g_goto (tgt := 59) O dX9_isSign_55 (by decide) ?_
                    exact g_iret (f := xW0 z T L V P) (u := ()) O hQ rfl rfl w dX9_isSign_59
-- J9m_equals
abbrev rJ9m_equals : Room := { frames := 2, cells := 0, slots := 0, locals := 34 }
set_option maxHeartbeats 4000000 in
theorem vjJ9m_equals_36 {X : Cx} {z : Nat} {T L : Nat → Nat} {V : w_V} {P : w_P} (O : Okc X cJ9_equals RJ9 3 (some .boolean)) (hRm : cxR X = rJ9m_equals) (t : Nat) (hT : T t = 18) (x1 : Nat) (tx1 : List Nat) (hs1 : isStr (cxE X) x1 tx1) (x2 : Nat) (txx2 : List Nat) (hx2 : isStr (cxE X) x2 txx2) (post : Int32 → Prop) (hQ : cxMQ X (va_Qi (fun x (_ : Unit) => post x) (fun u t => wdW (cxE X) (xW0 z T L V P u) t.heap) (w_A (cxE X))) 0 0) (w : jJ9m_equals_36 (cxE X).2.2.2.2 T L V P t x1 tx1 x2 txx2 post) : gW X 0 0 z T L V P 36 [some (.ref t), some (.ref x1), some (.ref x2)] [] := by
  unfold jJ9m_equals_36 at w
  refine g_aload_n O dJ9_equals_36 rfl ?_
  obtain ⟨b1, a3, k4, n5, hp2, h6, g7, w⟩ := w
  refine gx_getR (lay := 17) (j := 0) O ck17 (by decide) rfl rfl hp2 (by decide) hT q478 dJ9_equals_37 ?_
  refine g_aload_n O dJ9_equals_40 rfl ?_
  refine gs_value O hx2 q478 dJ9_equals_41 (fun v8 hv9 => ?_)
  replace w := w v8
  refine g_ri0 (gr_S (nA := 2) (As := [.ref b1, .ref v8]) (rest := []) O hRm (kJ15m_equals _ O.2.2.2.2.2.2.2.2 _ _ _ _ _ _ (b1) a3 k4 n5 h6 g7 v8 txx2 hv9 _ w) (lw_S q1025 q1026 q124 q1027) rfl rfl (by decide +kernel) ⟨Nat.le_of_ble_eq_true rfl, Nat.le_of_ble_eq_true rfl⟩ rfl rfl rfl (Nat.le_of_ble_eq_true rfl) dJ9_equals_44 ⟨Nat.le_of_ble_eq_true rfl, Nat.le_of_ble_eq_true rfl⟩) (fun r10 w => ?_)
  refine g_if_eq (tgt := 54) O w dJ9_equals_47 (by decide) (fun w => ?_) (fun w => ?_)
  · refine g_iconst (v := 0) O dJ9_equals_54 (by decide) ?_
    exact g_iret (f := xW0 z T L V P) (u := ()) O hQ rfl rfl w dJ9_equals_55
  · refine g_iconst (v := 1) O dJ9_equals_50 (by decide) ?_
    refine g_goto (tgt := 55) O dJ9_equals_51 (by decide) ?_
    exact g_iret (f := xW0 z T L V P) (u := ()) O hQ rfl rfl w dJ9_equals_55
set_option maxHeartbeats 4000000 in
theorem kJ9m_equals (l : Launch) (hfl : l.flags = flags0) (E : w_E) (z : Nat) (T L : Nat → Nat) (V : w_V) (P : w_P) (t : Nat) (hT : T t = 18) (x1 : Nat) (tx1 : List Nat) (hs1 : isStr E x1 tx1) (post : Int32 → Prop) (w : wJ9m_equals E.2.2.2.2 T L V P t x1 tx1 post) : gMi l yJ9_equals (ws_ yJ9_equals cJ9_equals 3 (some .boolean)) rJ9m_equals 0 0 E [.ref t, .ref x1] (z, T, L, V, P) (xW0 z T L V P) (fun x (_ : Unit) => post x) := by
  refine g_start (S := Unit) hfl (by decide +kernel) rfl [some (.ref t), some (.ref x1), none] rfl (fun _ h => h) (Nat.le_of_ble_eq_true rfl) (fun X hl hRm hEe O hQ => ?_)
  subst hl
  subst hEe
  unfold wJ9m_equals at w
  refine g_aload_n O dJ9_equals_0 rfl ?_
  refine g_aload_n O dJ9_equals_1 rfl ?_
  refine gx_acmp_ne (tgt := 7) O w dJ9_equals_2 (by decide) (fun w => ?_) (fun w => ?_)
  · refine g_aload_n O dJ9_equals_7 rfl ?_
    refine gs_inst O hs1 q972 dJ9_equals_8 ?_
    refine g_if_eq_f O (by decide) dJ9_equals_11 54 (by decide) ?_
    refine g_aload_n O dJ9_equals_14 rfl ?_
    refine gs_cast O hs1 q972 dJ9_equals_15 ?_
    refine g_astore_n O dJ9_equals_18 (Nat.le_of_ble_eq_true rfl) rfl (lv' := [some (.ref t), some (.ref x1), some (.ref x1)]) rfl ?_
    refine gs_compact O q337 dJ9_equals_19 ?_
    refine g_if_eq_f O (by decide) dJ9_equals_22 36 (by decide) ?_
    refine g_aload_n O dJ9_equals_25 rfl ?_
    refine gx_getI (lay := 17) (j := 1) O ck17 (by decide) rfl rfl (by decide) hT q479 dJ9_equals_26 ?_
    refine g_aload_n O dJ9_equals_29 rfl ?_
    refine gs_coder O hs1 q479 dJ9_equals_30 ?_
    refine g_icmp_ne (tgt := 54) O w dJ9_equals_33 (by decide) (fun w => ?_) (fun w => ?_)
    · refine g_iconst (v := 0) O dJ9_equals_54 (by decide) ?_
      exact g_iret (f := xW0 z T L V P) (u := ()) O hQ rfl rfl w dJ9_equals_55
    · exact vjJ9m_equals_36 O hRm (V := V) (P := P) t hT x1 tx1 hs1 x1 tx1 hs1 post hQ w
  · refine g_iconst (v := 1) O dJ9_equals_5 (by decide) ?_
    exact g_iret (f := xW0 z T L V P) (u := ()) O hQ rfl rfl w dJ9_equals_6
-- X9_is
abbrev rX9_is : Room := { frames := 3, cells := 0, slots := 0, locals := 56 }
set_option maxHeartbeats 4000000 in
theorem vjX9_is_20 {X : Cx} {z : Nat} {T L : Nat → Nat} {V : w_V} {P : w_P} (O : Okc X cX9_is RX9 2 (some .boolean)) (hRm : cxR X = rX9_is) (t : Nat) (hT : T t = 8) (x1 : Nat) (tx1 : List Nat) (hs1 : isStr (cxE X) x1 tx1) (post : Int32 → Prop) (hQ : cxMQ X (va_Qi (fun x (_ : Unit) => post x) (fun u t => wdW (cxE X) (xW0 z T L V P u) t.heap) (w_A (cxE X))) 0 0) (w : jX9_is_20 (cxE X).2.2.2.2 T L V P t x1 tx1 post) : gW X 0 0 z T L V P 20 [some (.ref t), some (.ref x1)] [] := by
  unfold jX9_is_20 at w
  refine g_aload_n O dX9_is_20 rfl ?_
  obtain ⟨b4, hp5, ht6, w⟩ := w
  refine gx_getR (lay := 7) (j := 7) O ck7 (by decide) rfl rfl hp5 (by decide) hT q989 dX9_is_21 ?_
  refine g_aload_n O dX9_is_24 rfl ?_
  refine g_ri0 (gr_V (lay := 17) (nA := 1) (As := [.ref x1]) (rest := []) O hRm (kJ9m_equals _ O.2.2.2.2.2.2.2.2 _ _ _ _ _ _ b4 ht6 x1 tx1 hs1 _ w) (lw_V q1021 q1022 q1023 q117 q1024) rfl rfl (by decide +kernel) ⟨Nat.le_of_ble_eq_true rfl, Nat.le_of_ble_eq_true rfl⟩ ck17 (by decide) rfl ht6 rfl rfl rfl (Nat.le_of_ble_eq_true rfl) dX9_is_25 ⟨Nat.le_of_ble_eq_true rfl, Nat.le_of_ble_eq_true rfl⟩) (fun r7 w => ?_)
  refine g_if_eq (tgt := 35) O w dX9_is_28 (by decide) (fun w => ?_) (fun w => ?_)
  · refine g_iconst (v := 0) O dX9_is_35 (by decide) ?_
    exact g_iret (f := xW0 z T L V P) (u := ()) O hQ rfl rfl w dX9_is_36
  · refine g_iconst (v := 1) O dX9_is_31 (by decide) ?_
    refine g_goto (tgt := 36) O dX9_is_32 (by decide) ?_
    exact g_iret (f := xW0 z T L V P) (u := ()) O hQ rfl rfl w dX9_is_36
set_option maxHeartbeats 4000000 in
theorem kX9_is (l : Launch) (hfl : l.flags = flags0) (E : w_E) (z : Nat) (T L : Nat → Nat) (V : w_V) (P : w_P) (t : Nat) (hT : T t = 8) (x1 : Nat) (tx1 : List Nat) (hs1 : isStr E x1 tx1) (post : Int32 → Prop) (w : wX9_is E.2.2.2.2 T L V P t x1 tx1 post) : gMi l yX9_is (ws_ yX9_is cX9_is 2 (some .boolean)) rX9_is 0 0 E [.ref t, .ref x1] (z, T, L, V, P) (xW0 z T L V P) (fun x (_ : Unit) => post x) := by
  refine g_start (S := Unit) hfl (by decide +kernel) rfl [some (.ref t), some (.ref x1)] rfl (fun _ h => h) (Nat.le_of_ble_eq_true rfl) (fun X hl hRm hEe O hQ => ?_)
  subst hl
  subst hEe
  unfold wX9_is at w
  refine g_aload_n O dX9_is_0 rfl ?_
  obtain ⟨b1, hp2, w⟩ := w
  refine gx_getR (lay := 7) (j := 6) O ck7 (by decide) rfl rfl hp2 (by decide) hT q988 dX9_is_1 ?_
  refine gx_getst (i := 5) O rfl q954 dX9_is_4 ?_
  refine gx_acmp_eq (tgt := 20) O w dX9_is_7 (by decide) (fun w => ?_) (fun w => ?_)
  · exact vjX9_is_20 O hRm (V := V) (P := P) t hT x1 tx1 hs1 post hQ w
  · refine g_aload_n O dX9_is_10 rfl ?_
    obtain ⟨b10, hp11, w⟩ := w
    refine gx_getR (lay := 7) (j := 6) O ck7 (by decide) rfl rfl hp11 (by decide) hT q988 dX9_is_11 ?_
    refine gx_getst (i := 7) O rfl q964 dX9_is_14 ?_
    refine gx_acmp_ne (tgt := 35) O w dX9_is_17 (by decide) (fun w => ?_) (fun w => ?_)
    · refine g_iconst (v := 0) O dX9_is_35 (by decide) ?_
      exact g_iret (f := xW0 z T L V P) (u := ()) O hQ rfl rfl w dX9_is_36
    · exact vjX9_is_20 O hRm (V := V) (P := P) t hT x1 tx1 hs1 post hQ w
-- J9k_charAt
abbrev rJ9k_charAt : Room := { frames := 4, cells := 0, slots := 0, locals := 76 }
set_option maxHeartbeats 4000000 in
theorem kJ9k_charAt (l : Launch) (hfl : l.flags = flags0) (E : w_E) (z : Nat) (T L : Nat → Nat) (V : w_V) (P : w_P) (x0 : Nat) (tx0 : List Nat) (hs0 : isStr E x0 tx0) (x1 : Int32) (post : Int32 → Prop) (w : wJ9k_charAt E.2.2.2.2 T L V P x0 tx0 x1 post) : gMi l yJ9_charAt (ws_ yJ9_charAt cJ9_charAt 2 (some .char)) rJ9k_charAt 0 0 E [.ref x0, .int x1] (z, T, L, V, P) (xW0 z T L V P) (fun x (_ : Unit) => post x) := by
  refine g_start (S := Unit) hfl (by decide +kernel) rfl [some (.ref x0), some (.int x1)] rfl (fun _ h => h) (Nat.le_of_ble_eq_true rfl) (fun X hl hRm hEe O hQ => ?_)
  subst hl
  subst hEe
  unfold wJ9k_charAt at w
  refine g_aload_n O dJ9_charAt_0 rfl ?_
  refine g_ri0 (gr_Vk (nA := 0) (As := []) (rest := []) O hRm (kJ9k_isLatin1 _ O.2.2.2.2.2.2.2.2 _ _ _ _ _ _ x0 tx0 hs0 _ w) (lw_V q1152 q1153 q1154 q117 q1155) rfl rfl (by decide +kernel) ⟨Nat.le_of_ble_eq_true rfl, Nat.le_of_ble_eq_true rfl⟩ hs0.1 rfl rfl rfl (Nat.le_of_ble_eq_true rfl) dJ9_charAt_1 ⟨Nat.le_of_ble_eq_true rfl, Nat.le_of_ble_eq_true rfl⟩) (fun r1 w => ?_)
  refine g_if_eq (tgt := 16) O w dJ9_charAt_4 (by decide) (fun w => ?_) (fun w => ?_)
  · refine g_aload_n O dJ9_charAt_16 rfl ?_
    refine gs_value O hs0 q478 dJ9_charAt_17 (fun v4 hv5 => ?_)
    replace w := w v4
    refine g_iload_n O dJ9_charAt_20 rfl ?_
    exact w.elim
  · refine g_aload_n O dJ9_charAt_7 rfl ?_
    refine gs_value O hs0 q478 dJ9_charAt_8 (fun v6 hv7 => ?_)
    replace w := w v6
    refine g_iload_n O dJ9_charAt_11 rfl ?_
    refine g_ri0 (gr_S (nA := 2) (As := [.ref v6, .int x1]) (rest := []) O hRm (kJ15k_charAt _ O.2.2.2.2.2.2.2.2 _ _ _ _ _ _ v6 tx0 hv7 (x1) _ w) (lw_S q1156 q1157 q124 q1158) rfl rfl (by decide +kernel) ⟨Nat.le_of_ble_eq_true rfl, Nat.le_of_ble_eq_true rfl⟩ rfl rfl rfl (Nat.le_of_ble_eq_true rfl) dJ9_charAt_12 ⟨Nat.le_of_ble_eq_true rfl, Nat.le_of_ble_eq_true rfl⟩) (fun r8 w => ?_)
    exact g_iret (f := xW0 z T L V P) (u := ()) O hQ w.1 rfl w.2 dJ9_charAt_15
-- X9_valueOf
abbrev rX9_valueOf : Room := { frames := 3, cells := 0, slots := 0, locals := 56 }
set_option maxHeartbeats 4000000 in
theorem vjX9_valueOf_72 {X : Cx} {z : Nat} {T L : Nat → Nat} {V : w_V} {P : w_P} (O : Okc X cX9_valueOf RX9 1 (some (.object "ApartBench$Value"))) (hRm : cxR X = rX9_valueOf) (x0 : Nat) (hx0 : T x0 = 18) (post : Option Nat → Prop) (hQ : cxMQ X (va_Qq (fun x (_ : Unit) => post x) (fun u t => wdW (cxE X) (xW0 z T L V P u) t.heap) (w_A (cxE X))) 0 0) (w : jX9_valueOf_72 (cxE X).2.2.2.2 T L V P x0 post) : gW X 0 0 z T L V P 72 [some (.ref x0)] [.null] := by
  unfold jX9_valueOf_72 at w
  exact g_aret (r := none) (f := xW0 z T L V P) (u := ()) O hQ (by first | exact Or.inl ⟨_, rfl⟩ | exact Or.inr ⟨_, rfl⟩) rfl w dX9_valueOf_72
set_option maxHeartbeats 4000000 in
theorem vjX9_valueOf_72b {X : Cx} {z : Nat} {T L : Nat → Nat} {V : w_V} {P : w_P} (O : Okc X cX9_valueOf RX9 1 (some (.object "ApartBench$Value"))) (hRm : cxR X = rX9_valueOf) (x0 : Nat) (hx0 : T x0 = 18) (post : Option Nat → Prop) (hQ : cxMQ X (va_Qq (fun x (_ : Unit) => post x) (fun u t => wdW (cxE X) (xW0 z T L V P u) t.heap) (w_A (cxE X))) 0 0) (w : jX9_valueOf_72b (cxE X).2.2.2.2 T L V P x0 post) : gW X 0 0 z T L V P 72 [some (.ref x0)] [.ref ((cxE X).2.2.2.2 4)] := by
  unfold jX9_valueOf_72b at w
  exact g_aret (r := some ((cxE X).2.2.2.2 4)) (f := xW0 z T L V P) (u := ()) O hQ (by first | exact Or.inl ⟨_, rfl⟩ | exact Or.inr ⟨_, rfl⟩) rfl w dX9_valueOf_72
set_option maxHeartbeats 4000000 in
theorem kX9_valueOf (l : Launch) (hfl : l.flags = flags0) (E : w_E) (z : Nat) (T L : Nat → Nat) (V : w_V) (P : w_P) (x0 : Nat) (hx0 : T x0 = 18) (post : Option Nat → Prop) (w : wX9_valueOf E.2.2.2.2 T L V P x0 post) : gMr l yX9_valueOf (ws_ yX9_valueOf cX9_valueOf 1 (some (.object "ApartBench$Value"))) rX9_valueOf 0 0 E [.ref x0] (z, T, L, V, P) (xW0 z T L V P) (fun x (_ : Unit) => post x) := by
  refine g_start (S := Unit) hfl (by decide +kernel) rfl [some (.ref x0)] rfl (fun _ h => h) (Nat.le_of_ble_eq_true rfl) (fun X hl hRm hEe O hQ => ?_)
  subst hl
  subst hEe
  unfold wX9_valueOf at w
  refine g_aload_n O dX9_valueOf_0 rfl ?_
  refine gx_ldcw (i := 25) (tx := [112, 114, 111, 111, 102]) O rfl rfl dX9_valueOf_1 (fun s1 hs2 hz => ?_)
  replace w := w s1 hz
  refine g_ri0 (gr_V (lay := 17) (nA := 1) (As := [.ref s1]) (rest := []) O hRm (kJ9m_equals _ O.2.2.2.2.2.2.2.2 _ _ _ _ _ _ x0 hx0 s1 [112, 114, 111, 111, 102] hs2 _ w) (lw_V q1021 q1022 q1023 q117 q1024) rfl rfl (by decide +kernel) ⟨Nat.le_of_ble_eq_true rfl, Nat.le_of_ble_eq_true rfl⟩ ck17 (by decide) rfl hx0 rfl rfl rfl (Nat.le_of_ble_eq_true rfl) dX9_valueOf_4 ⟨Nat.le_of_ble_eq_true rfl, Nat.le_of_ble_eq_true rfl⟩) (fun r3 w => ?_)
  refine g_if_eq (tgt := 14) O w dX9_valueOf_7 (by decide) (fun w => ?_) (fun w => ?_)
  · refine g_aload_n O dX9_valueOf_14 rfl ?_
    refine gx_ldcw (i := 26) (tx := [104, 97, 114, 115, 104]) O rfl rfl dX9_valueOf_15 (fun s6 hs7 hz => ?_)
    replace w := w s6 hz
    refine g_ri0 (gr_V (lay := 17) (nA := 1) (As := [.ref s6]) (rest := []) O hRm (kJ9m_equals _ O.2.2.2.2.2.2.2.2 _ _ _ _ _ _ x0 hx0 s6 [104, 97, 114, 115, 104] hs7 _ w) (lw_V q1021 q1022 q1023 q117 q1024) rfl rfl (by decide +kernel) ⟨Nat.le_of_ble_eq_true rfl, Nat.le_of_ble_eq_true rfl⟩ ck17 (by decide) rfl hx0 rfl rfl rfl (Nat.le_of_ble_eq_true rfl) dX9_valueOf_18 ⟨Nat.le_of_ble_eq_true rfl, Nat.le_of_ble_eq_true rfl⟩) (fun r8 w => ?_)
    refine g_if_eq (tgt := 28) O w dX9_valueOf_21 (by decide) (fun w => ?_) (fun w => ?_)
    · refine g_aload_n O dX9_valueOf_28 rfl ?_
      refine gx_ldcw (i := 27) (tx := [100, 97, 121]) O rfl rfl dX9_valueOf_29 (fun s11 hs12 hz => ?_)
      replace w := w s11 hz
      refine g_ri0 (gr_V (lay := 17) (nA := 1) (As := [.ref s11]) (rest := []) O hRm (kJ9m_equals _ O.2.2.2.2.2.2.2.2 _ _ _ _ _ _ x0 hx0 s11 [100, 97, 121] hs12 _ w) (lw_V q1021 q1022 q1023 q117 q1024) rfl rfl (by decide +kernel) ⟨Nat.le_of_ble_eq_true rfl, Nat.le_of_ble_eq_true rfl⟩ ck17 (by decide) rfl hx0 rfl rfl rfl (Nat.le_of_ble_eq_true rfl) dX9_valueOf_32 ⟨Nat.le_of_ble_eq_true rfl, Nat.le_of_ble_eq_true rfl⟩) (fun r13 w => ?_)
      refine g_if_eq (tgt := 42) O w dX9_valueOf_35 (by decide) (fun w => ?_) (fun w => ?_)
      · refine g_aload_n O dX9_valueOf_42 rfl ?_
        refine gx_ldc (i := 17) (tx := [116, 111, 119, 110]) O rfl rfl dX9_valueOf_43 (fun s16 hs17 hz => ?_)
        replace w := w s16 hz
        refine g_ri0 (gr_V (lay := 17) (nA := 1) (As := [.ref s16]) (rest := []) O hRm (kJ9m_equals _ O.2.2.2.2.2.2.2.2 _ _ _ _ _ _ x0 hx0 s16 [116, 111, 119, 110] hs17 _ w) (lw_V q1021 q1022 q1023 q117 q1024) rfl rfl (by decide +kernel) ⟨Nat.le_of_ble_eq_true rfl, Nat.le_of_ble_eq_true rfl⟩ ck17 (by decide) rfl hx0 rfl rfl rfl (Nat.le_of_ble_eq_true rfl) dX9_valueOf_45 ⟨Nat.le_of_ble_eq_true rfl, Nat.le_of_ble_eq_true rfl⟩) (fun r18 w => ?_)
        refine g_if_eq (tgt := 55) O w dX9_valueOf_48 (by decide) (fun w => ?_) (fun w => ?_)
        · refine g_aload_n O dX9_valueOf_55 rfl ?_
          refine gx_ldcw (i := 28) (tx := [115, 97, 105, 100]) O rfl rfl dX9_valueOf_56 (fun s21 hs22 hz => ?_)
          replace w := w s21 hz
          refine g_ri0 (gr_V (lay := 17) (nA := 1) (As := [.ref s21]) (rest := []) O hRm (kJ9m_equals _ O.2.2.2.2.2.2.2.2 _ _ _ _ _ _ x0 hx0 s21 [115, 97, 105, 100] hs22 _ w) (lw_V q1021 q1022 q1023 q117 q1024) rfl rfl (by decide +kernel) ⟨Nat.le_of_ble_eq_true rfl, Nat.le_of_ble_eq_true rfl⟩ ck17 (by decide) rfl hx0 rfl rfl rfl (Nat.le_of_ble_eq_true rfl) dX9_valueOf_59 ⟨Nat.le_of_ble_eq_true rfl, Nat.le_of_ble_eq_true rfl⟩) (fun r23 w => ?_)
          refine g_if_eq (tgt := 71) O w dX9_valueOf_62 (by decide) (fun w => ?_) (fun w => ?_)
          · refine g_null O dX9_valueOf_71 ?_
            exact vjX9_valueOf_72 O hRm (V := V) (P := P) x0 hx0 post hQ w
          · refine gx_getst (i := 4) O rfl q1134 dX9_valueOf_65 ?_
            refine g_goto (tgt := 72) O dX9_valueOf_68 (by decide) ?_
            exact vjX9_valueOf_72b O hRm (V := V) (P := P) x0 hx0 post hQ w
        · refine gx_getst (i := 3) O rfl q1131 dX9_valueOf_51 ?_
          exact g_aret (r := some ((cxE X).2.2.2.2 3)) (f := xW0 z T L V P) (u := ()) O hQ (by first | exact Or.inl ⟨_, rfl⟩ | exact Or.inr ⟨_, rfl⟩) rfl w dX9_valueOf_54
      · refine gx_getst (i := 2) O rfl q1129 dX9_valueOf_38 ?_
        exact g_aret (r := some ((cxE X).2.2.2.2 2)) (f := xW0 z T L V P) (u := ()) O hQ (by first | exact Or.inl ⟨_, rfl⟩ | exact Or.inr ⟨_, rfl⟩) rfl w dX9_valueOf_41
    · refine gx_getst (i := 1) O rfl q1126 dX9_valueOf_24 ?_
      exact g_aret (r := some ((cxE X).2.2.2.2 1)) (f := xW0 z T L V P) (u := ()) O hQ (by first | exact Or.inl ⟨_, rfl⟩ | exact Or.inr ⟨_, rfl⟩) rfl w dX9_valueOf_27
  · refine gx_getst (i := 0) O rfl q1123 dX9_valueOf_10 ?_
    exact g_aret (r := some ((cxE X).2.2.2.2 0)) (f := xW0 z T L V P) (u := ()) O hQ (by first | exact Or.inl ⟨_, rfl⟩ | exact Or.inr ⟨_, rfl⟩) rfl w dX9_valueOf_13
-- X1_cases
abbrev rX1_cases : Room := { frames := 2, cells := 0, slots := 0, locals := 32 }
set_option maxHeartbeats 4000000 in
theorem kX1_cases (l : Launch) (hfl : l.flags = flags0) (E : w_E) (z : Nat) (T L : Nat → Nat) (V : w_V) (P : w_P) (t : Nat) (hT : T t = 2) (post : Int32 → Prop) (w : wX1_cases E.2.2.2.2 T L V P t post) : gMi l yX1_cases (ws_ yX1_cases cX1_cases 1 (some .int)) rX1_cases 0 0 E [.ref t] (z, T, L, V, P) (xW0 z T L V P) (fun x (_ : Unit) => post x) := by
  refine g_start (S := Unit) hfl (by decide +kernel) rfl [some (.ref t)] rfl (fun _ h => h) (Nat.le_of_ble_eq_true rfl) (fun X hl hRm hEe O hQ => ?_)
  subst hl
  subst hEe
  unfold wX1_cases at w
  refine g_aload_n O dX1_cases_0 rfl ?_
  obtain ⟨b1, hp2, ht3, w⟩ := w
  refine gx_getR (lay := 1) (j := 0) O ck1 (by decide) rfl rfl hp2 (by decide) hT q810 dX1_cases_1 ?_
  obtain ⟨b4, hp5, ht6, w⟩ := w
  refine gx_getRN (lay := 2) (j := 7) O ck2 (by decide) rfl rfl hp5 (by decide) ht3 q545 dX1_cases_4 ?_
  refine g_ri0 (gr_V (lay := 15) (nA := 0) (As := []) (rest := []) O hRm (kJ2_size _ O.2.2.2.2.2.2.2.2 _ _ _ _ _ _ b4 ht6 _ w) (lw_V q1280 q792 q793 q110 q794) rfl rfl (by decide +kernel) ⟨Nat.le_of_ble_eq_true rfl, Nat.le_of_ble_eq_true rfl⟩ ck15 (by decide) rfl ht6 rfl rfl rfl (Nat.le_of_ble_eq_true rfl) dX1_cases_7 ⟨Nat.le_of_ble_eq_true rfl, Nat.le_of_ble_eq_true rfl⟩) (fun r7 w => ?_)
  exact g_iret (f := xW0 z T L V P) (u := ()) O hQ rfl rfl w dX1_cases_10
-- X7_cases
abbrev rX7_cases : Room := { frames := 2, cells := 0, slots := 0, locals := 32 }
set_option maxHeartbeats 4000000 in
theorem kX7_cases (l : Launch) (hfl : l.flags = flags0) (E : w_E) (z : Nat) (T L : Nat → Nat) (V : w_V) (P : w_P) (t : Nat) (hT : T t = 7) (post : Int32 → Prop) (w : wX7_cases E.2.2.2.2 T L V P t post) : gMi l yX7_cases (ws_ yX7_cases cX7_cases 1 (some .int)) rX7_cases 0 0 E [.ref t] (z, T, L, V, P) (xW0 z T L V P) (fun x (_ : Unit) => post x) := by
  refine g_start (S := Unit) hfl (by decide +kernel) rfl [some (.ref t)] rfl (fun _ h => h) (Nat.le_of_ble_eq_true rfl) (fun X hl hRm hEe O hQ => ?_)
  subst hl
  subst hEe
  unfold wX7_cases at w
  refine g_aload_n O dX7_cases_0 rfl ?_
  obtain ⟨b1, hp2, ht3, w⟩ := w
  refine gx_getR (lay := 6) (j := 0) O ck6 (by decide) rfl rfl hp2 (by decide) hT q739 dX7_cases_1 ?_
  obtain ⟨b4, hp5, ht6, w⟩ := w
  refine gx_getRN (lay := 2) (j := 7) O ck2 (by decide) rfl rfl hp5 (by decide) ht3 q544 dX7_cases_4 ?_
  refine g_ri0 (gr_V (lay := 15) (nA := 0) (As := []) (rest := []) O hRm (kJ2_size _ O.2.2.2.2.2.2.2.2 _ _ _ _ _ _ b4 ht6 _ w) (lw_V q1301 q792 q793 q110 q794) rfl rfl (by decide +kernel) ⟨Nat.le_of_ble_eq_true rfl, Nat.le_of_ble_eq_true rfl⟩ ck15 (by decide) rfl ht6 rfl rfl rfl (Nat.le_of_ble_eq_true rfl) dX7_cases_7 ⟨Nat.le_of_ble_eq_true rfl, Nat.le_of_ble_eq_true rfl⟩) (fun r7 w => ?_)
  exact g_iret (f := xW0 z T L V P) (u := ()) O hQ rfl rfl w dX7_cases_10
-- X16_town
abbrev rX16_town : Room := { frames := 1, cells := 0, slots := 0, locals := 12 }
set_option maxHeartbeats 4000000 in
theorem vjX16_town_21 {X : Cx} {z : Nat} {T L : Nat → Nat} {V : w_V} {P : w_P} (O : Okc X cX16_town RX16 3 (some .int)) (hRm : cxR X = rX16_town) (t : Nat) (hT : jT T t) (t0 : Int32) (dt1 at1 kt1 nt1 : Nat) (ht1 : hArr T L dt1 at1 kt1 nt1 0) (gt1 : nt1 < 2147483648) (post : Int32 → Prop) (hQ : cxMQ X (va_Qi (fun x (_ : Unit) => post x) (fun u t => wdW (cxE X) (xW0 z T L V P u) t.heap) (w_A (cxE X))) 0 0) (w : jX16_town_21 (cxE X).2.2.2.2 T L V P t t0 at1 kt1 nt1 post) : gW X 0 0 z T L V P 21 [some (.ref t), none, none] [.int t0, .ref dt1] := by
  unfold jX16_town_21 at w
  obtain ⟨i8, hi9, e10, w⟩ := w
  refine gx_iald (a := at1) (kk0 := kt1) (len := nt1) (nn := i8) O ht1 hi9 gt1 e10 dX16_town_21 ?_
  exact g_iret (f := xW0 z T L V P) (u := ()) O hQ rfl rfl w dX16_town_22
set_option maxHeartbeats 4000000 in
theorem kX16_town (l : Launch) (hfl : l.flags = flags0) (E : w_E) (z : Nat) (T L : Nat → Nat) (V : w_V) (P : w_P) (t : Nat) (hT : jT T t) (x1 : Int32) (x2 : Int32) (post : Int32 → Prop) (w : wX16_town E.2.2.2.2 T L V P t x1 x2 post) : gMi l yX16_town (ws_ yX16_town cX16_town 3 (some .int)) rX16_town 0 0 E [.ref t, .int x1, .int x2] (z, T, L, V, P) (xW0 z T L V P) (fun x (_ : Unit) => post x) := by
  refine g_start (S := Unit) hfl (by decide +kernel) rfl [some (.ref t), some (.int x1), some (.int x2)] rfl (fun _ h => h) (Nat.le_of_ble_eq_true rfl) (fun X hl hRm hEe O hQ => ?_)
  subst hl
  subst hEe
  unfold wX16_town at w
  refine g_aload_n O dX16_town_0 rfl ?_
  obtain ⟨b1, a3, k4, n5, hp2, h6, g7, w⟩ := w
  refine gj_getR O hp2 hT q1224 dX16_town_1 ?_
  refine g_iload_n O dX16_town_4 rfl ?_
  refine g_if_eq (tgt := 20) O w dX16_town_5 (by decide) (fun w => ?_) (fun w => ?_)
  · refine g_iload_n O dX16_town_20 rfl ?_
    refine g_drop [1, 2] (lv' := [some (.ref t), none, none]) rfl ?_
    exact vjX16_town_21 O hRm (V := V) (P := P) t hT (x1) b1 a3 k4 n5 h6 g7 post hQ w
  · refine g_aload_n O dX16_town_8 rfl ?_
    obtain ⟨b11, a13, k14, n15, hp12, h16, g17, w⟩ := w
    refine gj_getR O hp12 hT q1224 dX16_town_9 ?_
    refine gx_alen (a := a13) (kk0 := k14) (len := n15) (ty := 0) (fty := .int) O h16 rfl dX16_town_12 ?_
    refine g_iconst (v := 1) O dX16_town_13 (by decide) ?_
    refine g_isub O dX16_town_14 ?_
    refine g_iload_n O dX16_town_15 rfl ?_
    refine g_isub O dX16_town_16 ?_
    refine g_goto (tgt := 21) O dX16_town_17 (by decide) ?_
    refine g_drop [1, 2] (lv' := [some (.ref t), none, none]) rfl ?_
    exact vjX16_town_21 O hRm (V := V) (P := P) t hT ((((nI n15) - 1) - x1)) b1 a3 k4 n5 h6 g7 post hQ w
-- X7_judges
abbrev rX7_judges : Room := { frames := 2, cells := 0, slots := 0, locals := 32 }
set_option maxHeartbeats 4000000 in
theorem kX7_judges (l : Launch) (hfl : l.flags = flags0) (E : w_E) (z : Nat) (T L : Nat → Nat) (V : w_V) (P : w_P) (t : Nat) (hT : T t = 7) (post : Int32 → Prop) (w : wX7_judges E.2.2.2.2 T L V P t post) : gMi l yX7_judges (ws_ yX7_judges cX7_judges 1 (some .int)) rX7_judges 0 0 E [.ref t] (z, T, L, V, P) (xW0 z T L V P) (fun x (_ : Unit) => post x) := by
  refine g_start (S := Unit) hfl (by decide +kernel) rfl [some (.ref t)] rfl (fun _ h => h) (Nat.le_of_ble_eq_true rfl) (fun X hl hRm hEe O hQ => ?_)
  subst hl
  subst hEe
  unfold wX7_judges at w
  refine g_aload_n O dX7_judges_0 rfl ?_
  obtain ⟨b1, hp2, ht3, w⟩ := w
  refine gx_getR (lay := 6) (j := 0) O ck6 (by decide) rfl rfl hp2 (by decide) hT q739 dX7_judges_1 ?_
  obtain ⟨b4, hp5, ht6, w⟩ := w
  refine gx_getRN (lay := 2) (j := 6) O ck2 (by decide) rfl rfl hp5 (by decide) ht3 q540 dX7_judges_4 ?_
  refine g_ri0 (gr_V (lay := 15) (nA := 0) (As := []) (rest := []) O hRm (kJ2_size _ O.2.2.2.2.2.2.2.2 _ _ _ _ _ _ b4 ht6 _ w) (lw_V q1301 q792 q793 q110 q794) rfl rfl (by decide +kernel) ⟨Nat.le_of_ble_eq_true rfl, Nat.le_of_ble_eq_true rfl⟩ ck15 (by decide) rfl ht6 rfl rfl rfl (Nat.le_of_ble_eq_true rfl) dX7_judges_7 ⟨Nat.le_of_ble_eq_true rfl, Nat.le_of_ble_eq_true rfl⟩) (fun r7 w => ?_)
  exact g_iret (f := xW0 z T L V P) (u := ()) O hQ rfl rfl w dX7_judges_10
-- X16_towns
abbrev rX16_towns : Room := { frames := 1, cells := 0, slots := 0, locals := 12 }
set_option maxHeartbeats 4000000 in
theorem kX16_towns (l : Launch) (hfl : l.flags = flags0) (E : w_E) (z : Nat) (T L : Nat → Nat) (V : w_V) (P : w_P) (t : Nat) (hT : jT T t) (post : Int32 → Prop) (w : wX16_towns E.2.2.2.2 T L V P t post) : gMi l yX16_towns (ws_ yX16_towns cX16_towns 1 (some .int)) rX16_towns 0 0 E [.ref t] (z, T, L, V, P) (xW0 z T L V P) (fun x (_ : Unit) => post x) := by
  refine g_start (S := Unit) hfl (by decide +kernel) rfl [some (.ref t)] rfl (fun _ h => h) (Nat.le_of_ble_eq_true rfl) (fun X hl hRm hEe O hQ => ?_)
  subst hl
  subst hEe
  unfold wX16_towns at w
  refine g_aload_n O dX16_towns_0 rfl ?_
  obtain ⟨b1, a3, k4, n5, hp2, h6, g7, w⟩ := w
  refine gj_getR O hp2 hT q1224 dX16_towns_1 ?_
  refine gx_alen (a := a3) (kk0 := k4) (len := n5) (ty := 0) (fty := .int) O h6 rfl dX16_towns_4 ?_
  exact g_iret (f := xW0 z T L V P) (u := ()) O hQ rfl rfl w dX16_towns_5
-- X7_towns
abbrev rX7_towns : Room := { frames := 4, cells := 0, slots := 0, locals := 76 }
set_option maxHeartbeats 4000000 in
theorem kX7_towns (l : Launch) (hfl : l.flags = flags0) (E : w_E) (z : Nat) (T L : Nat → Nat) (V : w_V) (P : w_P) (t : Nat) (hT : T t = 7) (x1 : Int32) (post : Int32 → Prop) (w : wX7_towns E.2.2.2.2 T L V P t x1 post) : gMi l yX7_towns (ws_ yX7_towns cX7_towns 2 (some .int)) rX7_towns 0 0 E [.ref t, .int x1] (z, T, L, V, P) (xW0 z T L V P) (fun x (_ : Unit) => post x) := by
  refine g_start (S := Unit) hfl (by decide +kernel) rfl [some (.ref t), some (.int x1)] rfl (fun _ h => h) (Nat.le_of_ble_eq_true rfl) (fun X hl hRm hEe O hQ => ?_)
  subst hl
  subst hEe
  unfold wX7_towns at w
  refine g_aload_n O dX7_towns_0 rfl ?_
  obtain ⟨b1, hp2, ht3, w⟩ := w
  refine gx_getR (lay := 6) (j := 0) O ck6 (by decide) rfl rfl hp2 (by decide) hT q739 dX7_towns_1 ?_
  obtain ⟨b4, hp5, ht6, w⟩ := w
  refine gx_getRN (lay := 2) (j := 6) O ck2 (by decide) rfl rfl hp5 (by decide) ht3 q540 dX7_towns_4 ?_
  refine g_iload_n O dX7_towns_7 rfl ?_
  refine g_rq0 (gr_V (lay := 15) (nA := 1) (As := [.int x1]) (rest := []) O hRm (kJ2_get _ O.2.2.2.2.2.2.2.2 _ _ _ _ _ _ b4 ht6 (x1) _ w) (lw_V q1306 q796 q797 q110 q798) rfl rfl (by decide +kernel) ⟨Nat.le_of_ble_eq_true rfl, Nat.le_of_ble_eq_true rfl⟩ ck15 (by decide) rfl ht6 rfl rfl rfl (Nat.le_of_ble_eq_true rfl) dX7_towns_8 ⟨Nat.le_of_ble_eq_true rfl, Nat.le_of_ble_eq_true rfl⟩) (fun r7 w => ?_)
  obtain ⟨ht10, w⟩ := w
  refine gj_cast O ht10 q1307 dX7_towns_11 ?_
  refine g_ri0 (g_disp3 ht10 (fun h => (gr_V (lay := 12) (nA := 0) (As := []) (rest := []) O hRm (kX16_towns _ O.2.2.2.2.2.2.2.2 _ _ _ _ _ _ r7 (Or.inl h) _ w) (lw_V q1308 q1309 q1310 q143 q1314) rfl rfl (by decide +kernel) ⟨Nat.le_of_ble_eq_true rfl, Nat.le_of_ble_eq_true rfl⟩ ck12 (by decide) rfl h rfl rfl rfl (Nat.le_of_ble_eq_true rfl) dX7_towns_14 ⟨Nat.le_of_ble_eq_true rfl, Nat.le_of_ble_eq_true rfl⟩)) (fun h => (gr_U (owner := "ApartBench$Judge") (lay := 13) (nA := 0) (As := []) (rest := []) O hRm (kX16_towns _ O.2.2.2.2.2.2.2.2 _ _ _ _ _ _ r7 (Or.inr (Or.inl h)) _ w) (lw_U q1308 q1311 q1312 q1309 q143 q1314) rfl rfl rfl (by decide +kernel) ⟨Nat.le_of_ble_eq_true rfl, Nat.le_of_ble_eq_true rfl⟩ ck13 (by decide) rfl h rfl rfl rfl (Nat.le_of_ble_eq_true rfl) dX7_towns_14 ⟨Nat.le_of_ble_eq_true rfl, Nat.le_of_ble_eq_true rfl⟩)) (fun h => (gr_U (owner := "ApartBench$Judge") (lay := 14) (nA := 0) (As := []) (rest := []) O hRm (kX16_towns _ O.2.2.2.2.2.2.2.2 _ _ _ _ _ _ r7 (Or.inr (Or.inr h)) _ w) (lw_U q1308 q1311 q1313 q1309 q143 q1314) rfl rfl rfl (by decide +kernel) ⟨Nat.le_of_ble_eq_true rfl, Nat.le_of_ble_eq_true rfl⟩ ck14 (by decide) rfl h rfl rfl rfl (Nat.le_of_ble_eq_true rfl) dX7_towns_14 ⟨Nat.le_of_ble_eq_true rfl, Nat.le_of_ble_eq_true rfl⟩))) (fun r11 w => ?_)
  exact g_iret (f := xW0 z T L V P) (u := ()) O hQ rfl rfl w dX7_towns_17
-- X7_goes
abbrev rX7_goes : Room := { frames := 5, cells := 0, slots := 0, locals := 97 }
set_option maxHeartbeats 4000000 in
theorem vjX7_goes_112 {X : Cx} {z : Nat} {T L : Nat → Nat} {V : w_V} {P : w_P} (O : Okc X cX7_goes RX7 6 none) (hRm : cxR X = rX7_goes) (t : Nat) (hT : T t = 7) (x1 : Int32) (x2 : Int32) (x3 : Int32) (x4 : Int32) (x5 : Int32) (post : w_V → Prop) (hQ : cxMQ X (va_Qv post (fun u t => wdW (cxE X) (xW1 z T L P u) t.heap) (w_A (cxE X))) 0 0) (kb : Int32 → Int32 → w_V → Prop) (hkb : ∀ (y3 : Int32) (y4 : Int32) (V2 : w_V), kb y3 y4 V2 → gW X 0 0 z T L V2 P 44 [some (.ref t), some (.int x1), some (.int x2), some (.int y3), some (.int y4), none] []) (w : jX7_goes_112 (cxE X).2.2.2.2 T L V P t x1 x2 x3 x4 x5 post kb) : gW X 0 0 z T L V P 112 [some (.ref t), some (.int x1), some (.int x2), some (.int x3), some (.int x4), some (.int x5)] [] := by
  unfold jX7_goes_112 at w
  refine g_aload_n O dX7_goes_112 rfl ?_
  refine gx_getA (lay := 6) (j := 2) O ck6 (by decide) rfl rfl (by decide) hT q741 dX7_goes_113 ?_
  refine g_bipush (v := 7) O dX7_goes_116 (by decide) ?_
  refine g_iload_n O dX7_goes_118 rfl ?_
  refine g_imul O dX7_goes_119 ?_
  refine g_iload O dX7_goes_120 rfl ?_
  refine g_iadd O dX7_goes_122 ?_
  refine g_iload O dX7_goes_123 rfl ?_
  obtain ⟨i29, hi30, e31, w⟩ := w
  refine gx_iast (a := t) (kk0 := 3) (len := 35) (nn := i29) O (ha_own (lay := 6) (j := 2) (off := 1) (ty := 0) (len := 35) (by decide) hT rfl (by decide)) hi30 (by decide) e31 dX7_goes_125 ?_
  refine g_nV w (fun V32 w _ => ?_)
  refine g_aload_n O dX7_goes_126 rfl ?_
  refine gx_getA (lay := 6) (j := 3) O ck6 (by decide) rfl rfl (by decide) hT q743 dX7_goes_127 ?_
  refine g_bipush (v := 7) O dX7_goes_130 (by decide) ?_
  refine g_iload_n O dX7_goes_132 rfl ?_
  refine g_imul O dX7_goes_133 ?_
  refine g_iload O dX7_goes_134 rfl ?_
  refine g_iadd O dX7_goes_136 ?_
  refine g_iload_n O dX7_goes_137 rfl ?_
  obtain ⟨i33, hi34, e35, w⟩ := w
  refine gx_iast (a := t) (kk0 := 4) (len := 35) (nn := i33) O (ha_own (lay := 6) (j := 3) (off := 2) (ty := 0) (len := 35) (by decide) hT rfl (by decide)) hi34 (by decide) e35 dX7_goes_138 ?_
  refine g_nV w (fun V36 w _ => ?_)
  refine g_iinc (v := (x4 + 1)) O dX7_goes_139 rfl rfl rfl (lv' := [some (.ref t), some (.int x1), some (.int x2), some (.int x3), some (.int (x4 + 1)), some (.int x5)]) rfl ?_
  refine g_goto (tgt := 44) O dX7_goes_142 (by decide) ?_
  refine g_drop [5] (lv' := [some (.ref t), some (.int x1), some (.int x2), some (.int x3), some (.int (x4 + 1)), none]) rfl ?_
  exact hkb (x3) ((x4 + 1)) (V36) w
set_option maxHeartbeats 4000000 in
theorem vlX7_goes_44 {X : Cx} {z : Nat} {T L : Nat → Nat} {P : w_P} (O : Okc X cX7_goes RX7 6 none) (hRm : cxR X = rX7_goes) (t : Nat) (hT : T t = 7) (x1 : Int32) (x2 : Int32) (post : w_V → Prop) (hQ : cxMQ X (va_Qv post (fun u t => wdW (cxE X) (xW1 z T L P u) t.heap) (w_A (cxE X))) 0 0) (ke_145 : w_V → Prop) (hke_145 : ∀ (V2 : w_V), ke_145 V2 → gW X 0 0 z T L V2 P 145 [some (.ref t), some (.int x1), none, none, none, none] [])  : ∀ (n : Nat) (x3 : Int32) (x4 : Int32) (V : w_V), lX7_goes_44 (cxE X).2.2.2.2 T L P t x1 x2 post ke_145 n x3 x4 V → gW X 0 0 z T L V P 44 [some (.ref t), some (.int x1), some (.int x2), some (.int x3), some (.int x4), none] [] := by
  intro n
  induction n with
  | zero =>
    intro x3 x4 V w
    exact w.elim
  | succ n ih =>
    intro x3 x4 V w
    unfold lX7_goes_44 at w
    refine g_iload O dX7_goes_44 rfl ?_
    refine g_aload_n O dX7_goes_46 rfl ?_
    refine g_iload_n O dX7_goes_47 rfl ?_
    refine g_ri0 (gr_V (lay := 6) (nA := 1) (As := [.int x1]) (rest := [.int x4]) O hRm (kX7_towns _ O.2.2.2.2.2.2.2.2 _ _ _ _ _ _ t hT (x1) _ w) (lw_V q1302 q1304 qs26 q132 q1305) rfl rfl (by decide +kernel) ⟨Nat.le_of_ble_eq_true rfl, Nat.le_of_ble_eq_true rfl⟩ ck6 (by decide) rfl hT rfl rfl rfl (Nat.le_of_ble_eq_true rfl) dX7_goes_48 ⟨Nat.le_of_ble_eq_true rfl, Nat.le_of_ble_eq_true rfl⟩) (fun r13 w => ?_)
    refine g_icmp_ge (tgt := 145) O w dX7_goes_51 (by decide) (fun w => ?_) (fun w => ?_)
    · refine g_drop [2, 3, 4] (lv' := [some (.ref t), some (.int x1), none, none, none, none]) rfl ?_
      exact hke_145 (V) w
    · refine g_aload_n O dX7_goes_54 rfl ?_
      obtain ⟨b16, hp17, ht18, w⟩ := w
      refine gx_getR (lay := 6) (j := 0) O ck6 (by decide) rfl rfl hp17 (by decide) hT q739 dX7_goes_55 ?_
      obtain ⟨b19, hp20, ht21, w⟩ := w
      refine gx_getRN (lay := 2) (j := 6) O ck2 (by decide) rfl rfl hp20 (by decide) ht18 q540 dX7_goes_58 ?_
      refine g_iload_n O dX7_goes_61 rfl ?_
      refine g_rq0 (gr_V (lay := 15) (nA := 1) (As := [.int x1]) (rest := []) O hRm (kJ2_get _ O.2.2.2.2.2.2.2.2 _ _ _ _ _ _ b19 ht21 (x1) _ w) (lw_V q1306 q796 q797 q110 q798) rfl rfl (by decide +kernel) ⟨Nat.le_of_ble_eq_true rfl, Nat.le_of_ble_eq_true rfl⟩ ck15 (by decide) rfl ht21 rfl rfl rfl (Nat.le_of_ble_eq_true rfl) dX7_goes_62 ⟨Nat.le_of_ble_eq_true rfl, Nat.le_of_ble_eq_true rfl⟩) (fun r22 w => ?_)
      obtain ⟨ht25, w⟩ := w
      refine gj_cast O ht25 q1307 dX7_goes_65 ?_
      refine g_iload O dX7_goes_68 rfl ?_
      refine g_iload_n O dX7_goes_70 rfl ?_
      refine g_ri0 (g_disp3 ht25 (fun h => (gr_V (lay := 12) (nA := 2) (As := [.int x4, .int x2]) (rest := []) O hRm (kX16_town _ O.2.2.2.2.2.2.2.2 _ _ _ _ _ _ r22 (Or.inl h) (x4) (x2) _ w) (lw_V q1315 q1316 q1317 q143 q1321) rfl rfl (by decide +kernel) ⟨Nat.le_of_ble_eq_true rfl, Nat.le_of_ble_eq_true rfl⟩ ck12 (by decide) rfl h rfl rfl rfl (Nat.le_of_ble_eq_true rfl) dX7_goes_71 ⟨Nat.le_of_ble_eq_true rfl, Nat.le_of_ble_eq_true rfl⟩)) (fun h => (gr_U (owner := "ApartBench$Judge") (lay := 13) (nA := 2) (As := [.int x4, .int x2]) (rest := []) O hRm (kX16_town _ O.2.2.2.2.2.2.2.2 _ _ _ _ _ _ r22 (Or.inr (Or.inl h)) (x4) (x2) _ w) (lw_U q1315 q1318 q1319 q1316 q143 q1321) rfl rfl rfl (by decide +kernel) ⟨Nat.le_of_ble_eq_true rfl, Nat.le_of_ble_eq_true rfl⟩ ck13 (by decide) rfl h rfl rfl rfl (Nat.le_of_ble_eq_true rfl) dX7_goes_71 ⟨Nat.le_of_ble_eq_true rfl, Nat.le_of_ble_eq_true rfl⟩)) (fun h => (gr_U (owner := "ApartBench$Judge") (lay := 14) (nA := 2) (As := [.int x4, .int x2]) (rest := []) O hRm (kX16_town _ O.2.2.2.2.2.2.2.2 _ _ _ _ _ _ r22 (Or.inr (Or.inr h)) (x4) (x2) _ w) (lw_U q1315 q1318 q1320 q1316 q143 q1321) rfl rfl rfl (by decide +kernel) ⟨Nat.le_of_ble_eq_true rfl, Nat.le_of_ble_eq_true rfl⟩ ck14 (by decide) rfl h rfl rfl rfl (Nat.le_of_ble_eq_true rfl) dX7_goes_71 ⟨Nat.le_of_ble_eq_true rfl, Nat.le_of_ble_eq_true rfl⟩))) (fun r26 w => ?_)
      refine g_istore O dX7_goes_74 (Nat.le_of_ble_eq_true rfl) rfl (lv' := [some (.ref t), some (.int x1), some (.int x2), some (.int x3), some (.int x4), some (.int r26)]) rfl ?_
      refine g_iload O dX7_goes_76 rfl ?_
      refine g_if_le (tgt := 112) O w dX7_goes_78 (by decide) (fun w => ?_) (fun w => ?_)
      · exact vjX7_goes_112 O hRm (V := V) (P := P) t hT (x1) (x2) (x3) (x4) (r26) post hQ (lX7_goes_44 (cxE X).2.2.2.2 T L P t x1 x2 post ke_145 n) ih w
      · refine g_iload_n O dX7_goes_81 rfl ?_
        refine g_aload_n O dX7_goes_82 rfl ?_
        obtain ⟨b37, hp38, ht39, w⟩ := w
        refine gx_getR (lay := 6) (j := 0) O ck6 (by decide) rfl rfl hp38 (by decide) hT q739 dX7_goes_83 ?_
        refine gx_getAN (lay := 2) (j := 4) O ck2 (by decide) rfl rfl (by decide) ht39 q535 dX7_goes_86 ?_
        refine g_bipush (v := 9) O dX7_goes_89 (by decide) ?_
        refine g_aload_n O dX7_goes_91 rfl ?_
        refine gx_getA (lay := 6) (j := 2) O ck6 (by decide) rfl rfl (by decide) hT q741 dX7_goes_92 ?_
        refine g_bipush (v := 7) O dX7_goes_95 (by decide) ?_
        refine g_iload_n O dX7_goes_97 rfl ?_
        refine g_imul O dX7_goes_98 ?_
        refine g_iload O dX7_goes_99 rfl ?_
        refine g_iadd O dX7_goes_101 ?_
        refine g_iconst (v := 1) O dX7_goes_102 (by decide) ?_
        refine g_isub O dX7_goes_103 ?_
        obtain ⟨i40, hi41, e42, w⟩ := w
        refine gx_iald (a := t) (kk0 := 3) (len := 35) (nn := i40) O (ha_own (lay := 6) (j := 2) (off := 1) (ty := 0) (len := 35) (by decide) hT rfl (by decide)) hi41 (by decide) e42 dX7_goes_104 ?_
        refine g_imul O dX7_goes_105 ?_
        refine g_iload O dX7_goes_106 rfl ?_
        refine g_iadd O dX7_goes_108 ?_
        obtain ⟨i43, hi44, e45, w⟩ := w
        refine gx_iald (a := b37) (kk0 := 5) (len := 81) (nn := i43) O (ha_own (lay := 2) (j := 4) (off := 1) (ty := 0) (len := 81) (by decide) ht39 rfl (by decide)) hi44 (by decide) e45 dX7_goes_109 ?_
        refine g_iadd O dX7_goes_110 ?_
        refine g_istore_n O dX7_goes_111 (Nat.le_of_ble_eq_true rfl) rfl (lv' := [some (.ref t), some (.int x1), some (.int x2), some (.int (x3 + (V b37 5 i43))), some (.int x4), some (.int r26)]) rfl ?_
        exact vjX7_goes_112 O hRm (V := V) (P := P) t hT (x1) (x2) ((x3 + (V b37 5 i43))) (x4) (r26) post hQ (lX7_goes_44 (cxE X).2.2.2.2 T L P t x1 x2 post ke_145 n) ih w
set_option maxHeartbeats 4000000 in
theorem vjX7_goes_30 {X : Cx} {z : Nat} {T L : Nat → Nat} {V : w_V} {P : w_P} (O : Okc X cX7_goes RX7 6 none) (hRm : cxR X = rX7_goes) (t : Nat) (hT : T t = 7) (x1 : Int32) (t0 : Int32) (post : w_V → Prop) (hQ : cxMQ X (va_Qv post (fun u t => wdW (cxE X) (xW1 z T L P u) t.heap) (w_A (cxE X))) 0 0) (kb : Int32 → w_V → Prop) (hkb : ∀ (y1 : Int32) (V2 : w_V), kb y1 V2 → gW X 0 0 z T L V2 P 2 [some (.ref t), some (.int y1), none, none, none, none] []) (w : jX7_goes_30 (cxE X).2.2.2.2 T L V P t x1 t0 post kb) : gW X 0 0 z T L V P 30 [some (.ref t), some (.int x1), none, none, none, none] [.int t0] := by
  unfold jX7_goes_30 at w
  refine g_istore_n O dX7_goes_30 (Nat.le_of_ble_eq_true rfl) rfl (lv' := [some (.ref t), some (.int x1), some (.int t0), none, none, none]) rfl ?_
  refine g_aload_n O dX7_goes_31 rfl ?_
  obtain ⟨b7, hp8, ht9, w⟩ := w
  refine gx_getR (lay := 6) (j := 1) O ck6 (by decide) rfl rfl hp8 (by decide) hT q740 dX7_goes_32 ?_
  refine gx_getAN (lay := 5) (j := 0) O ck5 (by decide) rfl rfl (by decide) ht9 q584 dX7_goes_35 ?_
  refine g_iload_n O dX7_goes_38 rfl ?_
  obtain ⟨i10, hi11, e12, w⟩ := w
  refine gx_iald (a := b7) (kk0 := 1) (len := 5) (nn := i10) O (ha_own (lay := 5) (j := 0) (off := 1) (ty := 0) (len := 5) (by decide) ht9 rfl (by decide)) hi11 (by decide) e12 dX7_goes_39 ?_
  refine g_istore_n O dX7_goes_40 (Nat.le_of_ble_eq_true rfl) rfl (lv' := [some (.ref t), some (.int x1), some (.int t0), some (.int (V b7 1 i10)), none, none]) rfl ?_
  refine g_iconst (v := 0) O dX7_goes_41 (by decide) ?_
  refine g_istore O dX7_goes_42 (Nat.le_of_ble_eq_true rfl) rfl (lv' := [some (.ref t), some (.int x1), some (.int t0), some (.int (V b7 1 i10)), some (.int 0), none]) rfl ?_
  obtain ⟨n47, w⟩ := w
  refine vlX7_goes_44 O hRm (P := P) t hT (x1) (t0) post hQ _ (fun V46 w => ?_) n47 ((V b7 1 i10)) (0) (V) w
  refine g_iinc (v := (x1 + 1)) O dX7_goes_145 rfl rfl rfl (lv' := [some (.ref t), some (.int (x1 + 1)), none, none, none, none]) rfl ?_
  refine g_goto (tgt := 2) O dX7_goes_148 (by decide) ?_
  exact hkb ((x1 + 1)) (V46) w
set_option maxHeartbeats 4000000 in
theorem vlX7_goes_2 {X : Cx} {z : Nat} {T L : Nat → Nat} {P : w_P} (O : Okc X cX7_goes RX7 6 none) (hRm : cxR X = rX7_goes) (t : Nat) (hT : T t = 7) (post : w_V → Prop) (hQ : cxMQ X (va_Qv post (fun u t => wdW (cxE X) (xW1 z T L P u) t.heap) (w_A (cxE X))) 0 0)  : ∀ (n : Nat) (x1 : Int32) (V : w_V), lX7_goes_2 (cxE X).2.2.2.2 T L P t post n x1 V → gW X 0 0 z T L V P 2 [some (.ref t), some (.int x1), none, none, none, none] [] := by
  intro n
  induction n with
  | zero =>
    intro x1 V w
    exact w.elim
  | succ n ih =>
    intro x1 V w
    unfold lX7_goes_2 at w
    refine g_iload_n O dX7_goes_2 rfl ?_
    refine g_aload_n O dX7_goes_3 rfl ?_
    refine g_ri0 (gr_V (lay := 6) (nA := 0) (As := []) (rest := [.int x1]) O hRm (kX7_judges _ O.2.2.2.2.2.2.2.2 _ _ _ _ _ _ t hT _ w) (lw_V q1297 q1299 qs25 q132 q1300) rfl rfl (by decide +kernel) ⟨Nat.le_of_ble_eq_true rfl, Nat.le_of_ble_eq_true rfl⟩ ck6 (by decide) rfl hT rfl rfl rfl (Nat.le_of_ble_eq_true rfl) dX7_goes_4 ⟨Nat.le_of_ble_eq_true rfl, Nat.le_of_ble_eq_true rfl⟩) (fun r1 w => ?_)
    refine g_icmp_ge (tgt := 151) O w dX7_goes_7 (by decide) (fun w => ?_) (fun w => ?_)
    · exact g_vret (f := xW1 z T L P) (u := V) O hQ rfl w dX7_goes_151
    · refine g_aload_n O dX7_goes_10 rfl ?_
      obtain ⟨b4, hp5, ht6, w⟩ := w
      refine gx_getR (lay := 6) (j := 1) O ck6 (by decide) rfl rfl hp5 (by decide) hT q740 dX7_goes_11 ?_
      refine gx_getIN (lay := 5) (j := 8) O ck5 (by decide) rfl rfl (by decide) ht6 q604 dX7_goes_14 ?_
      refine g_iload_n O dX7_goes_17 rfl ?_
      refine g_ishr O dX7_goes_18 ?_
      refine g_iconst (v := 1) O dX7_goes_19 (by decide) ?_
      refine g_iand O dX7_goes_20 ?_
      refine g_iconst (v := 1) O dX7_goes_21 (by decide) ?_
      refine g_icmp_ne (tgt := 29) O w dX7_goes_22 (by decide) (fun w => ?_) (fun w => ?_)
      · refine g_iconst (v := 0) O dX7_goes_29 (by decide) ?_
        exact vjX7_goes_30 O hRm (V := V) (P := P) t hT (x1) (0) post hQ (lX7_goes_2 (cxE X).2.2.2.2 T L P t post n) ih w
      · refine g_iconst (v := 1) O dX7_goes_25 (by decide) ?_
        refine g_goto (tgt := 30) O dX7_goes_26 (by decide) ?_
        exact vjX7_goes_30 O hRm (V := V) (P := P) t hT (x1) (1) post hQ (lX7_goes_2 (cxE X).2.2.2.2 T L P t post n) ih w
set_option maxHeartbeats 4000000 in
theorem kX7_goes (l : Launch) (hfl : l.flags = flags0) (E : w_E) (z : Nat) (T L : Nat → Nat) (V : w_V) (P : w_P) (t : Nat) (hT : T t = 7) (post : w_V → Prop) (w : wX7_goes E.2.2.2.2 T L V P t post) : gMv l yX7_goes (ws_ yX7_goes cX7_goes 6 none) rX7_goes 0 0 E [.ref t] (z, T, L, V, P) (xW1 z T L P) post := by
  refine g_start (S := Unit) hfl (by decide +kernel) rfl [some (.ref t), none, none, none, none, none] rfl (fun _ h => h) (Nat.le_of_ble_eq_true rfl) (fun X hl hRm hEe O hQ => ?_)
  subst hl
  subst hEe
  unfold wX7_goes at w
  refine g_iconst (v := 0) O dX7_goes_0 (by decide) ?_
  refine g_istore_n O dX7_goes_1 (Nat.le_of_ble_eq_true rfl) rfl (lv' := [some (.ref t), some (.int 0), none, none, none, none]) rfl ?_
  obtain ⟨n48, w⟩ := w
  exact vlX7_goes_2 O hRm (P := P) t hT post hQ n48 (0) (V) w
-- X16_says
abbrev rX16_says : Room := { frames := 1, cells := 0, slots := 0, locals := 12 }
set_option maxHeartbeats 4000000 in
theorem kX16_says (l : Launch) (hfl : l.flags = flags0) (E : w_E) (z : Nat) (T L : Nat → Nat) (V : w_V) (P : w_P) (t : Nat) (hT : jT T t) (x1 : Int32) (post : Int32 → Prop) (w : wX16_says E.2.2.2.2 T L V P t x1 post) : gMi l yX16_says (ws_ yX16_says cX16_says 2 (some .boolean)) rX16_says 0 0 E [.ref t, .int x1] (z, T, L, V, P) (xW0 z T L V P) (fun x (_ : Unit) => post x) := by
  refine g_start (S := Unit) hfl (by decide +kernel) rfl [some (.ref t), some (.int x1)] rfl (fun _ h => h) (Nat.le_of_ble_eq_true rfl) (fun X hl hRm hEe O hQ => ?_)
  subst hl
  subst hEe
  unfold wX16_says at w
  refine g_iload_n O dX16_says_0 rfl ?_
  exact g_iret (f := xW0 z T L V P) (u := ()) O hQ w.1 rfl w.2 dX16_says_1
-- X18_says
abbrev rX18_says : Room := { frames := 2, cells := 0, slots := 0, locals := 33 }
set_option maxHeartbeats 4000000 in
theorem kX18_says (l : Launch) (hfl : l.flags = flags0) (E : w_E) (z : Nat) (T L : Nat → Nat) (V : w_V) (P : w_P) (t : Nat) (hT : T t = 15) (x1 : Int32) (post : Int32 → Prop) (w : wX18_says E.2.2.2.2 T L V P t x1 post) : gMi l yX18_says (ws_ yX18_says cX18_says 2 (some .boolean)) rX18_says 0 0 E [.ref t, .int x1] (z, T, L, V, P) (xW0 z T L V P) (fun x (_ : Unit) => post x) := by
  refine g_start (S := Unit) hfl (by decide +kernel) rfl [some (.ref t), some (.int x1)] rfl (fun _ h => h) (Nat.le_of_ble_eq_true rfl) (fun X hl hRm hEe O hQ => ?_)
  subst hl
  subst hEe
  unfold wX18_says at w
  refine g_aload_n O dX18_says_0 rfl ?_
  refine g_iload_n O dX18_says_1 rfl ?_
  refine g_ri0 (gr_SU (lay := 14) (nA := 1) (As := [.int x1]) (rest := []) O hRm (kX16_says _ O.2.2.2.2.2.2.2.2 _ _ _ _ _ _ t (Or.inr (Or.inr hT)) (x1) _ w) (lw_SU q1388 q1383 q1241 q1381 q143 q1389) rfl rfl (by decide +kernel) ⟨Nat.le_of_ble_eq_true rfl, Nat.le_of_ble_eq_true rfl⟩ ck14 (by decide) rfl hT rfl rfl rfl (Nat.le_of_ble_eq_true rfl) dX18_says_2 ⟨Nat.le_of_ble_eq_true rfl, Nat.le_of_ble_eq_true rfl⟩) (fun r1 w => ?_)
  refine g_if_ne (tgt := 12) O w dX18_says_5 (by decide) (fun w => ?_) (fun w => ?_)
  · refine g_iconst (v := 0) O dX18_says_12 (by decide) ?_
    exact g_iret (f := xW0 z T L V P) (u := ()) O hQ rfl rfl w dX18_says_13
  · refine g_iconst (v := 1) O dX18_says_8 (by decide) ?_
    refine g_goto (tgt := 13) O dX18_says_9 (by decide) ?_
    exact g_iret (f := xW0 z T L V P) (u := ()) O hQ rfl rfl w dX18_says_13
-- X3_sees
abbrev rX3_sees : Room := { frames := 3, cells := 0, slots := 0, locals := 60 }
set_option maxHeartbeats 4000000 in
theorem kX3_sees (l : Launch) (hfl : l.flags = flags0) (E : w_E) (z : Nat) (T L : Nat → Nat) (V : w_V) (P : w_P) (t : Nat) (hT : T t = 4) (x1 : Nat) (x2 : Int32) (post : w_V → Prop) (w : wX3_sees E.2.2.2.2 T L V P t x1 x2 post) : gMv l yX3_sees (ws_ yX3_sees cX3_sees 3 none) rX3_sees 0 0 E [.ref t, .ref x1, .int x2] (z, T, L, V, P) (xW1 z T L P) post := by
  refine g_start (S := Unit) hfl (by decide +kernel) rfl [some (.ref t), some (.ref x1), some (.int x2)] rfl (fun _ h => h) (Nat.le_of_ble_eq_true rfl) (fun X hl hRm hEe O hQ => ?_)
  subst hl
  subst hEe
  unfold wX3_sees at w
  refine g_aload_n O dX3_sees_0 rfl ?_
  refine gx_getA (lay := 3) (j := 0) O ck3 (by decide) rfl rfl (by decide) hT q519 dX3_sees_1 ?_
  refine g_aload_n O dX3_sees_4 rfl ?_
  obtain ⟨i1, hi2, e3, w⟩ := w
  refine gx_ord (i := i1) O hRm hi2 e3 q1352 (Nat.le_of_ble_eq_true rfl) (Nat.le_of_ble_eq_true rfl) ⟨Nat.le_of_ble_eq_true rfl, Nat.le_of_ble_eq_true rfl⟩ rfl (Nat.le_of_ble_eq_true rfl) dX3_sees_5 ?_
  refine g_iload_n O dX3_sees_8 rfl ?_
  obtain ⟨i4, hi5, e6, w⟩ := w
  refine gx_iast (a := t) (kk0 := 1) (len := 5) (nn := i4) O (ha_own (lay := 3) (j := 0) (off := 2) (ty := 0) (len := 5) (by decide) hT rfl (by decide)) hi5 (by decide) e6 dX3_sees_9 ?_
  refine g_nV w (fun V7 w _ => ?_)
  exact g_vret (f := xW1 z T L P) (u := V7) O hQ rfl w dX3_sees_10
-- X2_byLaw
abbrev rX2_byLaw : Room := { frames := 1246, cells := 0, slots := 0, locals := 37300 }
set_option maxHeartbeats 4000000 in
theorem kX2_byLaw (l : Launch) (hfl : l.flags = flags0) (E : w_E) (z : Nat) (T L : Nat → Nat) (V : w_V) (P : w_P) (t : Nat) (hT : T t = 3) (x1 : Nat) (hx1 : jT T x1) (x2 : Int32) (x3 : Int32) (x4 : Int32) (x5 : Int32) (post : Int32 → w_V → Prop) (w : wX2_byLaw E.2.2.2.2 T L V P t x1 x2 x3 x4 x5 post) : gMi l yX2_byLaw (ws_ yX2_byLaw cX2_byLaw 6 (some .boolean)) rX2_byLaw 0 0 E [.ref t, .ref x1, .int x2, .int x3, .int x4, .int x5] (z, T, L, V, P) (xW1 z T L P) post := by
  refine g_start (S := Unit) hfl (by decide +kernel) rfl [some (.ref t), some (.ref x1), some (.int x2), some (.int x3), some (.int x4), some (.int x5)] rfl (fun _ h => h) (Nat.le_of_ble_eq_true rfl) (fun X hl hRm hEe O hQ => ?_)
  subst hl
  subst hEe
  unfold wX2_byLaw at w
  refine g_aload_n O dX2_byLaw_0 rfl ?_
  refine gx_getQ (lay := 2) (j := 8) O ck2 (by decide) rfl rfl (by decide) hT q547 dX2_byLaw_1 ?_
  refine gx_ifnonnull (tgt := 18) O dX2_byLaw_4 (by decide) (fun hn => ?_) (fun b1 hb2 => ?_)
  · replace w := w.1 hn
    refine g_iload_n O dX2_byLaw_7 rfl ?_
    refine g_iconst (v := 4) O dX2_byLaw_8 (by decide) ?_
    refine g_icmp_le (tgt := 16) O w dX2_byLaw_9 (by decide) (fun w => ?_) (fun w => ?_)
    · refine g_iconst (v := 0) O dX2_byLaw_16 (by decide) ?_
      exact g_iret (f := xW1 z T L P) (u := V) O hQ rfl rfl w dX2_byLaw_17
    · refine g_iconst (v := 1) O dX2_byLaw_12 (by decide) ?_
      refine g_goto (tgt := 17) O dX2_byLaw_13 (by decide) ?_
      exact g_iret (f := xW1 z T L P) (u := V) O hQ rfl rfl w dX2_byLaw_17
  · replace w := w.2 b1 hb2
    refine g_aload_n O dX2_byLaw_18 rfl ?_
    obtain ⟨b4, hp5, ht6, w⟩ := w
    refine gx_getR (lay := 2) (j := 9) O ck2 (by decide) rfl rfl hp5 (by decide) hT q549 dX2_byLaw_19 ?_
    refine gx_getst (i := 0) O rfl q1347 dX2_byLaw_22 ?_
    refine g_iload_n O dX2_byLaw_25 rfl ?_
    refine g_rv1 (gr_V (lay := 3) (nA := 2) (As := [.ref ((cxE X).2.2.2.2 0), .int x2]) (rest := []) O hRm (kX3_sees _ O.2.2.2.2.2.2.2.2 _ _ _ _ _ _ b4 ht6 ((cxE X).2.2.2.2 0) (x2) _ w) (lw_V q1348 q1349 q1350 q127 q1351) rfl rfl (by decide +kernel) ⟨Nat.le_of_ble_eq_true rfl, Nat.le_of_ble_eq_true rfl⟩ ck3 (by decide) rfl ht6 rfl rfl rfl (Nat.le_of_ble_eq_true rfl) dX2_byLaw_26 ⟨Nat.le_of_ble_eq_true rfl, Nat.le_of_ble_eq_true rfl⟩) (fun V8 w => ?_)
    refine g_aload_n O dX2_byLaw_29 rfl ?_
    obtain ⟨b10, hp11, ht12, w⟩ := w
    refine gx_getR (lay := 2) (j := 9) O ck2 (by decide) rfl rfl hp11 (by decide) hT q549 dX2_byLaw_30 ?_
    refine gx_getst (i := 1) O rfl q1358 dX2_byLaw_33 ?_
    refine g_aload_n O dX2_byLaw_36 rfl ?_
    refine gj_getI (j := 1) O (by decide) hx1 q1222 dX2_byLaw_37 ?_
    refine g_rv1 (gr_V (lay := 3) (nA := 2) (As := [.ref ((cxE X).2.2.2.2 1), .int (V8 x1 0 1)]) (rest := []) O hRm (kX3_sees _ O.2.2.2.2.2.2.2.2 _ _ _ _ _ _ b10 ht12 ((cxE X).2.2.2.2 1) ((V8 x1 0 1)) _ w) (lw_V q1348 q1349 q1350 q127 q1351) rfl rfl (by decide +kernel) ⟨Nat.le_of_ble_eq_true rfl, Nat.le_of_ble_eq_true rfl⟩ ck3 (by decide) rfl ht12 rfl rfl rfl (Nat.le_of_ble_eq_true rfl) dX2_byLaw_40 ⟨Nat.le_of_ble_eq_true rfl, Nat.le_of_ble_eq_true rfl⟩) (fun V14 w => ?_)
    refine g_aload_n O dX2_byLaw_43 rfl ?_
    obtain ⟨b16, hp17, ht18, w⟩ := w
    refine gx_getR (lay := 2) (j := 9) O ck2 (by decide) rfl rfl hp17 (by decide) hT q549 dX2_byLaw_44 ?_
    refine gx_getst (i := 2) O rfl q1359 dX2_byLaw_47 ?_
    refine g_iload_n O dX2_byLaw_50 rfl ?_
    refine g_rv1 (gr_V (lay := 3) (nA := 2) (As := [.ref ((cxE X).2.2.2.2 2), .int x3]) (rest := []) O hRm (kX3_sees _ O.2.2.2.2.2.2.2.2 _ _ _ _ _ _ b16 ht18 ((cxE X).2.2.2.2 2) (x3) _ w) (lw_V q1348 q1349 q1350 q127 q1351) rfl rfl (by decide +kernel) ⟨Nat.le_of_ble_eq_true rfl, Nat.le_of_ble_eq_true rfl⟩ ck3 (by decide) rfl ht18 rfl rfl rfl (Nat.le_of_ble_eq_true rfl) dX2_byLaw_51 ⟨Nat.le_of_ble_eq_true rfl, Nat.le_of_ble_eq_true rfl⟩) (fun V20 w => ?_)
    refine g_aload_n O dX2_byLaw_54 rfl ?_
    obtain ⟨b22, hp23, ht24, w⟩ := w
    refine gx_getR (lay := 2) (j := 9) O ck2 (by decide) rfl rfl hp23 (by decide) hT q549 dX2_byLaw_55 ?_
    refine gx_getst (i := 3) O rfl q1360 dX2_byLaw_58 ?_
    refine g_iload O dX2_byLaw_61 rfl ?_
    refine g_rv1 (gr_V (lay := 3) (nA := 2) (As := [.ref ((cxE X).2.2.2.2 3), .int x4]) (rest := []) O hRm (kX3_sees _ O.2.2.2.2.2.2.2.2 _ _ _ _ _ _ b22 ht24 ((cxE X).2.2.2.2 3) (x4) _ w) (lw_V q1348 q1349 q1350 q127 q1351) rfl rfl (by decide +kernel) ⟨Nat.le_of_ble_eq_true rfl, Nat.le_of_ble_eq_true rfl⟩ ck3 (by decide) rfl ht24 rfl rfl rfl (Nat.le_of_ble_eq_true rfl) dX2_byLaw_63 ⟨Nat.le_of_ble_eq_true rfl, Nat.le_of_ble_eq_true rfl⟩) (fun V26 w => ?_)
    refine g_aload_n O dX2_byLaw_66 rfl ?_
    obtain ⟨b28, hp29, ht30, w⟩ := w
    refine gx_getR (lay := 2) (j := 9) O ck2 (by decide) rfl rfl hp29 (by decide) hT q549 dX2_byLaw_67 ?_
    refine gx_getst (i := 4) O rfl q1361 dX2_byLaw_70 ?_
    refine g_iload O dX2_byLaw_73 rfl ?_
    refine g_rv1 (gr_V (lay := 3) (nA := 2) (As := [.ref ((cxE X).2.2.2.2 4), .int x5]) (rest := []) O hRm (kX3_sees _ O.2.2.2.2.2.2.2.2 _ _ _ _ _ _ b28 ht30 ((cxE X).2.2.2.2 4) (x5) _ w) (lw_V q1348 q1349 q1350 q127 q1351) rfl rfl (by decide +kernel) ⟨Nat.le_of_ble_eq_true rfl, Nat.le_of_ble_eq_true rfl⟩ ck3 (by decide) rfl ht30 rfl rfl rfl (Nat.le_of_ble_eq_true rfl) dX2_byLaw_75 ⟨Nat.le_of_ble_eq_true rfl, Nat.le_of_ble_eq_true rfl⟩) (fun V32 w => ?_)
    refine g_aload_n O dX2_byLaw_78 rfl ?_
    obtain ⟨b34, hp35, ht36, w⟩ := w
    refine gx_getR (lay := 2) (j := 8) O ck2 (by decide) rfl rfl hp35 (by decide) hT q547 dX2_byLaw_79 ?_
    refine g_aload_n O dX2_byLaw_82 rfl ?_
    obtain ⟨b37, hp38, ht39, w⟩ := w
    refine gx_getR (lay := 2) (j := 9) O ck2 (by decide) rfl rfl hp38 (by decide) hT q549 dX2_byLaw_83 ?_
    have hq := k_by _ O.2.2.2.2.2.2.2.2 (cxE X) z T L V32 P 620 b34 b37 _ w ht39
    refine g_ri0 (g_disp4 ht36 (fun h => (gr_A (owner := "ApartBench$Expr") (lay := 8) (nA := 1) (As := [.ref b37]) (rest := []) O hRm (hq.1 h) (lw_U q1362 q1364 q1379 q1375 q139 q1376) rfl rfl q1363 (by decide +kernel) ⟨Nat.le_of_ble_eq_true rfl, Nat.le_of_ble_eq_true rfl⟩ ck8 (by decide) rfl h rfl rfl rfl (Nat.le_of_ble_eq_true rfl) dX2_byLaw_86 ⟨Nat.le_of_ble_eq_true rfl, Nat.le_of_ble_eq_true rfl⟩)) (fun h => (gr_A (owner := "ApartBench$Expr") (lay := 9) (nA := 1) (As := [.ref b37]) (rest := []) O hRm (hq.2.1 h) (lw_U q1362 q1364 q1378 q1372 q140 q1373) rfl rfl q1363 (by decide +kernel) ⟨Nat.le_of_ble_eq_true rfl, Nat.le_of_ble_eq_true rfl⟩ ck9 (by decide) rfl h rfl rfl rfl (Nat.le_of_ble_eq_true rfl) dX2_byLaw_86 ⟨Nat.le_of_ble_eq_true rfl, Nat.le_of_ble_eq_true rfl⟩)) (fun h => (gr_A (owner := "ApartBench$Expr") (lay := 10) (nA := 1) (As := [.ref b37]) (rest := []) O hRm (hq.2.2.1 h) (lw_U q1362 q1364 q1365 q1366 q141 q1367) rfl rfl q1363 (by decide +kernel) ⟨Nat.le_of_ble_eq_true rfl, Nat.le_of_ble_eq_true rfl⟩ ck10 (by decide) rfl h rfl rfl rfl (Nat.le_of_ble_eq_true rfl) dX2_byLaw_86 ⟨Nat.le_of_ble_eq_true rfl, Nat.le_of_ble_eq_true rfl⟩)) (fun h => (gr_A (owner := "ApartBench$Expr") (lay := 11) (nA := 1) (As := [.ref b37]) (rest := []) O hRm (hq.2.2.2 h) (lw_U q1362 q1364 q1377 q1369 q142 q1370) rfl rfl q1363 (by decide +kernel) ⟨Nat.le_of_ble_eq_true rfl, Nat.le_of_ble_eq_true rfl⟩ ck11 (by decide) rfl h rfl rfl rfl (Nat.le_of_ble_eq_true rfl) dX2_byLaw_86 ⟨Nat.le_of_ble_eq_true rfl, Nat.le_of_ble_eq_true rfl⟩))) (fun r40 w => ?_)
    refine g_if_le (tgt := 96) O w dX2_byLaw_89 (by decide) (fun w => ?_) (fun w => ?_)
    · refine g_iconst (v := 0) O dX2_byLaw_96 (by decide) ?_
      exact g_iret (f := xW1 z T L P) (u := V32) O hQ rfl rfl w dX2_byLaw_97
    · refine g_iconst (v := 1) O dX2_byLaw_92 (by decide) ?_
      refine g_goto (tgt := 97) O dX2_byLaw_93 (by decide) ?_
      exact g_iret (f := xW1 z T L P) (u := V32) O hQ rfl rfl w dX2_byLaw_97
-- X6_isFeast
abbrev rX6_isFeast : Room := { frames := 1, cells := 0, slots := 0, locals := 12 }
set_option maxHeartbeats 4000000 in
theorem vjX6_isFeast_52 {X : Cx} {z : Nat} {T L : Nat → Nat} {V : w_V} {P : w_P} (O : Okc X cX6_isFeast RX6 4 (some .boolean)) (hRm : cxR X = rX6_isFeast) (t : Nat) (hT : T t = 6) (x1 : Int32) (x2 : Int32) (x3 : Int32) (post : Int32 → Prop) (hQ : cxMQ X (va_Qi (fun x (_ : Unit) => post x) (fun u t => wdW (cxE X) (xW0 z T L V P u) t.heap) (w_A (cxE X))) 0 0) (kb : Int32 → Prop) (hkb : ∀ (y3 : Int32), kb y3 → gW X 0 0 z T L V P 2 [some (.ref t), some (.int x1), some (.int x2), some (.int y3)] []) (w : jX6_isFeast_52 (cxE X).2.2.2.2 T L V P t x1 x2 x3 post kb) : gW X 0 0 z T L V P 52 [some (.ref t), some (.int x1), some (.int x2), some (.int x3)] [] := by
  unfold jX6_isFeast_52 at w
  refine g_iinc (v := (x3 + 1)) O dX6_isFeast_52 rfl rfl rfl (lv' := [some (.ref t), some (.int x1), some (.int x2), some (.int (x3 + 1))]) rfl ?_
  refine g_goto (tgt := 2) O dX6_isFeast_55 (by decide) ?_
  exact hkb ((x3 + 1)) w
set_option maxHeartbeats 4000000 in
theorem vlX6_isFeast_2 {X : Cx} {z : Nat} {T L : Nat → Nat} {V : w_V} {P : w_P} (O : Okc X cX6_isFeast RX6 4 (some .boolean)) (hRm : cxR X = rX6_isFeast) (t : Nat) (hT : T t = 6) (x1 : Int32) (x2 : Int32) (post : Int32 → Prop) (hQ : cxMQ X (va_Qi (fun x (_ : Unit) => post x) (fun u t => wdW (cxE X) (xW0 z T L V P u) t.heap) (w_A (cxE X))) 0 0)  : ∀ (n : Nat) (x3 : Int32), lX6_isFeast_2 (cxE X).2.2.2.2 T L V P t x1 x2 post n x3 → gW X 0 0 z T L V P 2 [some (.ref t), some (.int x1), some (.int x2), some (.int x3)] [] := by
  intro n
  induction n with
  | zero =>
    intro x3 w
    exact w.elim
  | succ n ih =>
    intro x3 w
    unfold lX6_isFeast_2 at w
    refine g_iload_n O dX6_isFeast_2 rfl ?_
    refine g_aload_n O dX6_isFeast_3 rfl ?_
    refine gx_getI (lay := 5) (j := 6) O ck5 (by decide) rfl rfl (by decide) hT q598 dX6_isFeast_4 ?_
    refine g_icmp_ge (tgt := 58) O w dX6_isFeast_7 (by decide) (fun w => ?_) (fun w => ?_)
    · refine g_iconst (v := 0) O dX6_isFeast_58 (by decide) ?_
      exact g_iret (f := xW0 z T L V P) (u := ()) O hQ rfl rfl w dX6_isFeast_59
    · refine g_aload_n O dX6_isFeast_10 rfl ?_
      refine gx_getA (lay := 5) (j := 2) O ck5 (by decide) rfl rfl (by decide) hT q589 dX6_isFeast_11 ?_
      refine g_iconst (v := 3) O dX6_isFeast_14 (by decide) ?_
      refine g_iload_n O dX6_isFeast_15 rfl ?_
      refine g_imul O dX6_isFeast_16 ?_
      obtain ⟨i1, hi2, e3, w⟩ := w
      refine gx_iald (a := t) (kk0 := 3) (len := 12) (nn := i1) O (ha_own (lay := 5) (j := 2) (off := 3) (ty := 0) (len := 12) (by decide) hT rfl (by decide)) hi2 (by decide) e3 dX6_isFeast_17 ?_
      refine g_iload_n O dX6_isFeast_18 rfl ?_
      refine g_icmp_ne (tgt := 52) O w dX6_isFeast_19 (by decide) (fun w => ?_) (fun w => ?_)
      · exact vjX6_isFeast_52 O hRm (V := V) (P := P) t hT (x1) (x2) (x3) post hQ (lX6_isFeast_2 (cxE X).2.2.2.2 T L V P t x1 x2 post n) ih w
      · refine g_iload_n O dX6_isFeast_22 rfl ?_
        refine g_aload_n O dX6_isFeast_23 rfl ?_
        refine gx_getA (lay := 5) (j := 2) O ck5 (by decide) rfl rfl (by decide) hT q589 dX6_isFeast_24 ?_
        refine g_iconst (v := 3) O dX6_isFeast_27 (by decide) ?_
        refine g_iload_n O dX6_isFeast_28 rfl ?_
        refine g_imul O dX6_isFeast_29 ?_
        refine g_iconst (v := 1) O dX6_isFeast_30 (by decide) ?_
        refine g_iadd O dX6_isFeast_31 ?_
        obtain ⟨i4, hi5, e6, w⟩ := w
        refine gx_iald (a := t) (kk0 := 3) (len := 12) (nn := i4) O (ha_own (lay := 5) (j := 2) (off := 3) (ty := 0) (len := 12) (by decide) hT rfl (by decide)) hi5 (by decide) e6 dX6_isFeast_32 ?_
        refine g_icmp_lt (tgt := 52) O w dX6_isFeast_33 (by decide) (fun w => ?_) (fun w => ?_)
        · exact vjX6_isFeast_52 O hRm (V := V) (P := P) t hT (x1) (x2) (x3) post hQ (lX6_isFeast_2 (cxE X).2.2.2.2 T L V P t x1 x2 post n) ih w
        · refine g_iload_n O dX6_isFeast_36 rfl ?_
          refine g_aload_n O dX6_isFeast_37 rfl ?_
          refine gx_getA (lay := 5) (j := 2) O ck5 (by decide) rfl rfl (by decide) hT q589 dX6_isFeast_38 ?_
          refine g_iconst (v := 3) O dX6_isFeast_41 (by decide) ?_
          refine g_iload_n O dX6_isFeast_42 rfl ?_
          refine g_imul O dX6_isFeast_43 ?_
          refine g_iconst (v := 2) O dX6_isFeast_44 (by decide) ?_
          refine g_iadd O dX6_isFeast_45 ?_
          obtain ⟨i7, hi8, e9, w⟩ := w
          refine gx_iald (a := t) (kk0 := 3) (len := 12) (nn := i7) O (ha_own (lay := 5) (j := 2) (off := 3) (ty := 0) (len := 12) (by decide) hT rfl (by decide)) hi8 (by decide) e9 dX6_isFeast_46 ?_
          refine g_icmp_gt (tgt := 52) O w dX6_isFeast_47 (by decide) (fun w => ?_) (fun w => ?_)
          · exact vjX6_isFeast_52 O hRm (V := V) (P := P) t hT (x1) (x2) (x3) post hQ (lX6_isFeast_2 (cxE X).2.2.2.2 T L V P t x1 x2 post n) ih w
          · refine g_iconst (v := 1) O dX6_isFeast_50 (by decide) ?_
            exact g_iret (f := xW0 z T L V P) (u := ()) O hQ rfl rfl w dX6_isFeast_51
set_option maxHeartbeats 4000000 in
theorem kX6_isFeast (l : Launch) (hfl : l.flags = flags0) (E : w_E) (z : Nat) (T L : Nat → Nat) (V : w_V) (P : w_P) (t : Nat) (hT : T t = 6) (x1 : Int32) (x2 : Int32) (post : Int32 → Prop) (w : wX6_isFeast E.2.2.2.2 T L V P t x1 x2 post) : gMi l yX6_isFeast (ws_ yX6_isFeast cX6_isFeast 4 (some .boolean)) rX6_isFeast 0 0 E [.ref t, .int x1, .int x2] (z, T, L, V, P) (xW0 z T L V P) (fun x (_ : Unit) => post x) := by
  refine g_start (S := Unit) hfl (by decide +kernel) rfl [some (.ref t), some (.int x1), some (.int x2), none] rfl (fun _ h => h) (Nat.le_of_ble_eq_true rfl) (fun X hl hRm hEe O hQ => ?_)
  subst hl
  subst hEe
  unfold wX6_isFeast at w
  refine g_iconst (v := 0) O dX6_isFeast_0 (by decide) ?_
  refine g_istore_n O dX6_isFeast_1 (Nat.le_of_ble_eq_true rfl) rfl (lv' := [some (.ref t), some (.int x1), some (.int x2), some (.int 0)]) rfl ?_
  obtain ⟨n10, w⟩ := w
  exact vlX6_isFeast_2 O hRm (V := V) (P := P) t hT (x1) (x2) post hQ n10 (0) w
-- X7_at
abbrev rX7_at : Room := { frames := 5, cells := 0, slots := 0, locals := 97 }
set_option maxHeartbeats 4000000 in
theorem vlX7_at_2 {X : Cx} {z : Nat} {T L : Nat → Nat} {V : w_V} {P : w_P} (O : Okc X cX7_at RX7 4 (some .int)) (hRm : cxR X = rX7_at) (t : Nat) (hT : T t = 7) (x1 : Int32) (x2 : Int32) (post : Int32 → Prop) (hQ : cxMQ X (va_Qi (fun x (_ : Unit) => post x) (fun u t => wdW (cxE X) (xW0 z T L V P u) t.heap) (w_A (cxE X))) 0 0) (ke_26 : Int32 → Prop) (hke_26 : ∀ (y3 : Int32), ke_26 y3 → gW X 0 0 z T L V P 26 [some (.ref t), some (.int x1), none, some (.int y3)] [])  : ∀ (n : Nat) (x3 : Int32), lX7_at_2 (cxE X).2.2.2.2 T L V P t x1 x2 post ke_26 n x3 → gW X 0 0 z T L V P 2 [some (.ref t), some (.int x1), some (.int x2), some (.int x3)] [] := by
  intro n
  induction n with
  | zero =>
    intro x3 w
    exact w.elim
  | succ n ih =>
    intro x3 w
    unfold lX7_at_2 at w
    refine g_iload_n O dX7_at_2 rfl ?_
    refine g_aload_n O dX7_at_3 rfl ?_
    refine g_iload_n O dX7_at_4 rfl ?_
    refine g_ri0 (gr_V (lay := 6) (nA := 1) (As := [.int x1]) (rest := [.int x3]) O hRm (kX7_towns _ O.2.2.2.2.2.2.2.2 _ _ _ _ _ _ t hT (x1) _ w) (lw_V q1302 q1304 qs26 q132 q1305) rfl rfl (by decide +kernel) ⟨Nat.le_of_ble_eq_true rfl, Nat.le_of_ble_eq_true rfl⟩ ck6 (by decide) rfl hT rfl rfl rfl (Nat.le_of_ble_eq_true rfl) dX7_at_5 ⟨Nat.le_of_ble_eq_true rfl, Nat.le_of_ble_eq_true rfl⟩) (fun r1 w => ?_)
    refine g_icmp_ge (tgt := 44) O w dX7_at_8 (by decide) (fun w => ?_) (fun w => ?_)
    · refine g_iconst (v := (-1)) O dX7_at_44 (by decide) ?_
      exact g_iret (f := xW0 z T L V P) (u := ()) O hQ rfl rfl w dX7_at_45
    · refine g_aload_n O dX7_at_11 rfl ?_
      refine gx_getA (lay := 6) (j := 3) O ck6 (by decide) rfl rfl (by decide) hT q743 dX7_at_12 ?_
      refine g_bipush (v := 7) O dX7_at_15 (by decide) ?_
      refine g_iload_n O dX7_at_17 rfl ?_
      refine g_imul O dX7_at_18 ?_
      refine g_iload_n O dX7_at_19 rfl ?_
      refine g_iadd O dX7_at_20 ?_
      obtain ⟨i4, hi5, e6, w⟩ := w
      refine gx_iald (a := t) (kk0 := 4) (len := 35) (nn := i4) O (ha_own (lay := 6) (j := 3) (off := 2) (ty := 0) (len := 35) (by decide) hT rfl (by decide)) hi5 (by decide) e6 dX7_at_21 ?_
      refine g_iload_n O dX7_at_22 rfl ?_
      refine g_icmp_ne (tgt := 38) O w dX7_at_23 (by decide) (fun w => ?_) (fun w => ?_)
      · refine g_iinc (v := (x3 + 1)) O dX7_at_38 rfl rfl rfl (lv' := [some (.ref t), some (.int x1), some (.int x2), some (.int (x3 + 1))]) rfl ?_
        refine g_goto (tgt := 2) O dX7_at_41 (by decide) ?_
        exact ih ((x3 + 1)) w
      · refine g_drop [2] (lv' := [some (.ref t), some (.int x1), none, some (.int x3)]) rfl ?_
        exact hke_26 (x3) w
set_option maxHeartbeats 4000000 in
theorem kX7_at (l : Launch) (hfl : l.flags = flags0) (E : w_E) (z : Nat) (T L : Nat → Nat) (V : w_V) (P : w_P) (t : Nat) (hT : T t = 7) (x1 : Int32) (x2 : Int32) (post : Int32 → Prop) (w : wX7_at E.2.2.2.2 T L V P t x1 x2 post) : gMi l yX7_at (ws_ yX7_at cX7_at 4 (some .int)) rX7_at 0 0 E [.ref t, .int x1, .int x2] (z, T, L, V, P) (xW0 z T L V P) (fun x (_ : Unit) => post x) := by
  refine g_start (S := Unit) hfl (by decide +kernel) rfl [some (.ref t), some (.int x1), some (.int x2), none] rfl (fun _ h => h) (Nat.le_of_ble_eq_true rfl) (fun X hl hRm hEe O hQ => ?_)
  subst hl
  subst hEe
  unfold wX7_at at w
  refine g_iconst (v := 0) O dX7_at_0 (by decide) ?_
  refine g_istore_n O dX7_at_1 (Nat.le_of_ble_eq_true rfl) rfl (lv' := [some (.ref t), some (.int x1), some (.int x2), some (.int 0)]) rfl ?_
  obtain ⟨n11, w⟩ := w
  refine vlX7_at_2 O hRm (V := V) (P := P) t hT (x1) (x2) post hQ _ (fun y7 w => ?_) n11 (0) w
  refine g_aload_n O dX7_at_26 rfl ?_
  refine gx_getA (lay := 6) (j := 2) O ck6 (by decide) rfl rfl (by decide) hT q741 dX7_at_27 ?_
  refine g_bipush (v := 7) O dX7_at_30 (by decide) ?_
  refine g_iload_n O dX7_at_32 rfl ?_
  refine g_imul O dX7_at_33 ?_
  refine g_iload_n O dX7_at_34 rfl ?_
  refine g_iadd O dX7_at_35 ?_
  obtain ⟨i8, hi9, e10, w⟩ := w
  refine gx_iald (a := t) (kk0 := 3) (len := 35) (nn := i8) O (ha_own (lay := 6) (j := 2) (off := 1) (ty := 0) (len := 35) (by decide) hT rfl (by decide)) hi9 (by decide) e10 dX7_at_36 ?_
  exact g_iret (f := xW0 z T L V P) (u := ()) O hQ rfl rfl w dX7_at_37
-- X7_saidAhead
abbrev rX7_saidAhead : Room := { frames := 3, cells := 0, slots := 0, locals := 52 }
set_option maxHeartbeats 4000000 in
theorem vjX7_saidAhead_47 {X : Cx} {z : Nat} {T L : Nat → Nat} {V : w_V} {P : w_P} (O : Okc X cX7_saidAhead RX7 5 (some .int)) (hRm : cxR X = rX7_saidAhead) (t : Nat) (hT : T t = 7) (x1 : Int32) (x2 : Int32) (x3 : Int32) (x4 : Int32) (post : Int32 → Prop) (hQ : cxMQ X (va_Qi (fun x (_ : Unit) => post x) (fun u t => wdW (cxE X) (xW0 z T L V P u) t.heap) (w_A (cxE X))) 0 0) (kb : Int32 → Int32 → Prop) (hkb : ∀ (y3 : Int32) (y4 : Int32), kb y3 y4 → gW X 0 0 z T L V P 5 [some (.ref t), some (.int x1), some (.int x2), some (.int y3), some (.int y4)] []) (w : jX7_saidAhead_47 (cxE X).2.2.2.2 T L V P t x1 x2 x3 x4 post kb) : gW X 0 0 z T L V P 47 [some (.ref t), some (.int x1), some (.int x2), some (.int x3), some (.int x4)] [] := by
  unfold jX7_saidAhead_47 at w
  refine g_iinc (v := (x4 + 1)) O dX7_saidAhead_47 rfl rfl rfl (lv' := [some (.ref t), some (.int x1), some (.int x2), some (.int x3), some (.int (x4 + 1))]) rfl ?_
  refine g_goto (tgt := 5) O dX7_saidAhead_50 (by decide) ?_
  exact hkb (x3) ((x4 + 1)) w
set_option maxHeartbeats 4000000 in
theorem vlX7_saidAhead_5 {X : Cx} {z : Nat} {T L : Nat → Nat} {V : w_V} {P : w_P} (O : Okc X cX7_saidAhead RX7 5 (some .int)) (hRm : cxR X = rX7_saidAhead) (t : Nat) (hT : T t = 7) (x1 : Int32) (x2 : Int32) (post : Int32 → Prop) (hQ : cxMQ X (va_Qi (fun x (_ : Unit) => post x) (fun u t => wdW (cxE X) (xW0 z T L V P u) t.heap) (w_A (cxE X))) 0 0)  : ∀ (n : Nat) (x3 : Int32) (x4 : Int32), lX7_saidAhead_5 (cxE X).2.2.2.2 T L V P t x1 x2 post n x3 x4 → gW X 0 0 z T L V P 5 [some (.ref t), some (.int x1), some (.int x2), some (.int x3), some (.int x4)] [] := by
  intro n
  induction n with
  | zero =>
    intro x3 x4 w
    exact w.elim
  | succ n ih =>
    intro x3 x4 w
    unfold lX7_saidAhead_5 at w
    refine g_iload O dX7_saidAhead_5 rfl ?_
    refine g_aload_n O dX7_saidAhead_7 rfl ?_
    refine g_ri0 (gr_V (lay := 6) (nA := 0) (As := []) (rest := [.int x4]) O hRm (kX7_judges _ O.2.2.2.2.2.2.2.2 _ _ _ _ _ _ t hT _ w) (lw_V q1297 q1299 qs25 q132 q1300) rfl rfl (by decide +kernel) ⟨Nat.le_of_ble_eq_true rfl, Nat.le_of_ble_eq_true rfl⟩ ck6 (by decide) rfl hT rfl rfl rfl (Nat.le_of_ble_eq_true rfl) dX7_saidAhead_8 ⟨Nat.le_of_ble_eq_true rfl, Nat.le_of_ble_eq_true rfl⟩) (fun r1 w => ?_)
    refine g_icmp_ge (tgt := 53) O w dX7_saidAhead_11 (by decide) (fun w => ?_) (fun w => ?_)
    · refine g_iload_n O dX7_saidAhead_53 rfl ?_
      exact g_iret (f := xW0 z T L V P) (u := ()) O hQ rfl rfl w dX7_saidAhead_54
    · refine g_aload_n O dX7_saidAhead_14 rfl ?_
      refine gx_getA (lay := 6) (j := 4) O ck6 (by decide) rfl rfl (by decide) hT q745 dX7_saidAhead_15 ?_
      refine g_iconst (v := 5) O dX7_saidAhead_18 (by decide) ?_
      refine g_iload_n O dX7_saidAhead_19 rfl ?_
      refine g_imul O dX7_saidAhead_20 ?_
      refine g_iload O dX7_saidAhead_21 rfl ?_
      refine g_iadd O dX7_saidAhead_23 ?_
      obtain ⟨i4, hi5, e6, w⟩ := w
      refine gx_iald (a := t) (kk0 := 5) (len := 30) (nn := i4) O (ha_own (lay := 6) (j := 4) (off := 3) (ty := 0) (len := 30) (by decide) hT rfl (by decide)) hi5 (by decide) e6 dX7_saidAhead_24 ?_
      refine g_iconst (v := (-1)) O dX7_saidAhead_25 (by decide) ?_
      refine g_icmp_eq (tgt := 47) O w dX7_saidAhead_26 (by decide) (fun w => ?_) (fun w => ?_)
      · exact vjX7_saidAhead_47 O hRm (V := V) (P := P) t hT (x1) (x2) (x3) (x4) post hQ (lX7_saidAhead_5 (cxE X).2.2.2.2 T L V P t x1 x2 post n) ih w
      · refine g_aload_n O dX7_saidAhead_29 rfl ?_
        refine gx_getA (lay := 6) (j := 5) O ck6 (by decide) rfl rfl (by decide) hT q747 dX7_saidAhead_30 ?_
        refine g_iconst (v := 5) O dX7_saidAhead_33 (by decide) ?_
        refine g_iload_n O dX7_saidAhead_34 rfl ?_
        refine g_imul O dX7_saidAhead_35 ?_
        refine g_iload O dX7_saidAhead_36 rfl ?_
        refine g_iadd O dX7_saidAhead_38 ?_
        obtain ⟨i7, hi8, e9, w⟩ := w
        refine gx_iald (a := t) (kk0 := 6) (len := 30) (nn := i7) O (ha_own (lay := 6) (j := 5) (off := 4) (ty := 0) (len := 30) (by decide) hT rfl (by decide)) hi8 (by decide) e9 dX7_saidAhead_39 ?_
        refine g_iload_n O dX7_saidAhead_40 rfl ?_
        refine g_icmp_ge (tgt := 47) O w dX7_saidAhead_41 (by decide) (fun w => ?_) (fun w => ?_)
        · exact vjX7_saidAhead_47 O hRm (V := V) (P := P) t hT (x1) (x2) (x3) (x4) post hQ (lX7_saidAhead_5 (cxE X).2.2.2.2 T L V P t x1 x2 post n) ih w
        · refine g_iinc (v := (x3 + 1)) O dX7_saidAhead_44 rfl rfl rfl (lv' := [some (.ref t), some (.int x1), some (.int x2), some (.int (x3 + 1)), some (.int x4)]) rfl ?_
          exact vjX7_saidAhead_47 O hRm (V := V) (P := P) t hT (x1) (x2) ((x3 + 1)) (x4) post hQ (lX7_saidAhead_5 (cxE X).2.2.2.2 T L V P t x1 x2 post n) ih w
set_option maxHeartbeats 4000000 in
theorem kX7_saidAhead (l : Launch) (hfl : l.flags = flags0) (E : w_E) (z : Nat) (T L : Nat → Nat) (V : w_V) (P : w_P) (t : Nat) (hT : T t = 7) (x1 : Int32) (x2 : Int32) (post : Int32 → Prop) (w : wX7_saidAhead E.2.2.2.2 T L V P t x1 x2 post) : gMi l yX7_saidAhead (ws_ yX7_saidAhead cX7_saidAhead 5 (some .int)) rX7_saidAhead 0 0 E [.ref t, .int x1, .int x2] (z, T, L, V, P) (xW0 z T L V P) (fun x (_ : Unit) => post x) := by
  refine g_start (S := Unit) hfl (by decide +kernel) rfl [some (.ref t), some (.int x1), some (.int x2), none, none] rfl (fun _ h => h) (Nat.le_of_ble_eq_true rfl) (fun X hl hRm hEe O hQ => ?_)
  subst hl
  subst hEe
  unfold wX7_saidAhead at w
  refine g_iconst (v := 0) O dX7_saidAhead_0 (by decide) ?_
  refine g_istore_n O dX7_saidAhead_1 (Nat.le_of_ble_eq_true rfl) rfl (lv' := [some (.ref t), some (.int x1), some (.int x2), some (.int 0), none]) rfl ?_
  refine g_iconst (v := 0) O dX7_saidAhead_2 (by decide) ?_
  refine g_istore O dX7_saidAhead_3 (Nat.le_of_ble_eq_true rfl) rfl (lv' := [some (.ref t), some (.int x1), some (.int x2), some (.int 0), some (.int 0)]) rfl ?_
  obtain ⟨n10, w⟩ := w
  exact vlX7_saidAhead_5 O hRm (V := V) (P := P) t hT (x1) (x2) post hQ n10 (0) (0) w
-- X7_hears
abbrev rX7_hears : Room := { frames := 1247, cells := 0, slots := 0, locals := 37325 }
set_option maxHeartbeats 4000000 in
theorem vjX7_hears_156 {X : Cx} {z : Nat} {T L : Nat → Nat} {V : w_V} {P : w_P} (O : Okc X cX7_hears RX7 8 none) (hRm : cxR X = rX7_hears) (t : Nat) (hT : T t = 7) (x1 : Int32) (x2 : Int32) (x3 : Int32) (x4 : Int32) (post : w_V → Prop) (hQ : cxMQ X (va_Qv post (fun u t => wdW (cxE X) (xW1 z T L P u) t.heap) (w_A (cxE X))) 0 0) (kb : Int32 → w_V → Prop) (hkb : ∀ (y4 : Int32) (V2 : w_V), kb y4 V2 → gW X 0 0 z T L V2 P 28 [some (.ref t), some (.int x1), some (.int x2), some (.int x3), some (.int y4), none, none, none] []) (w : jX7_hears_156 (cxE X).2.2.2.2 T L V P t x1 x2 x3 x4 post kb) : gW X 0 0 z T L V P 156 [some (.ref t), some (.int x1), some (.int x2), some (.int x3), some (.int x4), none, none, none] [] := by
  unfold jX7_hears_156 at w
  refine g_iinc (v := (x4 + 1)) O dX7_hears_156 rfl rfl rfl (lv' := [some (.ref t), some (.int x1), some (.int x2), some (.int x3), some (.int (x4 + 1)), none, none, none]) rfl ?_
  refine g_goto (tgt := 28) O dX7_hears_159 (by decide) ?_
  exact hkb ((x4 + 1)) (V) w
set_option maxHeartbeats 4000000 in
theorem vjX7_hears_139 {X : Cx} {z : Nat} {T L : Nat → Nat} {V : w_V} {P : w_P} (O : Okc X cX7_hears RX7 8 none) (hRm : cxR X = rX7_hears) (t : Nat) (hT : T t = 7) (x1 : Int32) (x2 : Int32) (x3 : Int32) (x4 : Int32) (x6 : Int32) (t0 : Int32) (t1 : Int32) (post : w_V → Prop) (hQ : cxMQ X (va_Qv post (fun u t => wdW (cxE X) (xW1 z T L P u) t.heap) (w_A (cxE X))) 0 0) (kb : Int32 → w_V → Prop) (hkb : ∀ (y4 : Int32) (V2 : w_V), kb y4 V2 → gW X 0 0 z T L V2 P 28 [some (.ref t), some (.int x1), some (.int x2), some (.int x3), some (.int y4), none, none, none] []) (w : jX7_hears_139 (cxE X).2.2.2.2 T L V P t x1 x2 x3 x4 x6 t0 t1 post kb) : gW X 0 0 z T L V P 139 [some (.ref t), some (.int x1), some (.int x2), some (.int x3), some (.int x4), none, some (.int x6), none] [.int t0, .int t1, .ref (t + 3)] := by
  unfold jX7_hears_139 at w
  obtain ⟨i55, hi56, e57, w⟩ := w
  refine gx_iast (a := t) (kk0 := 5) (len := 30) (nn := i55) O (ha_own (lay := 6) (j := 4) (off := 3) (ty := 0) (len := 30) (by decide) hT rfl (by decide)) hi56 (by decide) e57 dX7_hears_139 ?_
  refine g_nV w (fun V58 w _ => ?_)
  refine g_aload_n O dX7_hears_140 rfl ?_
  refine gx_getA (lay := 6) (j := 5) O ck6 (by decide) rfl rfl (by decide) hT q747 dX7_hears_141 ?_
  refine g_iload O dX7_hears_144 rfl ?_
  refine g_iload_n O dX7_hears_146 rfl ?_
  obtain ⟨i59, hi60, e61, w⟩ := w
  refine gx_iast (a := t) (kk0 := 6) (len := 30) (nn := i59) O (ha_own (lay := 6) (j := 5) (off := 4) (ty := 0) (len := 30) (by decide) hT rfl (by decide)) hi60 (by decide) e61 dX7_hears_147 ?_
  refine g_nV w (fun V62 w _ => ?_)
  refine g_aload_n O dX7_hears_148 rfl ?_
  refine gx_getA (lay := 6) (j := 6) O ck6 (by decide) rfl rfl (by decide) hT q749 dX7_hears_149 ?_
  refine g_iload O dX7_hears_152 rfl ?_
  refine g_iload_n O dX7_hears_154 rfl ?_
  obtain ⟨i63, hi64, e65, w⟩ := w
  refine gx_iast (a := t) (kk0 := 7) (len := 30) (nn := i63) O (ha_own (lay := 6) (j := 6) (off := 5) (ty := 0) (len := 30) (by decide) hT rfl (by decide)) hi64 (by decide) e65 dX7_hears_155 ?_
  refine g_nV w (fun V66 w _ => ?_)
  refine g_drop [6] (lv' := [some (.ref t), some (.int x1), some (.int x2), some (.int x3), some (.int x4), none, none, none]) rfl ?_
  exact vjX7_hears_156 O hRm (V := V66) (P := P) t hT (x1) (x2) (x3) (x4) post hQ kb hkb w
set_option maxHeartbeats 4000000 in
theorem vlX7_hears_28 {X : Cx} {z : Nat} {T L : Nat → Nat} {P : w_P} (O : Okc X cX7_hears RX7 8 none) (hRm : cxR X = rX7_hears) (t : Nat) (hT : T t = 7) (x1 : Int32) (x2 : Int32) (x3 : Int32) (post : w_V → Prop) (hQ : cxMQ X (va_Qv post (fun u t => wdW (cxE X) (xW1 z T L P u) t.heap) (w_A (cxE X))) 0 0)  : ∀ (n : Nat) (x4 : Int32) (V : w_V), lX7_hears_28 (cxE X).2.2.2.2 T L P t x1 x2 x3 post n x4 V → gW X 0 0 z T L V P 28 [some (.ref t), some (.int x1), some (.int x2), some (.int x3), some (.int x4), none, none, none] [] := by
  intro n
  induction n with
  | zero =>
    intro x4 V w
    exact w.elim
  | succ n ih =>
    intro x4 V w
    unfold lX7_hears_28 at w
    refine g_iload O dX7_hears_28 rfl ?_
    refine g_aload_n O dX7_hears_30 rfl ?_
    refine g_ri0 (gr_V (lay := 6) (nA := 0) (As := []) (rest := [.int x4]) O hRm (kX7_cases _ O.2.2.2.2.2.2.2.2 _ _ _ _ _ _ t hT _ w) (lw_V q1334 q1336 qs28 q132 q1337) rfl rfl (by decide +kernel) ⟨Nat.le_of_ble_eq_true rfl, Nat.le_of_ble_eq_true rfl⟩ ck6 (by decide) rfl hT rfl rfl rfl (Nat.le_of_ble_eq_true rfl) dX7_hears_31 ⟨Nat.le_of_ble_eq_true rfl, Nat.le_of_ble_eq_true rfl⟩) (fun r10 w => ?_)
    refine g_icmp_ge (tgt := 162) O w dX7_hears_34 (by decide) (fun w => ?_) (fun w => ?_)
    · exact g_vret (f := xW1 z T L P) (u := V) O hQ rfl w dX7_hears_162
    · refine g_aload_n O dX7_hears_37 rfl ?_
      obtain ⟨b13, hp14, ht15, w⟩ := w
      refine gx_getR (lay := 6) (j := 0) O ck6 (by decide) rfl rfl hp14 (by decide) hT q739 dX7_hears_38 ?_
      obtain ⟨b16, hp17, ht18, w⟩ := w
      refine gx_getRN (lay := 2) (j := 7) O ck2 (by decide) rfl rfl hp17 (by decide) ht15 q544 dX7_hears_41 ?_
      refine g_iload O dX7_hears_44 rfl ?_
      refine g_rq0 (gr_V (lay := 15) (nA := 1) (As := [.int x4]) (rest := []) O hRm (kJ2_get _ O.2.2.2.2.2.2.2.2 _ _ _ _ _ _ b16 ht18 (x4) _ w) (lw_V q1306 q796 q797 q110 q798) rfl rfl (by decide +kernel) ⟨Nat.le_of_ble_eq_true rfl, Nat.le_of_ble_eq_true rfl⟩ ck15 (by decide) rfl ht18 rfl rfl rfl (Nat.le_of_ble_eq_true rfl) dX7_hears_46 ⟨Nat.le_of_ble_eq_true rfl, Nat.le_of_ble_eq_true rfl⟩) (fun r19 w => ?_)
      obtain ⟨a22, k23, n24, h25, g26, w⟩ := w
      refine gx_castA (fty := .int) O h25 rfl (by decide) (fun _ h => by cases h) q1338 dX7_hears_49 ?_
      refine g_iload_n O dX7_hears_52 rfl ?_
      obtain ⟨i27, hi28, e29, w⟩ := w
      refine gx_iald (a := a22) (kk0 := k23) (len := n24) (nn := i27) O h25 hi28 g26 e29 dX7_hears_53 ?_
      refine g_istore O dX7_hears_54 (Nat.le_of_ble_eq_true rfl) rfl (lv' := [some (.ref t), some (.int x1), some (.int x2), some (.int x3), some (.int x4), some (.int (V a22 k23 i27)), none, none]) rfl ?_
      refine g_iconst (v := 5) O dX7_hears_56 (by decide) ?_
      refine g_iload O dX7_hears_57 rfl ?_
      refine g_imul O dX7_hears_59 ?_
      refine g_iload_n O dX7_hears_60 rfl ?_
      refine g_iadd O dX7_hears_61 ?_
      refine g_istore O dX7_hears_62 (Nat.le_of_ble_eq_true rfl) rfl (lv' := [some (.ref t), some (.int x1), some (.int x2), some (.int x3), some (.int x4), some (.int (V a22 k23 i27)), some (.int ((5 * x4) + x1)), none]) rfl ?_
      refine g_iload O dX7_hears_64 rfl ?_
      refine g_iconst (v := (-1)) O dX7_hears_66 (by decide) ?_
      refine g_icmp_eq (tgt := 156) O w dX7_hears_67 (by decide) (fun w => ?_) (fun w => ?_)
      · refine g_drop [5, 6] (lv' := [some (.ref t), some (.int x1), some (.int x2), some (.int x3), some (.int x4), none, none, none]) rfl ?_
        exact vjX7_hears_156 O hRm (V := V) (P := P) t hT (x1) (x2) (x3) (x4) post hQ (lX7_hears_28 (cxE X).2.2.2.2 T L P t x1 x2 x3 post n) ih w
      · refine g_aload_n O dX7_hears_70 rfl ?_
        refine gx_getA (lay := 6) (j := 4) O ck6 (by decide) rfl rfl (by decide) hT q745 dX7_hears_71 ?_
        refine g_iload O dX7_hears_74 rfl ?_
        obtain ⟨i30, hi31, e32, w⟩ := w
        refine gx_iald (a := t) (kk0 := 5) (len := 30) (nn := i30) O (ha_own (lay := 6) (j := 4) (off := 3) (ty := 0) (len := 30) (by decide) hT rfl (by decide)) hi31 (by decide) e32 dX7_hears_76 ?_
        refine g_iconst (v := (-1)) O dX7_hears_77 (by decide) ?_
        refine g_icmp_eq (tgt := 84) O w dX7_hears_78 (by decide) (fun w => ?_) (fun w => ?_)
        · refine g_aload_n O dX7_hears_84 rfl ?_
          obtain ⟨b33, hp34, ht35, w⟩ := w
          refine gx_getR (lay := 6) (j := 0) O ck6 (by decide) rfl rfl hp34 (by decide) hT q739 dX7_hears_85 ?_
          obtain ⟨b36, hp37, ht38, w⟩ := w
          refine gx_getRN (lay := 2) (j := 6) O ck2 (by decide) rfl rfl hp37 (by decide) ht35 q540 dX7_hears_88 ?_
          refine g_iload_n O dX7_hears_91 rfl ?_
          refine g_rq0 (gr_V (lay := 15) (nA := 1) (As := [.int x1]) (rest := []) O hRm (kJ2_get _ O.2.2.2.2.2.2.2.2 _ _ _ _ _ _ b36 ht38 (x1) _ w) (lw_V q1306 q796 q797 q110 q798) rfl rfl (by decide +kernel) ⟨Nat.le_of_ble_eq_true rfl, Nat.le_of_ble_eq_true rfl⟩ ck15 (by decide) rfl ht38 rfl rfl rfl (Nat.le_of_ble_eq_true rfl) dX7_hears_92 ⟨Nat.le_of_ble_eq_true rfl, Nat.le_of_ble_eq_true rfl⟩) (fun r39 w => ?_)
          obtain ⟨ht42, w⟩ := w
          refine gj_cast O ht42 q1307 dX7_hears_95 ?_
          refine g_astore O dX7_hears_98 (Nat.le_of_ble_eq_true rfl) rfl (lv' := [some (.ref t), some (.int x1), some (.int x2), some (.int x3), some (.int x4), some (.int (V a22 k23 i27)), some (.int ((5 * x4) + x1)), some (.ref r39)]) rfl ?_
          refine g_aload_n O dX7_hears_100 rfl ?_
          refine gx_getA (lay := 6) (j := 4) O ck6 (by decide) rfl rfl (by decide) hT q745 dX7_hears_101 ?_
          refine g_iload O dX7_hears_104 rfl ?_
          refine g_aload O dX7_hears_106 rfl ?_
          refine g_aload_n O dX7_hears_108 rfl ?_
          obtain ⟨b43, hp44, ht45, w⟩ := w
          refine gx_getR (lay := 6) (j := 0) O ck6 (by decide) rfl rfl hp44 (by decide) hT q739 dX7_hears_109 ?_
          refine g_aload O dX7_hears_112 rfl ?_
          refine g_iload O dX7_hears_114 rfl ?_
          refine g_iload_n O dX7_hears_116 rfl ?_
          refine g_iload_n O dX7_hears_117 rfl ?_
          refine g_aload_n O dX7_hears_118 rfl ?_
          refine g_iload O dX7_hears_119 rfl ?_
          refine g_iload_n O dX7_hears_121 rfl ?_
          refine g_ri0 (gr_V (lay := 6) (nA := 2) (As := [.int x4, .int x2]) (rest := [.int x3, .int x2, .int (V a22 k23 i27), .ref r39, .ref b43, .ref r39, .int ((5 * x4) + x1), .ref (t + 3)]) O hRm (kX7_saidAhead _ O.2.2.2.2.2.2.2.2 _ _ _ _ _ _ t hT (x4) (x2) _ w) (lw_V q1339 q1341 qs29 q132 q1342) rfl rfl (by decide +kernel) ⟨Nat.le_of_ble_eq_true rfl, Nat.le_of_ble_eq_true rfl⟩ ck6 (by decide) rfl hT rfl rfl rfl (Nat.le_of_ble_eq_true rfl) dX7_hears_122 ⟨Nat.le_of_ble_eq_true rfl, Nat.le_of_ble_eq_true rfl⟩) (fun r46 w => ?_)
          refine g_ri1 (gr_V (lay := 2) (nA := 5) (As := [.ref r39, .int (V a22 k23 i27), .int x2, .int x3, .int r46]) (rest := [.ref r39, .int ((5 * x4) + x1), .ref (t + 3)]) O hRm (kX2_byLaw _ O.2.2.2.2.2.2.2.2 _ _ _ _ _ _ b43 ht45 r39 ht42 ((V a22 k23 i27)) (x2) (x3) (r46) _ w) (lw_V q1343 q1344 q1345 q107 q1346) rfl rfl (by decide +kernel) ⟨Nat.le_of_ble_eq_true rfl, Nat.le_of_ble_eq_true rfl⟩ ck2 (by decide) rfl ht45 rfl rfl rfl (Nat.le_of_ble_eq_true rfl) dX7_hears_125 ⟨Nat.le_of_ble_eq_true rfl, Nat.le_of_ble_eq_true rfl⟩) (fun r49 V50 w => ?_)
          refine g_ri0 (g_disp3 ht42 (fun h => (gr_V (lay := 12) (nA := 1) (As := [.int r49]) (rest := [.int ((5 * x4) + x1), .ref (t + 3)]) O hRm (kX16_says _ O.2.2.2.2.2.2.2.2 _ _ _ _ _ _ r39 (Or.inl h) (r49) _ (w.1 h)) (lw_V q1380 q1381 q1382 q143 q1389) rfl rfl (by decide +kernel) ⟨Nat.le_of_ble_eq_true rfl, Nat.le_of_ble_eq_true rfl⟩ ck12 (by decide) rfl h rfl rfl rfl (Nat.le_of_ble_eq_true rfl) dX7_hears_128 ⟨Nat.le_of_ble_eq_true rfl, Nat.le_of_ble_eq_true rfl⟩)) (fun h => (gr_U (owner := "ApartBench$Judge") (lay := 13) (nA := 1) (As := [.int r49]) (rest := [.int ((5 * x4) + x1), .ref (t + 3)]) O hRm (kX16_says _ O.2.2.2.2.2.2.2.2 _ _ _ _ _ _ r39 (Or.inr (Or.inl h)) (r49) _ (w.2.1 h)) (lw_U q1380 q1383 q1384 q1381 q143 q1389) rfl rfl rfl (by decide +kernel) ⟨Nat.le_of_ble_eq_true rfl, Nat.le_of_ble_eq_true rfl⟩ ck13 (by decide) rfl h rfl rfl rfl (Nat.le_of_ble_eq_true rfl) dX7_hears_128 ⟨Nat.le_of_ble_eq_true rfl, Nat.le_of_ble_eq_true rfl⟩)) (fun h => (gr_O (owner := "ApartBench$Judge") (lay := 14) (nA := 1) (As := [.int r49]) (rest := [.int ((5 * x4) + x1), .ref (t + 3)]) O hRm (kX18_says _ O.2.2.2.2.2.2.2.2 _ _ _ _ _ _ r39 h (r49) _ (w.2.2 h)) (lw_O q1380 q1383 q1381 q1385 q1386 q145 q1387) rfl rfl q1389 (by decide +kernel) ⟨Nat.le_of_ble_eq_true rfl, Nat.le_of_ble_eq_true rfl⟩ ck14 (by decide) rfl h rfl rfl rfl (Nat.le_of_ble_eq_true rfl) dX7_hears_128 ⟨Nat.le_of_ble_eq_true rfl, Nat.le_of_ble_eq_true rfl⟩))) (fun r52 w => ?_)
          refine g_if_eq (tgt := 138) O w dX7_hears_131 (by decide) (fun w => ?_) (fun w => ?_)
          · refine g_iconst (v := 0) O dX7_hears_138 (by decide) ?_
            refine g_drop [5, 7] (lv' := [some (.ref t), some (.int x1), some (.int x2), some (.int x3), some (.int x4), none, some (.int ((5 * x4) + x1)), none]) rfl ?_
            exact vjX7_hears_139 O hRm (V := V50) (P := P) t hT (x1) (x2) (x3) (x4) (((5 * x4) + x1)) (0) (((5 * x4) + x1)) post hQ (lX7_hears_28 (cxE X).2.2.2.2 T L P t x1 x2 x3 post n) ih w
          · refine g_iconst (v := 1) O dX7_hears_134 (by decide) ?_
            refine g_goto (tgt := 139) O dX7_hears_135 (by decide) ?_
            refine g_drop [5, 7] (lv' := [some (.ref t), some (.int x1), some (.int x2), some (.int x3), some (.int x4), none, some (.int ((5 * x4) + x1)), none]) rfl ?_
            exact vjX7_hears_139 O hRm (V := V50) (P := P) t hT (x1) (x2) (x3) (x4) (((5 * x4) + x1)) (1) (((5 * x4) + x1)) post hQ (lX7_hears_28 (cxE X).2.2.2.2 T L P t x1 x2 x3 post n) ih w
        · refine g_goto (tgt := 156) O dX7_hears_81 (by decide) ?_
          refine g_drop [5, 6] (lv' := [some (.ref t), some (.int x1), some (.int x2), some (.int x3), some (.int x4), none, none, none]) rfl ?_
          exact vjX7_hears_156 O hRm (V := V) (P := P) t hT (x1) (x2) (x3) (x4) post hQ (lX7_hears_28 (cxE X).2.2.2.2 T L P t x1 x2 x3 post n) ih w
set_option maxHeartbeats 4000000 in
theorem kX7_hears (l : Launch) (hfl : l.flags = flags0) (E : w_E) (z : Nat) (T L : Nat → Nat) (V : w_V) (P : w_P) (t : Nat) (hT : T t = 7) (x1 : Int32) (x2 : Int32) (post : w_V → Prop) (w : wX7_hears E.2.2.2.2 T L V P t x1 x2 post) : gMv l yX7_hears (ws_ yX7_hears cX7_hears 8 none) rX7_hears 0 0 E [.ref t, .int x1, .int x2] (z, T, L, V, P) (xW1 z T L P) post := by
  refine g_start (S := Unit) hfl (by decide +kernel) rfl [some (.ref t), some (.int x1), some (.int x2), none, none, none, none, none] rfl (fun _ h => h) (Nat.le_of_ble_eq_true rfl) (fun X hl hRm hEe O hQ => ?_)
  subst hl
  subst hEe
  unfold wX7_hears at w
  refine g_aload_n O dX7_hears_0 rfl ?_
  refine g_iload_n O dX7_hears_1 rfl ?_
  refine g_iload_n O dX7_hears_2 rfl ?_
  refine g_ri0 (gr_V (lay := 6) (nA := 2) (As := [.int x1, .int x2]) (rest := []) O hRm (kX7_at _ O.2.2.2.2.2.2.2.2 _ _ _ _ _ _ t hT (x1) (x2) _ w) (lw_V q1326 q1327 q1328 q132 q1329) rfl rfl (by decide +kernel) ⟨Nat.le_of_ble_eq_true rfl, Nat.le_of_ble_eq_true rfl⟩ ck6 (by decide) rfl hT rfl rfl rfl (Nat.le_of_ble_eq_true rfl) dX7_hears_3 ⟨Nat.le_of_ble_eq_true rfl, Nat.le_of_ble_eq_true rfl⟩) (fun r1 w => ?_)
  refine g_istore_n O dX7_hears_6 (Nat.le_of_ble_eq_true rfl) rfl (lv' := [some (.ref t), some (.int x1), some (.int x2), some (.int r1), none, none, none, none]) rfl ?_
  refine g_iload_n O dX7_hears_7 rfl ?_
  refine g_iconst (v := (-1)) O dX7_hears_8 (by decide) ?_
  refine g_icmp_eq (tgt := 24) O w dX7_hears_9 (by decide) (fun w => ?_) (fun w => ?_)
  · exact g_vret (f := xW1 z T L P) (u := V) O hQ rfl w dX7_hears_24
  · refine g_aload_n O dX7_hears_12 rfl ?_
    obtain ⟨b4, hp5, ht6, w⟩ := w
    refine gx_getR (lay := 6) (j := 1) O ck6 (by decide) rfl rfl hp5 (by decide) hT q740 dX7_hears_13 ?_
    refine g_iload_n O dX7_hears_16 rfl ?_
    refine g_iload_n O dX7_hears_17 rfl ?_
    refine g_ri0 (gr_V (lay := 5) (nA := 2) (As := [.int r1, .int x2]) (rest := []) O hRm (kX6_isFeast _ O.2.2.2.2.2.2.2.2 _ _ _ _ _ _ b4 ht6 (r1) (x2) _ w) (lw_V q1330 q1331 q1332 q131 q1333) rfl rfl (by decide +kernel) ⟨Nat.le_of_ble_eq_true rfl, Nat.le_of_ble_eq_true rfl⟩ ck5 (by decide) rfl ht6 rfl rfl rfl (Nat.le_of_ble_eq_true rfl) dX7_hears_18 ⟨Nat.le_of_ble_eq_true rfl, Nat.le_of_ble_eq_true rfl⟩) (fun r7 w => ?_)
    refine g_if_eq (tgt := 25) O w dX7_hears_21 (by decide) (fun w => ?_) (fun w => ?_)
    · refine g_iconst (v := 0) O dX7_hears_25 (by decide) ?_
      refine g_istore O dX7_hears_26 (Nat.le_of_ble_eq_true rfl) rfl (lv' := [some (.ref t), some (.int x1), some (.int x2), some (.int r1), some (.int 0), none, none, none]) rfl ?_
      obtain ⟨n67, w⟩ := w
      exact vlX7_hears_28 O hRm (P := P) t hT (x1) (x2) (r1) post hQ n67 (0) (V) w
    · exact g_vret (f := xW1 z T L P) (u := V) O hQ rfl w dX7_hears_24
-- X16_hears
abbrev rX16_hears : Room := { frames := 1, cells := 0, slots := 0, locals := 12 }
set_option maxHeartbeats 4000000 in
theorem kX16_hears (l : Launch) (hfl : l.flags = flags0) (E : w_E) (z : Nat) (T L : Nat → Nat) (V : w_V) (P : w_P) (t : Nat) (hT : jT T t) (post : Int32 → Prop) (w : wX16_hears E.2.2.2.2 T L V P t post) : gMi l yX16_hears (ws_ yX16_hears cX16_hears 1 (some .boolean)) rX16_hears 0 0 E [.ref t] (z, T, L, V, P) (xW0 z T L V P) (fun x (_ : Unit) => post x) := by
  refine g_start (S := Unit) hfl (by decide +kernel) rfl [some (.ref t)] rfl (fun _ h => h) (Nat.le_of_ble_eq_true rfl) (fun X hl hRm hEe O hQ => ?_)
  subst hl
  subst hEe
  unfold wX16_hears at w
  refine g_iconst (v := 1) O dX16_hears_0 (by decide) ?_
  exact g_iret (f := xW0 z T L V P) (u := ()) O hQ rfl rfl w dX16_hears_1
-- X17_hears
abbrev rX17_hears : Room := { frames := 2, cells := 0, slots := 0, locals := 32 }
set_option maxHeartbeats 4000000 in
theorem kX17_hears (l : Launch) (hfl : l.flags = flags0) (E : w_E) (z : Nat) (T L : Nat → Nat) (V : w_V) (P : w_P) (t : Nat) (hT : T t = 14) (post : Int32 → Prop) (w : wX17_hears E.2.2.2.2 T L V P t post) : gMi l yX17_hears (ws_ yX17_hears cX17_hears 1 (some .boolean)) rX17_hears 0 0 E [.ref t] (z, T, L, V, P) (xW0 z T L V P) (fun x (_ : Unit) => post x) := by
  refine g_start (S := Unit) hfl (by decide +kernel) rfl [some (.ref t)] rfl (fun _ h => h) (Nat.le_of_ble_eq_true rfl) (fun X hl hRm hEe O hQ => ?_)
  subst hl
  subst hEe
  unfold wX17_hears at w
  refine g_aload_n O dX17_hears_0 rfl ?_
  refine g_ri0 (gr_SU (lay := 13) (nA := 0) (As := []) (rest := []) O hRm (kX16_hears _ O.2.2.2.2.2.2.2.2 _ _ _ _ _ _ t (Or.inr (Or.inl hT)) _ w) (lw_SU q1417 q1413 q1231 q1411 q143 q1418) rfl rfl (by decide +kernel) ⟨Nat.le_of_ble_eq_true rfl, Nat.le_of_ble_eq_true rfl⟩ ck13 (by decide) rfl hT rfl rfl rfl (Nat.le_of_ble_eq_true rfl) dX17_hears_1 ⟨Nat.le_of_ble_eq_true rfl, Nat.le_of_ble_eq_true rfl⟩) (fun r1 w => ?_)
  refine g_if_ne (tgt := 11) O w dX17_hears_4 (by decide) (fun w => ?_) (fun w => ?_)
  · refine g_iconst (v := 0) O dX17_hears_11 (by decide) ?_
    exact g_iret (f := xW0 z T L V P) (u := ()) O hQ rfl rfl w dX17_hears_12
  · refine g_iconst (v := 1) O dX17_hears_7 (by decide) ?_
    refine g_goto (tgt := 12) O dX17_hears_8 (by decide) ?_
    exact g_iret (f := xW0 z T L V P) (u := ()) O hQ rfl rfl w dX17_hears_12
-- X7_hears_2
abbrev rX7_hears_2 : Room := { frames := 4, cells := 0, slots := 0, locals := 76 }
set_option maxHeartbeats 4000000 in
theorem vjX7_hears_2_37 {X : Cx} {z : Nat} {T L : Nat → Nat} {V : w_V} {P : w_P} (O : Okc X cX7_hears_2 RX7 2 (some .boolean)) (hRm : cxR X = rX7_hears_2) (t : Nat) (hT : T t = 7) (t0 : Int32) (t1 : Int32) (post : Int32 → Prop) (hQ : cxMQ X (va_Qi (fun x (_ : Unit) => post x) (fun u t => wdW (cxE X) (xW0 z T L V P u) t.heap) (w_A (cxE X))) 0 0) (w : jX7_hears_2_37 (cxE X).2.2.2.2 T L V P t t0 t1 post) : gW X 0 0 z T L V P 37 [some (.ref t), none] [.int t0, .int t1] := by
  unfold jX7_hears_2_37 at w
  refine g_icmp_eq (tgt := 44) O w dX7_hears_2_37 (by decide) (fun w => ?_) (fun w => ?_)
  · refine g_iconst (v := 0) O dX7_hears_2_44 (by decide) ?_
    exact g_iret (f := xW0 z T L V P) (u := ()) O hQ rfl rfl w dX7_hears_2_45
  · refine g_iconst (v := 1) O dX7_hears_2_40 (by decide) ?_
    refine g_goto (tgt := 45) O dX7_hears_2_41 (by decide) ?_
    exact g_iret (f := xW0 z T L V P) (u := ()) O hQ rfl rfl w dX7_hears_2_45
set_option maxHeartbeats 4000000 in
theorem kX7_hears_2 (l : Launch) (hfl : l.flags = flags0) (E : w_E) (z : Nat) (T L : Nat → Nat) (V : w_V) (P : w_P) (t : Nat) (hT : T t = 7) (x1 : Int32) (post : Int32 → Prop) (w : wX7_hears_2 E.2.2.2.2 T L V P t x1 post) : gMi l yX7_hears_2 (ws_ yX7_hears_2 cX7_hears_2 2 (some .boolean)) rX7_hears_2 0 0 E [.ref t, .int x1] (z, T, L, V, P) (xW0 z T L V P) (fun x (_ : Unit) => post x) := by
  refine g_start (S := Unit) hfl (by decide +kernel) rfl [some (.ref t), some (.int x1)] rfl (fun _ h => h) (Nat.le_of_ble_eq_true rfl) (fun X hl hRm hEe O hQ => ?_)
  subst hl
  subst hEe
  unfold wX7_hears_2 at w
  refine g_aload_n O dX7_hears_2_0 rfl ?_
  obtain ⟨b1, hp2, ht3, w⟩ := w
  refine gx_getR (lay := 6) (j := 0) O ck6 (by decide) rfl rfl hp2 (by decide) hT q739 dX7_hears_2_1 ?_
  obtain ⟨b4, hp5, ht6, w⟩ := w
  refine gx_getRN (lay := 2) (j := 6) O ck2 (by decide) rfl rfl hp5 (by decide) ht3 q540 dX7_hears_2_4 ?_
  refine g_iload_n O dX7_hears_2_7 rfl ?_
  refine g_rq0 (gr_V (lay := 15) (nA := 1) (As := [.int x1]) (rest := []) O hRm (kJ2_get _ O.2.2.2.2.2.2.2.2 _ _ _ _ _ _ b4 ht6 (x1) _ w) (lw_V q1306 q796 q797 q110 q798) rfl rfl (by decide +kernel) ⟨Nat.le_of_ble_eq_true rfl, Nat.le_of_ble_eq_true rfl⟩ ck15 (by decide) rfl ht6 rfl rfl rfl (Nat.le_of_ble_eq_true rfl) dX7_hears_2_8 ⟨Nat.le_of_ble_eq_true rfl, Nat.le_of_ble_eq_true rfl⟩) (fun r7 w => ?_)
  obtain ⟨ht10, w⟩ := w
  refine gj_cast O ht10 q1307 dX7_hears_2_11 ?_
  refine g_ri0 (g_disp3 ht10 (fun h => (gr_V (lay := 12) (nA := 0) (As := []) (rest := []) O hRm (kX16_hears _ O.2.2.2.2.2.2.2.2 _ _ _ _ _ _ r7 (Or.inl h) _ (w.1 h)) (lw_V q1410 q1411 q1412 q143 q1418) rfl rfl (by decide +kernel) ⟨Nat.le_of_ble_eq_true rfl, Nat.le_of_ble_eq_true rfl⟩ ck12 (by decide) rfl h rfl rfl rfl (Nat.le_of_ble_eq_true rfl) dX7_hears_2_14 ⟨Nat.le_of_ble_eq_true rfl, Nat.le_of_ble_eq_true rfl⟩)) (fun h => (gr_O (owner := "ApartBench$Judge") (lay := 13) (nA := 0) (As := []) (rest := []) O hRm (kX17_hears _ O.2.2.2.2.2.2.2.2 _ _ _ _ _ _ r7 h _ (w.2.1 h)) (lw_O q1410 q1413 q1411 q1414 q1415 q144 q1416) rfl rfl q1418 (by decide +kernel) ⟨Nat.le_of_ble_eq_true rfl, Nat.le_of_ble_eq_true rfl⟩ ck13 (by decide) rfl h rfl rfl rfl (Nat.le_of_ble_eq_true rfl) dX7_hears_2_14 ⟨Nat.le_of_ble_eq_true rfl, Nat.le_of_ble_eq_true rfl⟩)) (fun h => (gr_U (owner := "ApartBench$Judge") (lay := 14) (nA := 0) (As := []) (rest := []) O hRm (kX16_hears _ O.2.2.2.2.2.2.2.2 _ _ _ _ _ _ r7 (Or.inr (Or.inr h)) _ (w.2.2 h)) (lw_U q1410 q1413 q1419 q1411 q143 q1418) rfl rfl rfl (by decide +kernel) ⟨Nat.le_of_ble_eq_true rfl, Nat.le_of_ble_eq_true rfl⟩ ck14 (by decide) rfl h rfl rfl rfl (Nat.le_of_ble_eq_true rfl) dX7_hears_2_14 ⟨Nat.le_of_ble_eq_true rfl, Nat.le_of_ble_eq_true rfl⟩))) (fun r11 w => ?_)
  refine g_aload_n O dX7_hears_2_17 rfl ?_
  obtain ⟨b14, hp15, ht16, w⟩ := w
  refine gx_getR (lay := 6) (j := 1) O ck6 (by decide) rfl rfl hp15 (by decide) hT q740 dX7_hears_2_18 ?_
  refine gx_getIN (lay := 5) (j := 9) O ck5 (by decide) rfl rfl (by decide) ht16 q607 dX7_hears_2_21 ?_
  refine g_iload_n O dX7_hears_2_24 rfl ?_
  refine g_ishr O dX7_hears_2_25 ?_
  refine g_iconst (v := 1) O dX7_hears_2_26 (by decide) ?_
  refine g_iand O dX7_hears_2_27 ?_
  refine g_iconst (v := 1) O dX7_hears_2_28 (by decide) ?_
  refine g_icmp_ne (tgt := 36) O w dX7_hears_2_29 (by decide) (fun w => ?_) (fun w => ?_)
  · refine g_iconst (v := 0) O dX7_hears_2_36 (by decide) ?_
    refine g_drop [1] (lv' := [some (.ref t), none]) rfl ?_
    exact vjX7_hears_2_37 O hRm (V := V) (P := P) t hT (0) (r11) post hQ w
  · refine g_iconst (v := 1) O dX7_hears_2_32 (by decide) ?_
    refine g_goto (tgt := 37) O dX7_hears_2_33 (by decide) ?_
    refine g_drop [1] (lv' := [some (.ref t), none]) rfl ?_
    exact vjX7_hears_2_37 O hRm (V := V) (P := P) t hT (1) (r11) post hQ w
-- X2_far
abbrev rX2_far : Room := { frames := 1, cells := 0, slots := 0, locals := 12 }
set_option maxHeartbeats 4000000 in
theorem kX2_far (l : Launch) (hfl : l.flags = flags0) (E : w_E) (z : Nat) (T L : Nat → Nat) (V : w_V) (P : w_P) (t : Nat) (hT : T t = 3) (x1 : Int32) (x2 : Int32) (post : Int32 → Prop) (w : wX2_far E.2.2.2.2 T L V P t x1 x2 post) : gMi l yX2_far (ws_ yX2_far cX2_far 3 (some .int)) rX2_far 0 0 E [.ref t, .int x1, .int x2] (z, T, L, V, P) (xW0 z T L V P) (fun x (_ : Unit) => post x) := by
  refine g_start (S := Unit) hfl (by decide +kernel) rfl [some (.ref t), some (.int x1), some (.int x2)] rfl (fun _ h => h) (Nat.le_of_ble_eq_true rfl) (fun X hl hRm hEe O hQ => ?_)
  subst hl
  subst hEe
  unfold wX2_far at w
  refine g_aload_n O dX2_far_0 rfl ?_
  refine gx_getA (lay := 2) (j := 5) O ck2 (by decide) rfl rfl (by decide) hT q537 dX2_far_1 ?_
  refine g_bipush (v := 9) O dX2_far_4 (by decide) ?_
  refine g_iload_n O dX2_far_6 rfl ?_
  refine g_imul O dX2_far_7 ?_
  refine g_iload_n O dX2_far_8 rfl ?_
  refine g_iadd O dX2_far_9 ?_
  obtain ⟨i1, hi2, e3, w⟩ := w
  refine gx_iald (a := t) (kk0 := 6) (len := 81) (nn := i1) O (ha_own (lay := 2) (j := 5) (off := 2) (ty := 0) (len := 81) (by decide) hT rfl (by decide)) hi2 (by decide) e3 dX2_far_10 ?_
  exact g_iret (f := xW0 z T L V P) (u := ()) O hQ rfl rfl w dX2_far_11
-- X2_news
abbrev rX2_news : Room := { frames := 2, cells := 0, slots := 0, locals := 34 }
set_option maxHeartbeats 4000000 in
theorem kX2_news (l : Launch) (hfl : l.flags = flags0) (E : w_E) (z : Nat) (T L : Nat → Nat) (V : w_V) (P : w_P) (t : Nat) (hT : T t = 3) (x1 : Int32) (x2 : Int32) (post : Int32 → Prop) (w : wX2_news E.2.2.2.2 T L V P t x1 x2 post) : gMi l yX2_news (ws_ yX2_news cX2_news 3 (some .int)) rX2_news 0 0 E [.ref t, .int x1, .int x2] (z, T, L, V, P) (xW0 z T L V P) (fun x (_ : Unit) => post x) := by
  refine g_start (S := Unit) hfl (by decide +kernel) rfl [some (.ref t), some (.int x1), some (.int x2)] rfl (fun _ h => h) (Nat.le_of_ble_eq_true rfl) (fun X hl hRm hEe O hQ => ?_)
  subst hl
  subst hEe
  unfold wX2_news at w
  refine g_aload_n O dX2_news_0 rfl ?_
  refine g_iload_n O dX2_news_1 rfl ?_
  refine g_iload_n O dX2_news_2 rfl ?_
  refine g_ri0 (gr_V (lay := 2) (nA := 2) (As := [.int x1, .int x2]) (rest := []) O hRm (kX2_far _ O.2.2.2.2.2.2.2.2 _ _ _ _ _ _ t hT (x1) (x2) _ w) (lw_V q1428 q1399 q1400 q107 q1401) rfl rfl (by decide +kernel) ⟨Nat.le_of_ble_eq_true rfl, Nat.le_of_ble_eq_true rfl⟩ ck2 (by decide) rfl hT rfl rfl rfl (Nat.le_of_ble_eq_true rfl) dX2_news_3 ⟨Nat.le_of_ble_eq_true rfl, Nat.le_of_ble_eq_true rfl⟩) (fun r1 w => ?_)
  refine g_sipush (v := 9999) O dX2_news_6 (by decide) ?_
  refine g_icmp_lt (tgt := 18) O w dX2_news_9 (by decide) (fun w => ?_) (fun w => ?_)
  · refine g_aload_n O dX2_news_18 rfl ?_
    refine g_iload_n O dX2_news_19 rfl ?_
    refine g_iload_n O dX2_news_20 rfl ?_
    refine g_ri0 (gr_V (lay := 2) (nA := 2) (As := [.int x1, .int x2]) (rest := []) O hRm (kX2_far _ O.2.2.2.2.2.2.2.2 _ _ _ _ _ _ t hT (x1) (x2) _ w) (lw_V q1428 q1399 q1400 q107 q1401) rfl rfl (by decide +kernel) ⟨Nat.le_of_ble_eq_true rfl, Nat.le_of_ble_eq_true rfl⟩ ck2 (by decide) rfl hT rfl rfl rfl (Nat.le_of_ble_eq_true rfl) dX2_news_21 ⟨Nat.le_of_ble_eq_true rfl, Nat.le_of_ble_eq_true rfl⟩) (fun r4 w => ?_)
    refine g_aload_n O dX2_news_24 rfl ?_
    refine gx_getI (lay := 2) (j := 2) O ck2 (by decide) rfl rfl (by decide) hT q529 dX2_news_25 ?_
    refine g_imul O dX2_news_28 ?_
    refine g_bipush (v := 9) O dX2_news_29 (by decide) ?_
    refine g_iadd O dX2_news_31 ?_
    refine g_bipush (v := 10) O dX2_news_32 (by decide) ?_
    refine g_idiv O (by decide) dX2_news_34 ?_
    exact g_iret (f := xW0 z T L V P) (u := ()) O hQ rfl rfl w dX2_news_35
  · refine g_sipush (v := 9999) O dX2_news_12 (by decide) ?_
    refine g_goto (tgt := 35) O dX2_news_15 (by decide) ?_
    exact g_iret (f := xW0 z T L V P) (u := ()) O hQ rfl rfl w dX2_news_35
-- X7_isReached
abbrev rX7_isReached : Room := { frames := 5, cells := 0, slots := 0, locals := 97 }
set_option maxHeartbeats 4000000 in
theorem vjX7_isReached_63 {X : Cx} {z : Nat} {T L : Nat → Nat} {V : w_V} {P : w_P} (O : Okc X cX7_isReached RX7 7 (some .boolean)) (hRm : cxR X = rX7_isReached) (t : Nat) (hT : T t = 7) (x1 : Int32) (x2 : Int32) (x3 : Int32) (x4 : Int32) (x5 : Int32) (post : Int32 → Prop) (hQ : cxMQ X (va_Qi (fun x (_ : Unit) => post x) (fun u t => wdW (cxE X) (xW0 z T L V P u) t.heap) (w_A (cxE X))) 0 0) (kb : Int32 → Prop) (hkb : ∀ (y5 : Int32), kb y5 → gW X 0 0 z T L V P 3 [some (.ref t), some (.int x1), some (.int x2), some (.int x3), some (.int x4), some (.int y5), none] []) (w : jX7_isReached_63 (cxE X).2.2.2.2 T L V P t x1 x2 x3 x4 x5 post kb) : gW X 0 0 z T L V P 63 [some (.ref t), some (.int x1), some (.int x2), some (.int x3), some (.int x4), some (.int x5), none] [] := by
  unfold jX7_isReached_63 at w
  refine g_iinc (v := (x5 + 1)) O dX7_isReached_63 rfl rfl rfl (lv' := [some (.ref t), some (.int x1), some (.int x2), some (.int x3), some (.int x4), some (.int (x5 + 1)), none]) rfl ?_
  refine g_goto (tgt := 3) O dX7_isReached_66 (by decide) ?_
  exact hkb ((x5 + 1)) w
set_option maxHeartbeats 4000000 in
theorem vlX7_isReached_3 {X : Cx} {z : Nat} {T L : Nat → Nat} {V : w_V} {P : w_P} (O : Okc X cX7_isReached RX7 7 (some .boolean)) (hRm : cxR X = rX7_isReached) (t : Nat) (hT : T t = 7) (x1 : Int32) (x2 : Int32) (x3 : Int32) (x4 : Int32) (post : Int32 → Prop) (hQ : cxMQ X (va_Qi (fun x (_ : Unit) => post x) (fun u t => wdW (cxE X) (xW0 z T L V P u) t.heap) (w_A (cxE X))) 0 0)  : ∀ (n : Nat) (x5 : Int32), lX7_isReached_3 (cxE X).2.2.2.2 T L V P t x1 x2 x3 x4 post n x5 → gW X 0 0 z T L V P 3 [some (.ref t), some (.int x1), some (.int x2), some (.int x3), some (.int x4), some (.int x5), none] [] := by
  intro n
  induction n with
  | zero =>
    intro x5 w
    exact w.elim
  | succ n ih =>
    intro x5 w
    unfold lX7_isReached_3 at w
    refine g_iload O dX7_isReached_3 rfl ?_
    refine g_aload_n O dX7_isReached_5 rfl ?_
    refine g_iload_n O dX7_isReached_6 rfl ?_
    refine g_ri0 (gr_V (lay := 6) (nA := 1) (As := [.int x1]) (rest := [.int x5]) O hRm (kX7_towns _ O.2.2.2.2.2.2.2.2 _ _ _ _ _ _ t hT (x1) _ w) (lw_V q1302 q1304 qs26 q132 q1305) rfl rfl (by decide +kernel) ⟨Nat.le_of_ble_eq_true rfl, Nat.le_of_ble_eq_true rfl⟩ ck6 (by decide) rfl hT rfl rfl rfl (Nat.le_of_ble_eq_true rfl) dX7_isReached_7 ⟨Nat.le_of_ble_eq_true rfl, Nat.le_of_ble_eq_true rfl⟩) (fun r1 w => ?_)
    refine g_icmp_ge (tgt := 69) O w dX7_isReached_10 (by decide) (fun w => ?_) (fun w => ?_)
    · refine g_iconst (v := 0) O dX7_isReached_69 (by decide) ?_
      exact g_iret (f := xW0 z T L V P) (u := ()) O hQ rfl rfl w dX7_isReached_70
    · refine g_aload_n O dX7_isReached_13 rfl ?_
      refine gx_getA (lay := 6) (j := 3) O ck6 (by decide) rfl rfl (by decide) hT q743 dX7_isReached_14 ?_
      refine g_bipush (v := 7) O dX7_isReached_17 (by decide) ?_
      refine g_iload_n O dX7_isReached_19 rfl ?_
      refine g_imul O dX7_isReached_20 ?_
      refine g_iload O dX7_isReached_21 rfl ?_
      refine g_iadd O dX7_isReached_23 ?_
      obtain ⟨i4, hi5, e6, w⟩ := w
      refine gx_iald (a := t) (kk0 := 4) (len := 35) (nn := i4) O (ha_own (lay := 6) (j := 3) (off := 2) (ty := 0) (len := 35) (by decide) hT rfl (by decide)) hi5 (by decide) e6 dX7_isReached_24 ?_
      refine g_istore O dX7_isReached_25 (Nat.le_of_ble_eq_true rfl) rfl (lv' := [some (.ref t), some (.int x1), some (.int x2), some (.int x3), some (.int x4), some (.int x5), some (.int (V t 4 i4))]) rfl ?_
      refine g_iload O dX7_isReached_27 rfl ?_
      refine g_iload_n O dX7_isReached_29 rfl ?_
      refine g_icmp_gt (tgt := 63) O w dX7_isReached_30 (by decide) (fun w => ?_) (fun w => ?_)
      · refine g_drop [6] (lv' := [some (.ref t), some (.int x1), some (.int x2), some (.int x3), some (.int x4), some (.int x5), none]) rfl ?_
        exact vjX7_isReached_63 O hRm (V := V) (P := P) t hT (x1) (x2) (x3) (x4) (x5) post hQ (lX7_isReached_3 (cxE X).2.2.2.2 T L V P t x1 x2 x3 x4 post n) ih w
      · refine g_iload O dX7_isReached_33 rfl ?_
        refine g_aload_n O dX7_isReached_35 rfl ?_
        obtain ⟨b7, hp8, ht9, w⟩ := w
        refine gx_getR (lay := 6) (j := 0) O ck6 (by decide) rfl rfl hp8 (by decide) hT q739 dX7_isReached_36 ?_
        refine g_iload_n O dX7_isReached_39 rfl ?_
        refine g_aload_n O dX7_isReached_40 rfl ?_
        refine gx_getA (lay := 6) (j := 2) O ck6 (by decide) rfl rfl (by decide) hT q741 dX7_isReached_41 ?_
        refine g_bipush (v := 7) O dX7_isReached_44 (by decide) ?_
        refine g_iload_n O dX7_isReached_46 rfl ?_
        refine g_imul O dX7_isReached_47 ?_
        refine g_iload O dX7_isReached_48 rfl ?_
        refine g_iadd O dX7_isReached_50 ?_
        obtain ⟨i10, hi11, e12, w⟩ := w
        refine gx_iald (a := t) (kk0 := 3) (len := 35) (nn := i10) O (ha_own (lay := 6) (j := 2) (off := 1) (ty := 0) (len := 35) (by decide) hT rfl (by decide)) hi11 (by decide) e12 dX7_isReached_51 ?_
        refine g_ri0 (gr_V (lay := 2) (nA := 2) (As := [.int x3, .int (V t 3 i10)]) (rest := [.int x4]) O hRm (kX2_news _ O.2.2.2.2.2.2.2.2 _ _ _ _ _ _ b7 ht9 (x3) ((V t 3 i10)) _ w) (lw_V q1424 q1425 q1426 q107 q1427) rfl rfl (by decide +kernel) ⟨Nat.le_of_ble_eq_true rfl, Nat.le_of_ble_eq_true rfl⟩ ck2 (by decide) rfl ht9 rfl rfl rfl (Nat.le_of_ble_eq_true rfl) dX7_isReached_52 ⟨Nat.le_of_ble_eq_true rfl, Nat.le_of_ble_eq_true rfl⟩) (fun r13 w => ?_)
        refine g_iadd O dX7_isReached_55 ?_
        refine g_iload O dX7_isReached_56 rfl ?_
        refine g_icmp_gt (tgt := 63) O w dX7_isReached_58 (by decide) (fun w => ?_) (fun w => ?_)
        · refine g_drop [6] (lv' := [some (.ref t), some (.int x1), some (.int x2), some (.int x3), some (.int x4), some (.int x5), none]) rfl ?_
          exact vjX7_isReached_63 O hRm (V := V) (P := P) t hT (x1) (x2) (x3) (x4) (x5) post hQ (lX7_isReached_3 (cxE X).2.2.2.2 T L V P t x1 x2 x3 x4 post n) ih w
        · refine g_iconst (v := 1) O dX7_isReached_61 (by decide) ?_
          exact g_iret (f := xW0 z T L V P) (u := ()) O hQ rfl rfl w dX7_isReached_62
set_option maxHeartbeats 4000000 in
theorem kX7_isReached (l : Launch) (hfl : l.flags = flags0) (E : w_E) (z : Nat) (T L : Nat → Nat) (V : w_V) (P : w_P) (t : Nat) (hT : T t = 7) (x1 : Int32) (x2 : Int32) (x3 : Int32) (x4 : Int32) (post : Int32 → Prop) (w : wX7_isReached E.2.2.2.2 T L V P t x1 x2 x3 x4 post) : gMi l yX7_isReached (ws_ yX7_isReached cX7_isReached 7 (some .boolean)) rX7_isReached 0 0 E [.ref t, .int x1, .int x2, .int x3, .int x4] (z, T, L, V, P) (xW0 z T L V P) (fun x (_ : Unit) => post x) := by
  refine g_start (S := Unit) hfl (by decide +kernel) rfl [some (.ref t), some (.int x1), some (.int x2), some (.int x3), some (.int x4), none, none] rfl (fun _ h => h) (Nat.le_of_ble_eq_true rfl) (fun X hl hRm hEe O hQ => ?_)
  subst hl
  subst hEe
  unfold wX7_isReached at w
  refine g_iconst (v := 0) O dX7_isReached_0 (by decide) ?_
  refine g_istore O dX7_isReached_1 (Nat.le_of_ble_eq_true rfl) rfl (lv' := [some (.ref t), some (.int x1), some (.int x2), some (.int x3), some (.int x4), some (.int 0), none]) rfl ?_
  obtain ⟨n16, w⟩ := w
  exact vlX7_isReached_3 O hRm (V := V) (P := P) t hT (x1) (x2) (x3) (x4) post hQ n16 (0) w
-- X7_isVoided
abbrev rX7_isVoided : Room := { frames := 6, cells := 0, slots := 0, locals := 123 }
set_option maxHeartbeats 4000000 in
theorem vjX7_isVoided_122 {X : Cx} {z : Nat} {T L : Nat → Nat} {V : w_V} {P : w_P} (O : Okc X cX7_isVoided RX7 6 (some .boolean)) (hRm : cxR X = rX7_isVoided) (t : Nat) (hT : T t = 7) (x1 : Int32) (x2 : Int32) (x3 : Int32) (x4 : Int32) (post : Int32 → Prop) (hQ : cxMQ X (va_Qi (fun x (_ : Unit) => post x) (fun u t => wdW (cxE X) (xW0 z T L V P u) t.heap) (w_A (cxE X))) 0 0) (kb : Int32 → Prop) (hkb : ∀ (y4 : Int32), kb y4 → gW X 0 0 z T L V P 52 [some (.ref t), some (.int x1), some (.int x2), some (.int x3), some (.int y4), none] []) (w : jX7_isVoided_122 (cxE X).2.2.2.2 T L V P t x1 x2 x3 x4 post kb) : gW X 0 0 z T L V P 122 [some (.ref t), some (.int x1), some (.int x2), some (.int x3), some (.int x4), none] [] := by
  unfold jX7_isVoided_122 at w
  refine g_iinc (v := (x4 + 1)) O dX7_isVoided_122 rfl rfl rfl (lv' := [some (.ref t), some (.int x1), some (.int x2), some (.int x3), some (.int (x4 + 1)), none]) rfl ?_
  refine g_goto (tgt := 52) O dX7_isVoided_125 (by decide) ?_
  exact hkb ((x4 + 1)) w
set_option maxHeartbeats 4000000 in
theorem vlX7_isVoided_52 {X : Cx} {z : Nat} {T L : Nat → Nat} {V : w_V} {P : w_P} (O : Okc X cX7_isVoided RX7 6 (some .boolean)) (hRm : cxR X = rX7_isVoided) (t : Nat) (hT : T t = 7) (x1 : Int32) (x2 : Int32) (x3 : Int32) (post : Int32 → Prop) (hQ : cxMQ X (va_Qi (fun x (_ : Unit) => post x) (fun u t => wdW (cxE X) (xW0 z T L V P u) t.heap) (w_A (cxE X))) 0 0) (ke_128 : Prop) (hke_128 : ke_128 → gW X 0 0 z T L V P 128 [some (.ref t), some (.int x1), some (.int x2), some (.int x3), none, none] [])  : ∀ (n : Nat) (x4 : Int32), lX7_isVoided_52 (cxE X).2.2.2.2 T L V P t x1 x2 x3 post ke_128 n x4 → gW X 0 0 z T L V P 52 [some (.ref t), some (.int x1), some (.int x2), some (.int x3), some (.int x4), none] [] := by
  intro n
  induction n with
  | zero =>
    intro x4 w
    exact w.elim
  | succ n ih =>
    intro x4 w
    unfold lX7_isVoided_52 at w
    refine g_iload O dX7_isVoided_52 rfl ?_
    refine g_aload_n O dX7_isVoided_54 rfl ?_
    refine g_ri0 (gr_V (lay := 6) (nA := 0) (As := []) (rest := [.int x4]) O hRm (kX7_judges _ O.2.2.2.2.2.2.2.2 _ _ _ _ _ _ t hT _ w) (lw_V q1297 q1299 qs25 q132 q1300) rfl rfl (by decide +kernel) ⟨Nat.le_of_ble_eq_true rfl, Nat.le_of_ble_eq_true rfl⟩ ck6 (by decide) rfl hT rfl rfl rfl (Nat.le_of_ble_eq_true rfl) dX7_isVoided_55 ⟨Nat.le_of_ble_eq_true rfl, Nat.le_of_ble_eq_true rfl⟩) (fun r10 w => ?_)
    refine g_icmp_ge (tgt := 128) O w dX7_isVoided_58 (by decide) (fun w => ?_) (fun w => ?_)
    · refine g_drop [4] (lv' := [some (.ref t), some (.int x1), some (.int x2), some (.int x3), none, none]) rfl ?_
      exact hke_128  w
    · refine g_iconst (v := 5) O dX7_isVoided_61 (by decide) ?_
      refine g_iload_n O dX7_isVoided_62 rfl ?_
      refine g_imul O dX7_isVoided_63 ?_
      refine g_iload O dX7_isVoided_64 rfl ?_
      refine g_iadd O dX7_isVoided_66 ?_
      refine g_istore O dX7_isVoided_67 (Nat.le_of_ble_eq_true rfl) rfl (lv' := [some (.ref t), some (.int x1), some (.int x2), some (.int x3), some (.int x4), some (.int ((5 * x1) + x4))]) rfl ?_
      refine g_iload O dX7_isVoided_69 rfl ?_
      refine g_iload_n O dX7_isVoided_71 rfl ?_
      refine g_icmp_eq (tgt := 122) O w dX7_isVoided_72 (by decide) (fun w => ?_) (fun w => ?_)
      · refine g_drop [5] (lv' := [some (.ref t), some (.int x1), some (.int x2), some (.int x3), some (.int x4), none]) rfl ?_
        exact vjX7_isVoided_122 O hRm (V := V) (P := P) t hT (x1) (x2) (x3) (x4) post hQ (lX7_isVoided_52 (cxE X).2.2.2.2 T L V P t x1 x2 x3 post ke_128 n) ih w
      · refine g_aload_n O dX7_isVoided_75 rfl ?_
        refine gx_getA (lay := 6) (j := 4) O ck6 (by decide) rfl rfl (by decide) hT q745 dX7_isVoided_76 ?_
        refine g_iload O dX7_isVoided_79 rfl ?_
        obtain ⟨i13, hi14, e15, w⟩ := w
        refine gx_iald (a := t) (kk0 := 5) (len := 30) (nn := i13) O (ha_own (lay := 6) (j := 4) (off := 3) (ty := 0) (len := 30) (by decide) hT rfl (by decide)) hi14 (by decide) e15 dX7_isVoided_81 ?_
        refine g_iconst (v := (-1)) O dX7_isVoided_82 (by decide) ?_
        refine g_icmp_eq (tgt := 122) O w dX7_isVoided_83 (by decide) (fun w => ?_) (fun w => ?_)
        · refine g_drop [5] (lv' := [some (.ref t), some (.int x1), some (.int x2), some (.int x3), some (.int x4), none]) rfl ?_
          exact vjX7_isVoided_122 O hRm (V := V) (P := P) t hT (x1) (x2) (x3) (x4) post hQ (lX7_isVoided_52 (cxE X).2.2.2.2 T L V P t x1 x2 x3 post ke_128 n) ih w
        · refine g_aload_n O dX7_isVoided_86 rfl ?_
          refine gx_getA (lay := 6) (j := 5) O ck6 (by decide) rfl rfl (by decide) hT q747 dX7_isVoided_87 ?_
          refine g_iload O dX7_isVoided_90 rfl ?_
          obtain ⟨i16, hi17, e18, w⟩ := w
          refine gx_iald (a := t) (kk0 := 6) (len := 30) (nn := i16) O (ha_own (lay := 6) (j := 5) (off := 4) (ty := 0) (len := 30) (by decide) hT rfl (by decide)) hi17 (by decide) e18 dX7_isVoided_92 ?_
          refine g_iload_n O dX7_isVoided_93 rfl ?_
          refine g_icmp_ge (tgt := 122) O w dX7_isVoided_94 (by decide) (fun w => ?_) (fun w => ?_)
          · refine g_drop [5] (lv' := [some (.ref t), some (.int x1), some (.int x2), some (.int x3), some (.int x4), none]) rfl ?_
            exact vjX7_isVoided_122 O hRm (V := V) (P := P) t hT (x1) (x2) (x3) (x4) post hQ (lX7_isVoided_52 (cxE X).2.2.2.2 T L V P t x1 x2 x3 post ke_128 n) ih w
          · refine g_aload_n O dX7_isVoided_97 rfl ?_
            refine g_iload_n O dX7_isVoided_98 rfl ?_
            refine g_iload_n O dX7_isVoided_99 rfl ?_
            refine g_aload_n O dX7_isVoided_100 rfl ?_
            refine gx_getA (lay := 6) (j := 6) O ck6 (by decide) rfl rfl (by decide) hT q749 dX7_isVoided_101 ?_
            refine g_iload O dX7_isVoided_104 rfl ?_
            obtain ⟨i19, hi20, e21, w⟩ := w
            refine gx_iald (a := t) (kk0 := 7) (len := 30) (nn := i19) O (ha_own (lay := 6) (j := 6) (off := 5) (ty := 0) (len := 30) (by decide) hT rfl (by decide)) hi20 (by decide) e21 dX7_isVoided_106 ?_
            refine g_aload_n O dX7_isVoided_107 rfl ?_
            refine gx_getA (lay := 6) (j := 5) O ck6 (by decide) rfl rfl (by decide) hT q747 dX7_isVoided_108 ?_
            refine g_iload O dX7_isVoided_111 rfl ?_
            obtain ⟨i22, hi23, e24, w⟩ := w
            refine gx_iald (a := t) (kk0 := 6) (len := 30) (nn := i22) O (ha_own (lay := 6) (j := 5) (off := 4) (ty := 0) (len := 30) (by decide) hT rfl (by decide)) hi23 (by decide) e24 dX7_isVoided_113 ?_
            refine g_ri0 (gr_V (lay := 6) (nA := 4) (As := [.int x2, .int x3, .int (V t 7 i19), .int (V t 6 i22)]) (rest := []) O hRm (kX7_isReached _ O.2.2.2.2.2.2.2.2 _ _ _ _ _ _ t hT (x2) (x3) ((V t 7 i19)) ((V t 6 i22)) _ w) (lw_V q1420 q1422 qs34 q132 q1423) rfl rfl (by decide +kernel) ⟨Nat.le_of_ble_eq_true rfl, Nat.le_of_ble_eq_true rfl⟩ ck6 (by decide) rfl hT rfl rfl rfl (Nat.le_of_ble_eq_true rfl) dX7_isVoided_114 ⟨Nat.le_of_ble_eq_true rfl, Nat.le_of_ble_eq_true rfl⟩) (fun r25 w => ?_)
            refine g_if_eq (tgt := 122) O w dX7_isVoided_117 (by decide) (fun w => ?_) (fun w => ?_)
            · refine g_drop [5] (lv' := [some (.ref t), some (.int x1), some (.int x2), some (.int x3), some (.int x4), none]) rfl ?_
              exact vjX7_isVoided_122 O hRm (V := V) (P := P) t hT (x1) (x2) (x3) (x4) post hQ (lX7_isVoided_52 (cxE X).2.2.2.2 T L V P t x1 x2 x3 post ke_128 n) ih w
            · refine g_iconst (v := 1) O dX7_isVoided_120 (by decide) ?_
              exact g_iret (f := xW0 z T L V P) (u := ()) O hQ rfl rfl w dX7_isVoided_121
set_option maxHeartbeats 4000000 in
theorem vjX7_isVoided_198 {X : Cx} {z : Nat} {T L : Nat → Nat} {V : w_V} {P : w_P} (O : Okc X cX7_isVoided RX7 6 (some .boolean)) (hRm : cxR X = rX7_isVoided) (t : Nat) (hT : T t = 7) (x1 : Int32) (x2 : Int32) (x3 : Int32) (x4 : Int32) (post : Int32 → Prop) (hQ : cxMQ X (va_Qi (fun x (_ : Unit) => post x) (fun u t => wdW (cxE X) (xW0 z T L V P u) t.heap) (w_A (cxE X))) 0 0) (kb : Int32 → Prop) (hkb : ∀ (y4 : Int32), kb y4 → gW X 0 0 z T L V P 131 [some (.ref t), some (.int x1), some (.int x2), some (.int x3), some (.int y4), none] []) (w : jX7_isVoided_198 (cxE X).2.2.2.2 T L V P t x1 x2 x3 x4 post kb) : gW X 0 0 z T L V P 198 [some (.ref t), some (.int x1), some (.int x2), some (.int x3), some (.int x4), none] [] := by
  unfold jX7_isVoided_198 at w
  refine g_iinc (v := (x4 + 1)) O dX7_isVoided_198 rfl rfl rfl (lv' := [some (.ref t), some (.int x1), some (.int x2), some (.int x3), some (.int (x4 + 1)), none]) rfl ?_
  refine g_goto (tgt := 131) O dX7_isVoided_201 (by decide) ?_
  exact hkb ((x4 + 1)) w
set_option maxHeartbeats 4000000 in
theorem vlX7_isVoided_131 {X : Cx} {z : Nat} {T L : Nat → Nat} {V : w_V} {P : w_P} (O : Okc X cX7_isVoided RX7 6 (some .boolean)) (hRm : cxR X = rX7_isVoided) (t : Nat) (hT : T t = 7) (x1 : Int32) (x2 : Int32) (x3 : Int32) (post : Int32 → Prop) (hQ : cxMQ X (va_Qi (fun x (_ : Unit) => post x) (fun u t => wdW (cxE X) (xW0 z T L V P u) t.heap) (w_A (cxE X))) 0 0)  : ∀ (n : Nat) (x4 : Int32), lX7_isVoided_131 (cxE X).2.2.2.2 T L V P t x1 x2 x3 post n x4 → gW X 0 0 z T L V P 131 [some (.ref t), some (.int x1), some (.int x2), some (.int x3), some (.int x4), none] [] := by
  intro n
  induction n with
  | zero =>
    intro x4 w
    exact w.elim
  | succ n ih =>
    intro x4 w
    unfold lX7_isVoided_131 at w
    refine g_iload O dX7_isVoided_131 rfl ?_
    refine g_aload_n O dX7_isVoided_133 rfl ?_
    obtain ⟨b28, hp29, ht30, w⟩ := w
    refine gx_getR (lay := 6) (j := 1) O ck6 (by decide) rfl rfl hp29 (by decide) hT q740 dX7_isVoided_134 ?_
    refine gx_getIN (lay := 5) (j := 5) O ck5 (by decide) rfl rfl (by decide) ht30 q596 dX7_isVoided_137 ?_
    refine g_icmp_ge (tgt := 204) O w dX7_isVoided_140 (by decide) (fun w => ?_) (fun w => ?_)
    · refine g_iconst (v := 0) O dX7_isVoided_204 (by decide) ?_
      exact g_iret (f := xW0 z T L V P) (u := ()) O hQ rfl rfl w dX7_isVoided_205
    · refine g_aload_n O dX7_isVoided_143 rfl ?_
      obtain ⟨b31, hp32, ht33, w⟩ := w
      refine gx_getR (lay := 6) (j := 1) O ck6 (by decide) rfl rfl hp32 (by decide) hT q740 dX7_isVoided_144 ?_
      refine gx_getAN (lay := 5) (j := 1) O ck5 (by decide) rfl rfl (by decide) ht33 q587 dX7_isVoided_147 ?_
      refine g_iconst (v := 3) O dX7_isVoided_150 (by decide) ?_
      refine g_iload O dX7_isVoided_151 rfl ?_
      refine g_imul O dX7_isVoided_153 ?_
      obtain ⟨i34, hi35, e36, w⟩ := w
      refine gx_iald (a := b31) (kk0 := 2) (len := 15) (nn := i34) O (ha_own (lay := 5) (j := 1) (off := 2) (ty := 0) (len := 15) (by decide) ht33 rfl (by decide)) hi35 (by decide) e36 dX7_isVoided_154 ?_
      refine g_iload_n O dX7_isVoided_155 rfl ?_
      refine g_icmp_ne (tgt := 198) O w dX7_isVoided_156 (by decide) (fun w => ?_) (fun w => ?_)
      · exact vjX7_isVoided_198 O hRm (V := V) (P := P) t hT (x1) (x2) (x3) (x4) post hQ (lX7_isVoided_131 (cxE X).2.2.2.2 T L V P t x1 x2 x3 post n) ih w
      · refine g_aload_n O dX7_isVoided_159 rfl ?_
        refine g_iload_n O dX7_isVoided_160 rfl ?_
        refine g_iload_n O dX7_isVoided_161 rfl ?_
        refine g_aload_n O dX7_isVoided_162 rfl ?_
        obtain ⟨b37, hp38, ht39, w⟩ := w
        refine gx_getR (lay := 6) (j := 1) O ck6 (by decide) rfl rfl hp38 (by decide) hT q740 dX7_isVoided_163 ?_
        refine gx_getAN (lay := 5) (j := 1) O ck5 (by decide) rfl rfl (by decide) ht39 q587 dX7_isVoided_166 ?_
        refine g_iconst (v := 3) O dX7_isVoided_169 (by decide) ?_
        refine g_iload O dX7_isVoided_170 rfl ?_
        refine g_imul O dX7_isVoided_172 ?_
        refine g_iconst (v := 1) O dX7_isVoided_173 (by decide) ?_
        refine g_iadd O dX7_isVoided_174 ?_
        obtain ⟨i40, hi41, e42, w⟩ := w
        refine gx_iald (a := b37) (kk0 := 2) (len := 15) (nn := i40) O (ha_own (lay := 5) (j := 1) (off := 2) (ty := 0) (len := 15) (by decide) ht39 rfl (by decide)) hi41 (by decide) e42 dX7_isVoided_175 ?_
        refine g_aload_n O dX7_isVoided_176 rfl ?_
        obtain ⟨b43, hp44, ht45, w⟩ := w
        refine gx_getR (lay := 6) (j := 1) O ck6 (by decide) rfl rfl hp44 (by decide) hT q740 dX7_isVoided_177 ?_
        refine gx_getAN (lay := 5) (j := 1) O ck5 (by decide) rfl rfl (by decide) ht45 q587 dX7_isVoided_180 ?_
        refine g_iconst (v := 3) O dX7_isVoided_183 (by decide) ?_
        refine g_iload O dX7_isVoided_184 rfl ?_
        refine g_imul O dX7_isVoided_186 ?_
        refine g_iconst (v := 2) O dX7_isVoided_187 (by decide) ?_
        refine g_iadd O dX7_isVoided_188 ?_
        obtain ⟨i46, hi47, e48, w⟩ := w
        refine gx_iald (a := b43) (kk0 := 2) (len := 15) (nn := i46) O (ha_own (lay := 5) (j := 1) (off := 2) (ty := 0) (len := 15) (by decide) ht45 rfl (by decide)) hi47 (by decide) e48 dX7_isVoided_189 ?_
        refine g_ri0 (gr_V (lay := 6) (nA := 4) (As := [.int x2, .int x3, .int (V b37 2 i40), .int (V b43 2 i46)]) (rest := []) O hRm (kX7_isReached _ O.2.2.2.2.2.2.2.2 _ _ _ _ _ _ t hT (x2) (x3) ((V b37 2 i40)) ((V b43 2 i46)) _ w) (lw_V q1420 q1422 qs34 q132 q1423) rfl rfl (by decide +kernel) ⟨Nat.le_of_ble_eq_true rfl, Nat.le_of_ble_eq_true rfl⟩ ck6 (by decide) rfl hT rfl rfl rfl (Nat.le_of_ble_eq_true rfl) dX7_isVoided_190 ⟨Nat.le_of_ble_eq_true rfl, Nat.le_of_ble_eq_true rfl⟩) (fun r49 w => ?_)
        refine g_if_eq (tgt := 198) O w dX7_isVoided_193 (by decide) (fun w => ?_) (fun w => ?_)
        · exact vjX7_isVoided_198 O hRm (V := V) (P := P) t hT (x1) (x2) (x3) (x4) post hQ (lX7_isVoided_131 (cxE X).2.2.2.2 T L V P t x1 x2 x3 post n) ih w
        · refine g_iconst (v := 1) O dX7_isVoided_196 (by decide) ?_
          exact g_iret (f := xW0 z T L V P) (u := ()) O hQ rfl rfl w dX7_isVoided_197
set_option maxHeartbeats 4000000 in
theorem vjX7_isVoided_38 {X : Cx} {z : Nat} {T L : Nat → Nat} {V : w_V} {P : w_P} (O : Okc X cX7_isVoided RX7 6 (some .boolean)) (hRm : cxR X = rX7_isVoided) (t : Nat) (hT : T t = 7) (x1 : Int32) (x2 : Int32) (post : Int32 → Prop) (hQ : cxMQ X (va_Qi (fun x (_ : Unit) => post x) (fun u t => wdW (cxE X) (xW0 z T L V P u) t.heap) (w_A (cxE X))) 0 0) (w : jX7_isVoided_38 (cxE X).2.2.2.2 T L V P t x1 x2 post) : gW X 0 0 z T L V P 38 [some (.ref t), some (.int x1), some (.int x2), none, none, none] [] := by
  unfold jX7_isVoided_38 at w
  refine g_aload_n O dX7_isVoided_38 rfl ?_
  refine gx_getA (lay := 6) (j := 5) O ck6 (by decide) rfl rfl (by decide) hT q747 dX7_isVoided_39 ?_
  refine g_iconst (v := 5) O dX7_isVoided_42 (by decide) ?_
  refine g_iload_n O dX7_isVoided_43 rfl ?_
  refine g_imul O dX7_isVoided_44 ?_
  refine g_iload_n O dX7_isVoided_45 rfl ?_
  refine g_iadd O dX7_isVoided_46 ?_
  obtain ⟨i7, hi8, e9, w⟩ := w
  refine gx_iald (a := t) (kk0 := 6) (len := 30) (nn := i7) O (ha_own (lay := 6) (j := 5) (off := 4) (ty := 0) (len := 30) (by decide) hT rfl (by decide)) hi8 (by decide) e9 dX7_isVoided_47 ?_
  refine g_istore_n O dX7_isVoided_48 (Nat.le_of_ble_eq_true rfl) rfl (lv' := [some (.ref t), some (.int x1), some (.int x2), some (.int (V t 6 i7)), none, none]) rfl ?_
  refine g_iconst (v := 0) O dX7_isVoided_49 (by decide) ?_
  refine g_istore O dX7_isVoided_50 (Nat.le_of_ble_eq_true rfl) rfl (lv' := [some (.ref t), some (.int x1), some (.int x2), some (.int (V t 6 i7)), some (.int 0), none]) rfl ?_
  obtain ⟨n53, w⟩ := w
  refine vlX7_isVoided_52 O hRm (V := V) (P := P) t hT (x1) (x2) ((V t 6 i7)) post hQ _ (fun w => ?_) n53 (0) w
  refine g_iconst (v := 0) O dX7_isVoided_128 (by decide) ?_
  refine g_istore O dX7_isVoided_129 (Nat.le_of_ble_eq_true rfl) rfl (lv' := [some (.ref t), some (.int x1), some (.int x2), some (.int (V t 6 i7)), some (.int 0), none]) rfl ?_
  obtain ⟨n52, w⟩ := w
  exact vlX7_isVoided_131 O hRm (V := V) (P := P) t hT (x1) (x2) ((V t 6 i7)) post hQ n52 (0) w
set_option maxHeartbeats 4000000 in
theorem kX7_isVoided (l : Launch) (hfl : l.flags = flags0) (E : w_E) (z : Nat) (T L : Nat → Nat) (V : w_V) (P : w_P) (t : Nat) (hT : T t = 7) (x1 : Int32) (x2 : Int32) (post : Int32 → Prop) (w : wX7_isVoided E.2.2.2.2 T L V P t x1 x2 post) : gMi l yX7_isVoided (ws_ yX7_isVoided cX7_isVoided 6 (some .boolean)) rX7_isVoided 0 0 E [.ref t, .int x1, .int x2] (z, T, L, V, P) (xW0 z T L V P) (fun x (_ : Unit) => post x) := by
  refine g_start (S := Unit) hfl (by decide +kernel) rfl [some (.ref t), some (.int x1), some (.int x2), none, none, none] rfl (fun _ h => h) (Nat.le_of_ble_eq_true rfl) (fun X hl hRm hEe O hQ => ?_)
  subst hl
  subst hEe
  unfold wX7_isVoided at w
  refine g_aload_n O dX7_isVoided_0 rfl ?_
  refine g_iload_n O dX7_isVoided_1 rfl ?_
  refine g_ri0 (gr_V (lay := 6) (nA := 1) (As := [.int x2]) (rest := []) O hRm (kX7_hears_2 _ O.2.2.2.2.2.2.2.2 _ _ _ _ _ _ t hT (x2) _ w) (lw_V q1406 q1408 qs33 q132 q1409) rfl rfl (by decide +kernel) ⟨Nat.le_of_ble_eq_true rfl, Nat.le_of_ble_eq_true rfl⟩ ck6 (by decide) rfl hT rfl rfl rfl (Nat.le_of_ble_eq_true rfl) dX7_isVoided_2 ⟨Nat.le_of_ble_eq_true rfl, Nat.le_of_ble_eq_true rfl⟩) (fun r1 w => ?_)
  refine g_if_ne (tgt := 10) O w dX7_isVoided_5 (by decide) (fun w => ?_) (fun w => ?_)
  · refine g_aload_n O dX7_isVoided_10 rfl ?_
    obtain ⟨b4, hp5, ht6, w⟩ := w
    refine gx_getR (lay := 6) (j := 1) O ck6 (by decide) rfl rfl hp5 (by decide) hT q740 dX7_isVoided_11 ?_
    refine gx_getIN (lay := 5) (j := 11) O ck5 (by decide) rfl rfl (by decide) ht6 q613 dX7_isVoided_14 ?_
    refine g_iload_n O dX7_isVoided_17 rfl ?_
    refine g_icmp_ne (tgt := 38) O w dX7_isVoided_18 (by decide) (fun w => ?_) (fun w => ?_)
    · exact vjX7_isVoided_38 O hRm (V := V) (P := P) t hT (x1) (x2) post hQ w
    · refine g_aload_n O dX7_isVoided_21 rfl ?_
      obtain ⟨b54, hp55, ht56, w⟩ := w
      refine gx_getR (lay := 6) (j := 1) O ck6 (by decide) rfl rfl hp55 (by decide) hT q740 dX7_isVoided_22 ?_
      refine gx_getIN (lay := 5) (j := 10) O ck5 (by decide) rfl rfl (by decide) ht56 q610 dX7_isVoided_25 ?_
      refine g_iload_n O dX7_isVoided_28 rfl ?_
      refine g_ishr O dX7_isVoided_29 ?_
      refine g_iconst (v := 1) O dX7_isVoided_30 (by decide) ?_
      refine g_iand O dX7_isVoided_31 ?_
      refine g_iconst (v := 1) O dX7_isVoided_32 (by decide) ?_
      refine g_icmp_ne (tgt := 38) O w dX7_isVoided_33 (by decide) (fun w => ?_) (fun w => ?_)
      · exact vjX7_isVoided_38 O hRm (V := V) (P := P) t hT (x1) (x2) post hQ w
      · refine g_iconst (v := 1) O dX7_isVoided_36 (by decide) ?_
        exact g_iret (f := xW0 z T L V P) (u := ()) O hQ rfl rfl w dX7_isVoided_37
  · refine g_iconst (v := 0) O dX7_isVoided_8 (by decide) ?_
    exact g_iret (f := xW0 z T L V P) (u := ()) O hQ rfl rfl w dX7_isVoided_9
-- X7_isFlooded
abbrev rX7_isFlooded : Room := { frames := 2, cells := 0, slots := 0, locals := 34 }
set_option maxHeartbeats 4000000 in
theorem vjX7_isFlooded_103 {X : Cx} {z : Nat} {T L : Nat → Nat} {V : w_V} {P : w_P} (O : Okc X cX7_isFlooded RX7 6 (some .boolean)) (hRm : cxR X = rX7_isFlooded) (t : Nat) (hT : T t = 7) (x1 : Int32) (x2 : Int32) (x3 : Int32) (x4 : Int32) (post : Int32 → Prop) (hQ : cxMQ X (va_Qi (fun x (_ : Unit) => post x) (fun u t => wdW (cxE X) (xW0 z T L V P u) t.heap) (w_A (cxE X))) 0 0) (kb : Int32 → Prop) (hkb : ∀ (y4 : Int32), kb y4 → gW X 0 0 z T L V P 3 [some (.ref t), some (.int x1), some (.int x2), some (.int x3), some (.int y4), none] []) (w : jX7_isFlooded_103 (cxE X).2.2.2.2 T L V P t x1 x2 x3 x4 post kb) : gW X 0 0 z T L V P 103 [some (.ref t), some (.int x1), some (.int x2), some (.int x3), some (.int x4), none] [] := by
  unfold jX7_isFlooded_103 at w
  refine g_iinc (v := (x4 + 1)) O dX7_isFlooded_103 rfl rfl rfl (lv' := [some (.ref t), some (.int x1), some (.int x2), some (.int x3), some (.int (x4 + 1)), none]) rfl ?_
  refine g_goto (tgt := 3) O dX7_isFlooded_106 (by decide) ?_
  exact hkb ((x4 + 1)) w
set_option maxHeartbeats 4000000 in
theorem vlX7_isFlooded_3 {X : Cx} {z : Nat} {T L : Nat → Nat} {V : w_V} {P : w_P} (O : Okc X cX7_isFlooded RX7 6 (some .boolean)) (hRm : cxR X = rX7_isFlooded) (t : Nat) (hT : T t = 7) (x1 : Int32) (x2 : Int32) (x3 : Int32) (post : Int32 → Prop) (hQ : cxMQ X (va_Qi (fun x (_ : Unit) => post x) (fun u t => wdW (cxE X) (xW0 z T L V P u) t.heap) (w_A (cxE X))) 0 0)  : ∀ (n : Nat) (x4 : Int32), lX7_isFlooded_3 (cxE X).2.2.2.2 T L V P t x1 x2 x3 post n x4 → gW X 0 0 z T L V P 3 [some (.ref t), some (.int x1), some (.int x2), some (.int x3), some (.int x4), none] [] := by
  intro n
  induction n with
  | zero =>
    intro x4 w
    exact w.elim
  | succ n ih =>
    intro x4 w
    unfold lX7_isFlooded_3 at w
    refine g_iload O dX7_isFlooded_3 rfl ?_
    refine g_aload_n O dX7_isFlooded_5 rfl ?_
    obtain ⟨b1, hp2, ht3, w⟩ := w
    refine gx_getR (lay := 6) (j := 1) O ck6 (by decide) rfl rfl hp2 (by decide) hT q740 dX7_isFlooded_6 ?_
    refine gx_getIN (lay := 5) (j := 7) O ck5 (by decide) rfl rfl (by decide) ht3 q601 dX7_isFlooded_9 ?_
    refine g_icmp_ge (tgt := 109) O w dX7_isFlooded_12 (by decide) (fun w => ?_) (fun w => ?_)
    · refine g_iconst (v := 0) O dX7_isFlooded_109 (by decide) ?_
      exact g_iret (f := xW0 z T L V P) (u := ()) O hQ rfl rfl w dX7_isFlooded_110
    · refine g_aload_n O dX7_isFlooded_15 rfl ?_
      obtain ⟨b4, hp5, ht6, w⟩ := w
      refine gx_getR (lay := 6) (j := 1) O ck6 (by decide) rfl rfl hp5 (by decide) hT q740 dX7_isFlooded_16 ?_
      refine gx_getAN (lay := 5) (j := 3) O ck5 (by decide) rfl rfl (by decide) ht6 q591 dX7_isFlooded_19 ?_
      refine g_iconst (v := 3) O dX7_isFlooded_22 (by decide) ?_
      refine g_iload O dX7_isFlooded_23 rfl ?_
      refine g_imul O dX7_isFlooded_25 ?_
      obtain ⟨i7, hi8, e9, w⟩ := w
      refine gx_iald (a := b4) (kk0 := 4) (len := 18) (nn := i7) O (ha_own (lay := 5) (j := 3) (off := 4) (ty := 0) (len := 18) (by decide) ht6 rfl (by decide)) hi8 (by decide) e9 dX7_isFlooded_26 ?_
      refine g_istore O dX7_isFlooded_27 (Nat.le_of_ble_eq_true rfl) rfl (lv' := [some (.ref t), some (.int x1), some (.int x2), some (.int x3), some (.int x4), some (.int (V b4 4 i7))]) rfl ?_
      refine g_aload_n O dX7_isFlooded_29 rfl ?_
      obtain ⟨b10, hp11, ht12, w⟩ := w
      refine gx_getR (lay := 6) (j := 1) O ck6 (by decide) rfl rfl hp11 (by decide) hT q740 dX7_isFlooded_30 ?_
      refine gx_getAN (lay := 5) (j := 3) O ck5 (by decide) rfl rfl (by decide) ht12 q591 dX7_isFlooded_33 ?_
      refine g_iconst (v := 3) O dX7_isFlooded_36 (by decide) ?_
      refine g_iload O dX7_isFlooded_37 rfl ?_
      refine g_imul O dX7_isFlooded_39 ?_
      refine g_iconst (v := 1) O dX7_isFlooded_40 (by decide) ?_
      refine g_iadd O dX7_isFlooded_41 ?_
      obtain ⟨i13, hi14, e15, w⟩ := w
      refine gx_iald (a := b10) (kk0 := 4) (len := 18) (nn := i13) O (ha_own (lay := 5) (j := 3) (off := 4) (ty := 0) (len := 18) (by decide) ht12 rfl (by decide)) hi14 (by decide) e15 dX7_isFlooded_42 ?_
      refine g_iload_n O dX7_isFlooded_43 rfl ?_
      refine g_icmp_ne (tgt := 103) O w dX7_isFlooded_44 (by decide) (fun w => ?_) (fun w => ?_)
      · refine g_drop [5] (lv' := [some (.ref t), some (.int x1), some (.int x2), some (.int x3), some (.int x4), none]) rfl ?_
        exact vjX7_isFlooded_103 O hRm (V := V) (P := P) t hT (x1) (x2) (x3) (x4) post hQ (lX7_isFlooded_3 (cxE X).2.2.2.2 T L V P t x1 x2 x3 post n) ih w
      · refine g_aload_n O dX7_isFlooded_47 rfl ?_
        obtain ⟨b16, hp17, ht18, w⟩ := w
        refine gx_getR (lay := 6) (j := 0) O ck6 (by decide) rfl rfl hp17 (by decide) hT q739 dX7_isFlooded_48 ?_
        refine g_iload_n O dX7_isFlooded_51 rfl ?_
        refine g_iload O dX7_isFlooded_52 rfl ?_
        refine g_ri0 (gr_V (lay := 2) (nA := 2) (As := [.int x1, .int (V b4 4 i7)]) (rest := []) O hRm (kX2_far _ O.2.2.2.2.2.2.2.2 _ _ _ _ _ _ b16 ht18 (x1) ((V b4 4 i7)) _ w) (lw_V q1398 q1399 q1400 q107 q1401) rfl rfl (by decide +kernel) ⟨Nat.le_of_ble_eq_true rfl, Nat.le_of_ble_eq_true rfl⟩ ck2 (by decide) rfl ht18 rfl rfl rfl (Nat.le_of_ble_eq_true rfl) dX7_isFlooded_54 ⟨Nat.le_of_ble_eq_true rfl, Nat.le_of_ble_eq_true rfl⟩) (fun r19 w => ?_)
        refine g_aload_n O dX7_isFlooded_57 rfl ?_
        obtain ⟨b22, hp23, ht24, w⟩ := w
        refine gx_getR (lay := 6) (j := 1) O ck6 (by decide) rfl rfl hp23 (by decide) hT q740 dX7_isFlooded_58 ?_
        refine gx_getAN (lay := 5) (j := 3) O ck5 (by decide) rfl rfl (by decide) ht24 q591 dX7_isFlooded_61 ?_
        refine g_iconst (v := 3) O dX7_isFlooded_64 (by decide) ?_
        refine g_iload O dX7_isFlooded_65 rfl ?_
        refine g_imul O dX7_isFlooded_67 ?_
        refine g_iconst (v := 2) O dX7_isFlooded_68 (by decide) ?_
        refine g_iadd O dX7_isFlooded_69 ?_
        obtain ⟨i25, hi26, e27, w⟩ := w
        refine gx_iald (a := b22) (kk0 := 4) (len := 18) (nn := i25) O (ha_own (lay := 5) (j := 3) (off := 4) (ty := 0) (len := 18) (by decide) ht24 rfl (by decide)) hi26 (by decide) e27 dX7_isFlooded_70 ?_
        refine g_icmp_gt (tgt := 103) O w dX7_isFlooded_71 (by decide) (fun w => ?_) (fun w => ?_)
        · refine g_drop [5] (lv' := [some (.ref t), some (.int x1), some (.int x2), some (.int x3), some (.int x4), none]) rfl ?_
          exact vjX7_isFlooded_103 O hRm (V := V) (P := P) t hT (x1) (x2) (x3) (x4) post hQ (lX7_isFlooded_3 (cxE X).2.2.2.2 T L V P t x1 x2 x3 post n) ih w
        · refine g_aload_n O dX7_isFlooded_74 rfl ?_
          obtain ⟨b28, hp29, ht30, w⟩ := w
          refine gx_getR (lay := 6) (j := 0) O ck6 (by decide) rfl rfl hp29 (by decide) hT q739 dX7_isFlooded_75 ?_
          refine g_iload_n O dX7_isFlooded_78 rfl ?_
          refine g_iload O dX7_isFlooded_79 rfl ?_
          refine g_ri0 (gr_V (lay := 2) (nA := 2) (As := [.int x2, .int (V b4 4 i7)]) (rest := []) O hRm (kX2_far _ O.2.2.2.2.2.2.2.2 _ _ _ _ _ _ b28 ht30 (x2) ((V b4 4 i7)) _ w) (lw_V q1398 q1399 q1400 q107 q1401) rfl rfl (by decide +kernel) ⟨Nat.le_of_ble_eq_true rfl, Nat.le_of_ble_eq_true rfl⟩ ck2 (by decide) rfl ht30 rfl rfl rfl (Nat.le_of_ble_eq_true rfl) dX7_isFlooded_81 ⟨Nat.le_of_ble_eq_true rfl, Nat.le_of_ble_eq_true rfl⟩) (fun r31 w => ?_)
          refine g_aload_n O dX7_isFlooded_84 rfl ?_
          obtain ⟨b34, hp35, ht36, w⟩ := w
          refine gx_getR (lay := 6) (j := 1) O ck6 (by decide) rfl rfl hp35 (by decide) hT q740 dX7_isFlooded_85 ?_
          refine gx_getAN (lay := 5) (j := 3) O ck5 (by decide) rfl rfl (by decide) ht36 q591 dX7_isFlooded_88 ?_
          refine g_iconst (v := 3) O dX7_isFlooded_91 (by decide) ?_
          refine g_iload O dX7_isFlooded_92 rfl ?_
          refine g_imul O dX7_isFlooded_94 ?_
          refine g_iconst (v := 2) O dX7_isFlooded_95 (by decide) ?_
          refine g_iadd O dX7_isFlooded_96 ?_
          obtain ⟨i37, hi38, e39, w⟩ := w
          refine gx_iald (a := b34) (kk0 := 4) (len := 18) (nn := i37) O (ha_own (lay := 5) (j := 3) (off := 4) (ty := 0) (len := 18) (by decide) ht36 rfl (by decide)) hi38 (by decide) e39 dX7_isFlooded_97 ?_
          refine g_icmp_gt (tgt := 103) O w dX7_isFlooded_98 (by decide) (fun w => ?_) (fun w => ?_)
          · refine g_drop [5] (lv' := [some (.ref t), some (.int x1), some (.int x2), some (.int x3), some (.int x4), none]) rfl ?_
            exact vjX7_isFlooded_103 O hRm (V := V) (P := P) t hT (x1) (x2) (x3) (x4) post hQ (lX7_isFlooded_3 (cxE X).2.2.2.2 T L V P t x1 x2 x3 post n) ih w
          · refine g_iconst (v := 1) O dX7_isFlooded_101 (by decide) ?_
            exact g_iret (f := xW0 z T L V P) (u := ()) O hQ rfl rfl w dX7_isFlooded_102
set_option maxHeartbeats 4000000 in
theorem kX7_isFlooded (l : Launch) (hfl : l.flags = flags0) (E : w_E) (z : Nat) (T L : Nat → Nat) (V : w_V) (P : w_P) (t : Nat) (hT : T t = 7) (x1 : Int32) (x2 : Int32) (x3 : Int32) (post : Int32 → Prop) (w : wX7_isFlooded E.2.2.2.2 T L V P t x1 x2 x3 post) : gMi l yX7_isFlooded (ws_ yX7_isFlooded cX7_isFlooded 6 (some .boolean)) rX7_isFlooded 0 0 E [.ref t, .int x1, .int x2, .int x3] (z, T, L, V, P) (xW0 z T L V P) (fun x (_ : Unit) => post x) := by
  refine g_start (S := Unit) hfl (by decide +kernel) rfl [some (.ref t), some (.int x1), some (.int x2), some (.int x3), none, none] rfl (fun _ h => h) (Nat.le_of_ble_eq_true rfl) (fun X hl hRm hEe O hQ => ?_)
  subst hl
  subst hEe
  unfold wX7_isFlooded at w
  refine g_iconst (v := 0) O dX7_isFlooded_0 (by decide) ?_
  refine g_istore O dX7_isFlooded_1 (Nat.le_of_ble_eq_true rfl) rfl (lv' := [some (.ref t), some (.int x1), some (.int x2), some (.int x3), some (.int 0), none]) rfl ?_
  obtain ⟨n40, w⟩ := w
  exact vlX7_isFlooded_3 O hRm (V := V) (P := P) t hT (x1) (x2) (x3) post hQ n40 (0) w
-- X7_meets
abbrev rX7_meets : Room := { frames := 6, cells := 0, slots := 0, locals := 120 }
set_option maxHeartbeats 4000000 in
theorem vjX7_meets_94 {X : Cx} {z : Nat} {T L : Nat → Nat} {V : w_V} {P : w_P} (O : Okc X cX7_meets RX7 7 (some .int)) (hRm : cxR X = rX7_meets) (t : Nat) (hT : T t = 7) (x1 : Int32) (x2 : Int32) (x3 : Int32) (post : Int32 → Prop) (hQ : cxMQ X (va_Qi (fun x (_ : Unit) => post x) (fun u t => wdW (cxE X) (xW0 z T L V P u) t.heap) (w_A (cxE X))) 0 0) (kb : Int32 → Prop) (hkb : ∀ (y3 : Int32), kb y3 → gW X 0 0 z T L V P 2 [some (.ref t), some (.int x1), some (.int x2), some (.int y3), none, none, none] []) (w : jX7_meets_94 (cxE X).2.2.2.2 T L V P t x1 x2 x3 post kb) : gW X 0 0 z T L V P 94 [some (.ref t), some (.int x1), some (.int x2), some (.int x3), none, none, none] [] := by
  unfold jX7_meets_94 at w
  refine g_iinc (v := (x3 + 1)) O dX7_meets_94 rfl rfl rfl (lv' := [some (.ref t), some (.int x1), some (.int x2), some (.int (x3 + 1)), none, none, none]) rfl ?_
  refine g_goto (tgt := 2) O dX7_meets_97 (by decide) ?_
  exact hkb ((x3 + 1)) w
set_option maxHeartbeats 4000000 in
theorem vjX7_meets_78 {X : Cx} {z : Nat} {T L : Nat → Nat} {V : w_V} {P : w_P} (O : Okc X cX7_meets RX7 7 (some .int)) (hRm : cxR X = rX7_meets) (t : Nat) (hT : T t = 7) (x1 : Int32) (x2 : Int32) (x3 : Int32) (x4 : Int32) (x5 : Int32) (x6 : Int32) (post : Int32 → Prop) (hQ : cxMQ X (va_Qi (fun x (_ : Unit) => post x) (fun u t => wdW (cxE X) (xW0 z T L V P u) t.heap) (w_A (cxE X))) 0 0) (kb : Int32 → Prop) (hkb : ∀ (y3 : Int32), kb y3 → gW X 0 0 z T L V P 2 [some (.ref t), some (.int x1), some (.int x2), some (.int y3), none, none, none] []) (w : jX7_meets_78 (cxE X).2.2.2.2 T L V P t x1 x2 x3 x4 x5 x6 post kb) : gW X 0 0 z T L V P 78 [some (.ref t), some (.int x1), some (.int x2), some (.int x3), some (.int x4), some (.int x5), some (.int x6)] [] := by
  unfold jX7_meets_78 at w
  refine g_aload_n O dX7_meets_78 rfl ?_
  refine g_iload O dX7_meets_79 rfl ?_
  refine g_iload O dX7_meets_81 rfl ?_
  refine g_iload O dX7_meets_83 rfl ?_
  refine g_ri0 (gr_V (lay := 6) (nA := 3) (As := [.int x5, .int x6, .int x4]) (rest := []) O hRm (kX7_isFlooded _ O.2.2.2.2.2.2.2.2 _ _ _ _ _ _ t hT (x5) (x6) (x4) _ w) (lw_V q1394 q1396 qs31 q132 q1397) rfl rfl (by decide +kernel) ⟨Nat.le_of_ble_eq_true rfl, Nat.le_of_ble_eq_true rfl⟩ ck6 (by decide) rfl hT rfl rfl rfl (Nat.le_of_ble_eq_true rfl) dX7_meets_85 ⟨Nat.le_of_ble_eq_true rfl, Nat.le_of_ble_eq_true rfl⟩) (fun r13 w => ?_)
  refine g_if_eq (tgt := 94) O w dX7_meets_88 (by decide) (fun w => ?_) (fun w => ?_)
  · refine g_drop [4, 5, 6] (lv' := [some (.ref t), some (.int x1), some (.int x2), some (.int x3), none, none, none]) rfl ?_
    exact vjX7_meets_94 O hRm (V := V) (P := P) t hT (x1) (x2) (x3) post hQ kb hkb w
  · refine g_iload O dX7_meets_91 rfl ?_
    exact g_iret (f := xW0 z T L V P) (u := ()) O hQ rfl rfl w dX7_meets_93
set_option maxHeartbeats 4000000 in
theorem vlX7_meets_2 {X : Cx} {z : Nat} {T L : Nat → Nat} {V : w_V} {P : w_P} (O : Okc X cX7_meets RX7 7 (some .int)) (hRm : cxR X = rX7_meets) (t : Nat) (hT : T t = 7) (x1 : Int32) (x2 : Int32) (post : Int32 → Prop) (hQ : cxMQ X (va_Qi (fun x (_ : Unit) => post x) (fun u t => wdW (cxE X) (xW0 z T L V P u) t.heap) (w_A (cxE X))) 0 0)  : ∀ (n : Nat) (x3 : Int32), lX7_meets_2 (cxE X).2.2.2.2 T L V P t x1 x2 post n x3 → gW X 0 0 z T L V P 2 [some (.ref t), some (.int x1), some (.int x2), some (.int x3), none, none, none] [] := by
  intro n
  induction n with
  | zero =>
    intro x3 w
    exact w.elim
  | succ n ih =>
    intro x3 w
    unfold lX7_meets_2 at w
    refine g_iload_n O dX7_meets_2 rfl ?_
    refine g_aload_n O dX7_meets_3 rfl ?_
    refine g_iload_n O dX7_meets_4 rfl ?_
    refine g_ri0 (gr_V (lay := 6) (nA := 1) (As := [.int x1]) (rest := [.int x3]) O hRm (kX7_towns _ O.2.2.2.2.2.2.2.2 _ _ _ _ _ _ t hT (x1) _ w) (lw_V q1302 q1304 qs26 q132 q1305) rfl rfl (by decide +kernel) ⟨Nat.le_of_ble_eq_true rfl, Nat.le_of_ble_eq_true rfl⟩ ck6 (by decide) rfl hT rfl rfl rfl (Nat.le_of_ble_eq_true rfl) dX7_meets_5 ⟨Nat.le_of_ble_eq_true rfl, Nat.le_of_ble_eq_true rfl⟩) (fun r1 w => ?_)
    refine g_icmp_ge (tgt := 100) O w dX7_meets_8 (by decide) (fun w => ?_) (fun w => ?_)
    · refine g_sipush (v := 9999) O dX7_meets_100 (by decide) ?_
      exact g_iret (f := xW0 z T L V P) (u := ()) O hQ rfl rfl w dX7_meets_103
    · refine g_aload_n O dX7_meets_11 rfl ?_
      refine gx_getA (lay := 6) (j := 3) O ck6 (by decide) rfl rfl (by decide) hT q743 dX7_meets_12 ?_
      refine g_bipush (v := 7) O dX7_meets_15 (by decide) ?_
      refine g_iload_n O dX7_meets_17 rfl ?_
      refine g_imul O dX7_meets_18 ?_
      refine g_iload_n O dX7_meets_19 rfl ?_
      refine g_iadd O dX7_meets_20 ?_
      obtain ⟨i4, hi5, e6, w⟩ := w
      refine gx_iald (a := t) (kk0 := 4) (len := 35) (nn := i4) O (ha_own (lay := 6) (j := 3) (off := 2) (ty := 0) (len := 35) (by decide) hT rfl (by decide)) hi5 (by decide) e6 dX7_meets_21 ?_
      refine g_istore O dX7_meets_22 (Nat.le_of_ble_eq_true rfl) rfl (lv' := [some (.ref t), some (.int x1), some (.int x2), some (.int x3), some (.int (V t 4 i4)), none, none]) rfl ?_
      refine g_aload_n O dX7_meets_24 rfl ?_
      refine gx_getA (lay := 6) (j := 2) O ck6 (by decide) rfl rfl (by decide) hT q741 dX7_meets_25 ?_
      refine g_bipush (v := 7) O dX7_meets_28 (by decide) ?_
      refine g_iload_n O dX7_meets_30 rfl ?_
      refine g_imul O dX7_meets_31 ?_
      refine g_iload_n O dX7_meets_32 rfl ?_
      refine g_iadd O dX7_meets_33 ?_
      obtain ⟨i7, hi8, e9, w⟩ := w
      refine gx_iald (a := t) (kk0 := 3) (len := 35) (nn := i7) O (ha_own (lay := 6) (j := 2) (off := 1) (ty := 0) (len := 35) (by decide) hT rfl (by decide)) hi8 (by decide) e9 dX7_meets_34 ?_
      refine g_istore O dX7_meets_35 (Nat.le_of_ble_eq_true rfl) rfl (lv' := [some (.ref t), some (.int x1), some (.int x2), some (.int x3), some (.int (V t 4 i4)), some (.int (V t 3 i7)), none]) rfl ?_
      refine g_aload_n O dX7_meets_37 rfl ?_
      refine g_iload_n O dX7_meets_38 rfl ?_
      refine g_iload O dX7_meets_39 rfl ?_
      refine g_ri0 (gr_V (lay := 6) (nA := 2) (As := [.int x2, .int (V t 4 i4)]) (rest := []) O hRm (kX7_at _ O.2.2.2.2.2.2.2.2 _ _ _ _ _ _ t hT (x2) ((V t 4 i4)) _ w) (lw_V q1326 q1327 q1328 q132 q1329) rfl rfl (by decide +kernel) ⟨Nat.le_of_ble_eq_true rfl, Nat.le_of_ble_eq_true rfl⟩ ck6 (by decide) rfl hT rfl rfl rfl (Nat.le_of_ble_eq_true rfl) dX7_meets_41 ⟨Nat.le_of_ble_eq_true rfl, Nat.le_of_ble_eq_true rfl⟩) (fun r10 w => ?_)
      refine g_istore O dX7_meets_44 (Nat.le_of_ble_eq_true rfl) rfl (lv' := [some (.ref t), some (.int x1), some (.int x2), some (.int x3), some (.int (V t 4 i4)), some (.int (V t 3 i7)), some (.int r10)]) rfl ?_
      refine g_iload O dX7_meets_46 rfl ?_
      refine g_iconst (v := (-1)) O dX7_meets_48 (by decide) ?_
      refine g_icmp_ne (tgt := 55) O w dX7_meets_49 (by decide) (fun w => ?_) (fun w => ?_)
      · refine g_iload O dX7_meets_55 rfl ?_
        refine g_iload O dX7_meets_57 rfl ?_
        refine g_icmp_ne (tgt := 78) O w dX7_meets_59 (by decide) (fun w => ?_) (fun w => ?_)
        · exact vjX7_meets_78 O hRm (V := V) (P := P) t hT (x1) (x2) (x3) ((V t 4 i4)) ((V t 3 i7)) (r10) post hQ (lX7_meets_2 (cxE X).2.2.2.2 T L V P t x1 x2 post n) ih w
        · refine g_aload_n O dX7_meets_62 rfl ?_
          obtain ⟨b16, hp17, ht18, w⟩ := w
          refine gx_getR (lay := 6) (j := 1) O ck6 (by decide) rfl rfl hp17 (by decide) hT q740 dX7_meets_63 ?_
          refine gx_getIN (lay := 5) (j := 4) O ck5 (by decide) rfl rfl (by decide) ht18 q593 dX7_meets_66 ?_
          refine g_iload O dX7_meets_69 rfl ?_
          refine g_ishr O dX7_meets_71 ?_
          refine g_iconst (v := 1) O dX7_meets_72 (by decide) ?_
          refine g_iand O dX7_meets_73 ?_
          refine g_iconst (v := 1) O dX7_meets_74 (by decide) ?_
          refine g_icmp_eq (tgt := 91) O w dX7_meets_75 (by decide) (fun w => ?_) (fun w => ?_)
          · refine g_iload O dX7_meets_91 rfl ?_
            exact g_iret (f := xW0 z T L V P) (u := ()) O hQ rfl rfl w dX7_meets_93
          · exact vjX7_meets_78 O hRm (V := V) (P := P) t hT (x1) (x2) (x3) ((V t 4 i4)) ((V t 3 i7)) (r10) post hQ (lX7_meets_2 (cxE X).2.2.2.2 T L V P t x1 x2 post n) ih w
      · refine g_goto (tgt := 94) O dX7_meets_52 (by decide) ?_
        refine g_drop [4, 5, 6] (lv' := [some (.ref t), some (.int x1), some (.int x2), some (.int x3), none, none, none]) rfl ?_
        exact vjX7_meets_94 O hRm (V := V) (P := P) t hT (x1) (x2) (x3) post hQ (lX7_meets_2 (cxE X).2.2.2.2 T L V P t x1 x2 post n) ih w
set_option maxHeartbeats 4000000 in
theorem kX7_meets (l : Launch) (hfl : l.flags = flags0) (E : w_E) (z : Nat) (T L : Nat → Nat) (V : w_V) (P : w_P) (t : Nat) (hT : T t = 7) (x1 : Int32) (x2 : Int32) (post : Int32 → Prop) (w : wX7_meets E.2.2.2.2 T L V P t x1 x2 post) : gMi l yX7_meets (ws_ yX7_meets cX7_meets 7 (some .int)) rX7_meets 0 0 E [.ref t, .int x1, .int x2] (z, T, L, V, P) (xW0 z T L V P) (fun x (_ : Unit) => post x) := by
  refine g_start (S := Unit) hfl (by decide +kernel) rfl [some (.ref t), some (.int x1), some (.int x2), none, none, none, none] rfl (fun _ h => h) (Nat.le_of_ble_eq_true rfl) (fun X hl hRm hEe O hQ => ?_)
  subst hl
  subst hEe
  unfold wX7_meets at w
  refine g_iconst (v := 0) O dX7_meets_0 (by decide) ?_
  refine g_istore_n O dX7_meets_1 (Nat.le_of_ble_eq_true rfl) rfl (lv' := [some (.ref t), some (.int x1), some (.int x2), some (.int 0), none, none, none]) rfl ?_
  obtain ⟨n19, w⟩ := w
  exact vlX7_meets_2 O hRm (V := V) (P := P) t hT (x1) (x2) post hQ n19 (0) w
-- X7_areApart
abbrev rX7_areApart : Room := { frames := 1, cells := 0, slots := 0, locals := 12 }
set_option maxHeartbeats 4000000 in
theorem kX7_areApart (l : Launch) (hfl : l.flags = flags0) (E : w_E) (z : Nat) (T L : Nat → Nat) (V : w_V) (P : w_P) (t : Nat) (hT : T t = 7) (x1 : Int32) (x2 : Int32) (x3 : Int32) (x4 : Int32) (post : Int32 → Prop) (w : wX7_areApart E.2.2.2.2 T L V P t x1 x2 x3 x4 post) : gMi l yX7_areApart (ws_ yX7_areApart cX7_areApart 5 (some .boolean)) rX7_areApart 0 0 E [.ref t, .int x1, .int x2, .int x3, .int x4] (z, T, L, V, P) (xW0 z T L V P) (fun x (_ : Unit) => post x) := by
  refine g_start (S := Unit) hfl (by decide +kernel) rfl [some (.ref t), some (.int x1), some (.int x2), some (.int x3), some (.int x4)] rfl (fun _ h => h) (Nat.le_of_ble_eq_true rfl) (fun X hl hRm hEe O hQ => ?_)
  subst hl
  subst hEe
  unfold wX7_areApart at w
  refine g_aload_n O dX7_areApart_0 rfl ?_
  refine gx_getA (lay := 6) (j := 6) O ck6 (by decide) rfl rfl (by decide) hT q749 dX7_areApart_1 ?_
  refine g_iconst (v := 5) O dX7_areApart_4 (by decide) ?_
  refine g_iload_n O dX7_areApart_5 rfl ?_
  refine g_imul O dX7_areApart_6 ?_
  refine g_iload_n O dX7_areApart_7 rfl ?_
  refine g_iadd O dX7_areApart_8 ?_
  obtain ⟨i1, hi2, e3, w⟩ := w
  refine gx_iald (a := t) (kk0 := 7) (len := 30) (nn := i1) O (ha_own (lay := 6) (j := 6) (off := 5) (ty := 0) (len := 30) (by decide) hT rfl (by decide)) hi2 (by decide) e3 dX7_areApart_9 ?_
  refine g_aload_n O dX7_areApart_10 rfl ?_
  refine gx_getA (lay := 6) (j := 6) O ck6 (by decide) rfl rfl (by decide) hT q749 dX7_areApart_11 ?_
  refine g_iconst (v := 5) O dX7_areApart_14 (by decide) ?_
  refine g_iload_n O dX7_areApart_15 rfl ?_
  refine g_imul O dX7_areApart_16 ?_
  refine g_iload_n O dX7_areApart_17 rfl ?_
  refine g_iadd O dX7_areApart_18 ?_
  obtain ⟨i4, hi5, e6, w⟩ := w
  refine gx_iald (a := t) (kk0 := 7) (len := 30) (nn := i4) O (ha_own (lay := 6) (j := 6) (off := 5) (ty := 0) (len := 30) (by decide) hT rfl (by decide)) hi5 (by decide) e6 dX7_areApart_19 ?_
  refine g_icmp_eq (tgt := 42) O w dX7_areApart_20 (by decide) (fun w => ?_) (fun w => ?_)
  · refine g_iconst (v := 0) O dX7_areApart_42 (by decide) ?_
    exact g_iret (f := xW0 z T L V P) (u := ()) O hQ rfl rfl w dX7_areApart_43
  · refine g_aload_n O dX7_areApart_23 rfl ?_
    refine gx_getA (lay := 6) (j := 7) O ck6 (by decide) rfl rfl (by decide) hT q751 dX7_areApart_24 ?_
    refine g_iconst (v := 5) O dX7_areApart_27 (by decide) ?_
    refine g_iload_n O dX7_areApart_28 rfl ?_
    refine g_imul O dX7_areApart_29 ?_
    refine g_iload_n O dX7_areApart_30 rfl ?_
    refine g_iadd O dX7_areApart_31 ?_
    obtain ⟨i7, hi8, e9, w⟩ := w
    refine gx_iald (a := t) (kk0 := 8) (len := 25) (nn := i7) O (ha_own (lay := 6) (j := 7) (off := 6) (ty := 0) (len := 25) (by decide) hT rfl (by decide)) hi8 (by decide) e9 dX7_areApart_32 ?_
    refine g_iload O dX7_areApart_33 rfl ?_
    refine g_icmp_le (tgt := 42) O w dX7_areApart_35 (by decide) (fun w => ?_) (fun w => ?_)
    · refine g_iconst (v := 0) O dX7_areApart_42 (by decide) ?_
      exact g_iret (f := xW0 z T L V P) (u := ()) O hQ rfl rfl w dX7_areApart_43
    · refine g_iconst (v := 1) O dX7_areApart_38 (by decide) ?_
      refine g_goto (tgt := 43) O dX7_areApart_39 (by decide) ?_
      exact g_iret (f := xW0 z T L V P) (u := ()) O hQ rfl rfl w dX7_areApart_43
-- X7_isOne
abbrev rX7_isOne : Room := { frames := 1, cells := 0, slots := 0, locals := 12 }
set_option maxHeartbeats 4000000 in
theorem kX7_isOne (l : Launch) (hfl : l.flags = flags0) (E : w_E) (z : Nat) (T L : Nat → Nat) (V : w_V) (P : w_P) (t : Nat) (hT : T t = 7) (x1 : Int32) (x2 : Int32) (x3 : Int32) (post : Int32 → Prop) (w : wX7_isOne E.2.2.2.2 T L V P t x1 x2 x3 post) : gMi l yX7_isOne (ws_ yX7_isOne cX7_isOne 5 (some .boolean)) rX7_isOne 0 0 E [.ref t, .int x1, .int x2, .int x3] (z, T, L, V, P) (xW0 z T L V P) (fun x (_ : Unit) => post x) := by
  refine g_start (S := Unit) hfl (by decide +kernel) rfl [some (.ref t), some (.int x1), some (.int x2), some (.int x3), none] rfl (fun _ h => h) (Nat.le_of_ble_eq_true rfl) (fun X hl hRm hEe O hQ => ?_)
  subst hl
  subst hEe
  unfold wX7_isOne at w
  refine g_iconst (v := 5) O dX7_isOne_0 (by decide) ?_
  refine g_iload_n O dX7_isOne_1 rfl ?_
  refine g_imul O dX7_isOne_2 ?_
  refine g_iload_n O dX7_isOne_3 rfl ?_
  refine g_iadd O dX7_isOne_4 ?_
  refine g_istore O dX7_isOne_5 (Nat.le_of_ble_eq_true rfl) rfl (lv' := [some (.ref t), some (.int x1), some (.int x2), some (.int x3), some (.int ((5 * x1) + x2))]) rfl ?_
  refine g_aload_n O dX7_isOne_7 rfl ?_
  refine gx_getA (lay := 6) (j := 4) O ck6 (by decide) rfl rfl (by decide) hT q745 dX7_isOne_8 ?_
  refine g_iload O dX7_isOne_11 rfl ?_
  obtain ⟨i1, hi2, e3, w⟩ := w
  refine gx_iald (a := t) (kk0 := 5) (len := 30) (nn := i1) O (ha_own (lay := 6) (j := 4) (off := 3) (ty := 0) (len := 30) (by decide) hT rfl (by decide)) hi2 (by decide) e3 dX7_isOne_13 ?_
  refine g_iconst (v := 1) O dX7_isOne_14 (by decide) ?_
  refine g_icmp_ne (tgt := 43) O w dX7_isOne_15 (by decide) (fun w => ?_) (fun w => ?_)
  · refine g_iconst (v := 0) O dX7_isOne_43 (by decide) ?_
    exact g_iret (f := xW0 z T L V P) (u := ()) O hQ rfl rfl w dX7_isOne_44
  · refine g_aload_n O dX7_isOne_18 rfl ?_
    refine gx_getA (lay := 6) (j := 10) O ck6 (by decide) rfl rfl (by decide) hT q757 dX7_isOne_19 ?_
    refine g_iload O dX7_isOne_22 rfl ?_
    obtain ⟨i4, hi5, e6, w⟩ := w
    refine gx_zald (a := t) (kk0 := 11) (len := 30) (nn := i4) O (ha_own (lay := 6) (j := 10) (off := 9) (ty := 2) (len := 30) (by decide) hT rfl (by decide)) hi5 (by decide) e6 dX7_isOne_24 ?_
    refine g_if_ne (tgt := 43) O w dX7_isOne_25 (by decide) (fun w => ?_) (fun w => ?_)
    · refine g_iconst (v := 0) O dX7_isOne_43 (by decide) ?_
      exact g_iret (f := xW0 z T L V P) (u := ()) O hQ rfl rfl w dX7_isOne_44
    · refine g_aload_n O dX7_isOne_28 rfl ?_
      refine gx_getA (lay := 6) (j := 5) O ck6 (by decide) rfl rfl (by decide) hT q747 dX7_isOne_29 ?_
      refine g_iload O dX7_isOne_32 rfl ?_
      obtain ⟨i7, hi8, e9, w⟩ := w
      refine gx_iald (a := t) (kk0 := 6) (len := 30) (nn := i7) O (ha_own (lay := 6) (j := 5) (off := 4) (ty := 0) (len := 30) (by decide) hT rfl (by decide)) hi8 (by decide) e9 dX7_isOne_34 ?_
      refine g_iload_n O dX7_isOne_35 rfl ?_
      refine g_icmp_gt (tgt := 43) O w dX7_isOne_36 (by decide) (fun w => ?_) (fun w => ?_)
      · refine g_iconst (v := 0) O dX7_isOne_43 (by decide) ?_
        exact g_iret (f := xW0 z T L V P) (u := ()) O hQ rfl rfl w dX7_isOne_44
      · refine g_iconst (v := 1) O dX7_isOne_39 (by decide) ?_
        refine g_goto (tgt := 44) O dX7_isOne_40 (by decide) ?_
        exact g_iret (f := xW0 z T L V P) (u := ()) O hQ rfl rfl w dX7_isOne_44
-- X7_three
abbrev rX7_three : Room := { frames := 3, cells := 0, slots := 0, locals := 52 }
set_option maxHeartbeats 4000000 in
theorem vjX7_three_131 {X : Cx} {z : Nat} {T L : Nat → Nat} {V : w_V} {P : w_P} (O : Okc X cX7_three RX7 6 (some .int)) (hRm : cxR X = rX7_three) (t : Nat) (hT : T t = 7) (x1 : Int32) (x2 : Int32) (x3 : Int32) (x4 : Int32) (post : Int32 → Prop) (hQ : cxMQ X (va_Qi (fun x (_ : Unit) => post x) (fun u t => wdW (cxE X) (xW0 z T L V P u) t.heap) (w_A (cxE X))) 0 0) (kb : Int32 → Prop) (hkb : ∀ (y4 : Int32), kb y4 → gW X 0 0 z T L V P 15 [some (.ref t), some (.int x1), some (.int x2), some (.int x3), some (.int y4), none] []) (w : jX7_three_131 (cxE X).2.2.2.2 T L V P t x1 x2 x3 x4 post kb) : gW X 0 0 z T L V P 131 [some (.ref t), some (.int x1), some (.int x2), some (.int x3), some (.int x4), none] [] := by
  unfold jX7_three_131 at w
  refine g_iinc (v := (x4 + 1)) O dX7_three_131 rfl rfl rfl (lv' := [some (.ref t), some (.int x1), some (.int x2), some (.int x3), some (.int (x4 + 1)), none]) rfl ?_
  refine g_goto (tgt := 15) O dX7_three_134 (by decide) ?_
  exact hkb ((x4 + 1)) w
set_option maxHeartbeats 4000000 in
theorem vjX7_three_125 {X : Cx} {z : Nat} {T L : Nat → Nat} {V : w_V} {P : w_P} (O : Okc X cX7_three RX7 6 (some .int)) (hRm : cxR X = rX7_three) (t : Nat) (hT : T t = 7) (x1 : Int32) (x2 : Int32) (x3 : Int32) (x4 : Int32) (x5 : Int32) (post : Int32 → Prop) (hQ : cxMQ X (va_Qi (fun x (_ : Unit) => post x) (fun u t => wdW (cxE X) (xW0 z T L V P u) t.heap) (w_A (cxE X))) 0 0) (kb : Int32 → Prop) (hkb : ∀ (y5 : Int32), kb y5 → gW X 0 0 z T L V P 66 [some (.ref t), some (.int x1), some (.int x2), some (.int x3), some (.int x4), some (.int y5)] []) (w : jX7_three_125 (cxE X).2.2.2.2 T L V P t x1 x2 x3 x4 x5 post kb) : gW X 0 0 z T L V P 125 [some (.ref t), some (.int x1), some (.int x2), some (.int x3), some (.int x4), some (.int x5)] [] := by
  unfold jX7_three_125 at w
  refine g_iinc (v := (x5 + 1)) O dX7_three_125 rfl rfl rfl (lv' := [some (.ref t), some (.int x1), some (.int x2), some (.int x3), some (.int x4), some (.int (x5 + 1))]) rfl ?_
  refine g_goto (tgt := 66) O dX7_three_128 (by decide) ?_
  exact hkb ((x5 + 1)) w
set_option maxHeartbeats 4000000 in
theorem vlX7_three_66 {X : Cx} {z : Nat} {T L : Nat → Nat} {V : w_V} {P : w_P} (O : Okc X cX7_three RX7 6 (some .int)) (hRm : cxR X = rX7_three) (t : Nat) (hT : T t = 7) (x1 : Int32) (x2 : Int32) (x3 : Int32) (x4 : Int32) (post : Int32 → Prop) (hQ : cxMQ X (va_Qi (fun x (_ : Unit) => post x) (fun u t => wdW (cxE X) (xW0 z T L V P u) t.heap) (w_A (cxE X))) 0 0) (ke_111 : Int32 → Prop) (hke_111 : ∀ (y5 : Int32), ke_111 y5 → gW X 0 0 z T L V P 111 [some (.ref t), none, none, some (.int x3), some (.int x4), some (.int y5)] []) (ke_131 : Prop) (hke_131 : ke_131 → gW X 0 0 z T L V P 131 [some (.ref t), some (.int x1), some (.int x2), some (.int x3), some (.int x4), none] [])  : ∀ (n : Nat) (x5 : Int32), lX7_three_66 (cxE X).2.2.2.2 T L V P t x1 x2 x3 x4 post ke_111 ke_131 n x5 → gW X 0 0 z T L V P 66 [some (.ref t), some (.int x1), some (.int x2), some (.int x3), some (.int x4), some (.int x5)] [] := by
  intro n
  induction n with
  | zero =>
    intro x5 w
    exact w.elim
  | succ n ih =>
    intro x5 w
    unfold lX7_three_66 at w
    refine g_iload O dX7_three_66 rfl ?_
    refine g_aload_n O dX7_three_68 rfl ?_
    refine g_ri0 (gr_V (lay := 6) (nA := 0) (As := []) (rest := [.int x5]) O hRm (kX7_judges _ O.2.2.2.2.2.2.2.2 _ _ _ _ _ _ t hT _ w) (lw_V q1297 q1299 qs25 q132 q1300) rfl rfl (by decide +kernel) ⟨Nat.le_of_ble_eq_true rfl, Nat.le_of_ble_eq_true rfl⟩ ck6 (by decide) rfl hT rfl rfl rfl (Nat.le_of_ble_eq_true rfl) dX7_three_69 ⟨Nat.le_of_ble_eq_true rfl, Nat.le_of_ble_eq_true rfl⟩) (fun r16 w => ?_)
    refine g_icmp_ge (tgt := 131) O w dX7_three_72 (by decide) (fun w => ?_) (fun w => ?_)
    · refine g_drop [5] (lv' := [some (.ref t), some (.int x1), some (.int x2), some (.int x3), some (.int x4), none]) rfl ?_
      exact hke_131  w
    · refine g_aload_n O dX7_three_75 rfl ?_
      refine g_iload_n O dX7_three_76 rfl ?_
      refine g_iload O dX7_three_77 rfl ?_
      refine g_iload_n O dX7_three_79 rfl ?_
      refine g_ri0 (gr_V (lay := 6) (nA := 3) (As := [.int x1, .int x5, .int x2]) (rest := []) O hRm (kX7_isOne _ O.2.2.2.2.2.2.2.2 _ _ _ _ _ _ t hT (x1) (x5) (x2) _ w) (lw_V q1433 q1435 qs36 q132 q1436) rfl rfl (by decide +kernel) ⟨Nat.le_of_ble_eq_true rfl, Nat.le_of_ble_eq_true rfl⟩ ck6 (by decide) rfl hT rfl rfl rfl (Nat.le_of_ble_eq_true rfl) dX7_three_80 ⟨Nat.le_of_ble_eq_true rfl, Nat.le_of_ble_eq_true rfl⟩) (fun r19 w => ?_)
      refine g_if_eq (tgt := 125) O w dX7_three_83 (by decide) (fun w => ?_) (fun w => ?_)
      · exact vjX7_three_125 O hRm (V := V) (P := P) t hT (x1) (x2) (x3) (x4) (x5) post hQ (lX7_three_66 (cxE X).2.2.2.2 T L V P t x1 x2 x3 x4 post ke_111 ke_131 n) ih w
      · refine g_aload_n O dX7_three_86 rfl ?_
        refine g_iload_n O dX7_three_87 rfl ?_
        refine g_iload_n O dX7_three_88 rfl ?_
        refine g_iload O dX7_three_89 rfl ?_
        refine g_iload_n O dX7_three_91 rfl ?_
        refine g_ri0 (gr_V (lay := 6) (nA := 4) (As := [.int x1, .int x3, .int x5, .int x2]) (rest := []) O hRm (kX7_areApart _ O.2.2.2.2.2.2.2.2 _ _ _ _ _ _ t hT (x1) (x3) (x5) (x2) _ w) (lw_V q1437 q1439 qs37 q132 q1440) rfl rfl (by decide +kernel) ⟨Nat.le_of_ble_eq_true rfl, Nat.le_of_ble_eq_true rfl⟩ ck6 (by decide) rfl hT rfl rfl rfl (Nat.le_of_ble_eq_true rfl) dX7_three_92 ⟨Nat.le_of_ble_eq_true rfl, Nat.le_of_ble_eq_true rfl⟩) (fun r22 w => ?_)
        refine g_if_eq (tgt := 125) O w dX7_three_95 (by decide) (fun w => ?_) (fun w => ?_)
        · exact vjX7_three_125 O hRm (V := V) (P := P) t hT (x1) (x2) (x3) (x4) (x5) post hQ (lX7_three_66 (cxE X).2.2.2.2 T L V P t x1 x2 x3 x4 post ke_111 ke_131 n) ih w
        · refine g_aload_n O dX7_three_98 rfl ?_
          refine g_iload_n O dX7_three_99 rfl ?_
          refine g_iload O dX7_three_100 rfl ?_
          refine g_iload O dX7_three_102 rfl ?_
          refine g_iload_n O dX7_three_104 rfl ?_
          refine g_ri0 (gr_V (lay := 6) (nA := 4) (As := [.int x1, .int x4, .int x5, .int x2]) (rest := []) O hRm (kX7_areApart _ O.2.2.2.2.2.2.2.2 _ _ _ _ _ _ t hT (x1) (x4) (x5) (x2) _ w) (lw_V q1437 q1439 qs37 q132 q1440) rfl rfl (by decide +kernel) ⟨Nat.le_of_ble_eq_true rfl, Nat.le_of_ble_eq_true rfl⟩ ck6 (by decide) rfl hT rfl rfl rfl (Nat.le_of_ble_eq_true rfl) dX7_three_105 ⟨Nat.le_of_ble_eq_true rfl, Nat.le_of_ble_eq_true rfl⟩) (fun r25 w => ?_)
          refine g_if_eq (tgt := 125) O w dX7_three_108 (by decide) (fun w => ?_) (fun w => ?_)
          · exact vjX7_three_125 O hRm (V := V) (P := P) t hT (x1) (x2) (x3) (x4) (x5) post hQ (lX7_three_66 (cxE X).2.2.2.2 T L V P t x1 x2 x3 x4 post ke_111 ke_131 n) ih w
          · refine g_drop [1, 2] (lv' := [some (.ref t), none, none, some (.int x3), some (.int x4), some (.int x5)]) rfl ?_
            exact hke_111 (x5) w
set_option maxHeartbeats 4000000 in
theorem vlX7_three_15 {X : Cx} {z : Nat} {T L : Nat → Nat} {V : w_V} {P : w_P} (O : Okc X cX7_three RX7 6 (some .int)) (hRm : cxR X = rX7_three) (t : Nat) (hT : T t = 7) (x1 : Int32) (x2 : Int32) (x3 : Int32) (post : Int32 → Prop) (hQ : cxMQ X (va_Qi (fun x (_ : Unit) => post x) (fun u t => wdW (cxE X) (xW0 z T L V P u) t.heap) (w_A (cxE X))) 0 0) (ke_111 : Int32 → Int32 → Prop) (hke_111 : ∀ (y4 : Int32) (y5 : Int32), ke_111 y4 y5 → gW X 0 0 z T L V P 111 [some (.ref t), none, none, some (.int x3), some (.int y4), some (.int y5)] []) (ke_137 : Prop) (hke_137 : ke_137 → gW X 0 0 z T L V P 137 [some (.ref t), some (.int x1), some (.int x2), some (.int x3), none, none] [])  : ∀ (n : Nat) (x4 : Int32), lX7_three_15 (cxE X).2.2.2.2 T L V P t x1 x2 x3 post ke_111 ke_137 n x4 → gW X 0 0 z T L V P 15 [some (.ref t), some (.int x1), some (.int x2), some (.int x3), some (.int x4), none] [] := by
  intro n
  induction n with
  | zero =>
    intro x4 w
    exact w.elim
  | succ n ih =>
    intro x4 w
    unfold lX7_three_15 at w
    refine g_iload O dX7_three_15 rfl ?_
    refine g_aload_n O dX7_three_17 rfl ?_
    refine g_ri0 (gr_V (lay := 6) (nA := 0) (As := []) (rest := [.int x4]) O hRm (kX7_judges _ O.2.2.2.2.2.2.2.2 _ _ _ _ _ _ t hT _ w) (lw_V q1297 q1299 qs25 q132 q1300) rfl rfl (by decide +kernel) ⟨Nat.le_of_ble_eq_true rfl, Nat.le_of_ble_eq_true rfl⟩ ck6 (by decide) rfl hT rfl rfl rfl (Nat.le_of_ble_eq_true rfl) dX7_three_18 ⟨Nat.le_of_ble_eq_true rfl, Nat.le_of_ble_eq_true rfl⟩) (fun r4 w => ?_)
    refine g_icmp_ge (tgt := 137) O w dX7_three_21 (by decide) (fun w => ?_) (fun w => ?_)
    · refine g_drop [4] (lv' := [some (.ref t), some (.int x1), some (.int x2), some (.int x3), none, none]) rfl ?_
      exact hke_137  w
    · refine g_aload_n O dX7_three_24 rfl ?_
      refine g_iload_n O dX7_three_25 rfl ?_
      refine g_iload_n O dX7_three_26 rfl ?_
      refine g_iload_n O dX7_three_27 rfl ?_
      refine g_ri0 (gr_V (lay := 6) (nA := 3) (As := [.int x1, .int x3, .int x2]) (rest := []) O hRm (kX7_isOne _ O.2.2.2.2.2.2.2.2 _ _ _ _ _ _ t hT (x1) (x3) (x2) _ w) (lw_V q1433 q1435 qs36 q132 q1436) rfl rfl (by decide +kernel) ⟨Nat.le_of_ble_eq_true rfl, Nat.le_of_ble_eq_true rfl⟩ ck6 (by decide) rfl hT rfl rfl rfl (Nat.le_of_ble_eq_true rfl) dX7_three_28 ⟨Nat.le_of_ble_eq_true rfl, Nat.le_of_ble_eq_true rfl⟩) (fun r7 w => ?_)
      refine g_if_eq (tgt := 131) O w dX7_three_31 (by decide) (fun w => ?_) (fun w => ?_)
      · exact vjX7_three_131 O hRm (V := V) (P := P) t hT (x1) (x2) (x3) (x4) post hQ (lX7_three_15 (cxE X).2.2.2.2 T L V P t x1 x2 x3 post ke_111 ke_137 n) ih w
      · refine g_aload_n O dX7_three_34 rfl ?_
        refine g_iload_n O dX7_three_35 rfl ?_
        refine g_iload O dX7_three_36 rfl ?_
        refine g_iload_n O dX7_three_38 rfl ?_
        refine g_ri0 (gr_V (lay := 6) (nA := 3) (As := [.int x1, .int x4, .int x2]) (rest := []) O hRm (kX7_isOne _ O.2.2.2.2.2.2.2.2 _ _ _ _ _ _ t hT (x1) (x4) (x2) _ w) (lw_V q1433 q1435 qs36 q132 q1436) rfl rfl (by decide +kernel) ⟨Nat.le_of_ble_eq_true rfl, Nat.le_of_ble_eq_true rfl⟩ ck6 (by decide) rfl hT rfl rfl rfl (Nat.le_of_ble_eq_true rfl) dX7_three_39 ⟨Nat.le_of_ble_eq_true rfl, Nat.le_of_ble_eq_true rfl⟩) (fun r10 w => ?_)
        refine g_if_eq (tgt := 131) O w dX7_three_42 (by decide) (fun w => ?_) (fun w => ?_)
        · exact vjX7_three_131 O hRm (V := V) (P := P) t hT (x1) (x2) (x3) (x4) post hQ (lX7_three_15 (cxE X).2.2.2.2 T L V P t x1 x2 x3 post ke_111 ke_137 n) ih w
        · refine g_aload_n O dX7_three_45 rfl ?_
          refine g_iload_n O dX7_three_46 rfl ?_
          refine g_iload_n O dX7_three_47 rfl ?_
          refine g_iload O dX7_three_48 rfl ?_
          refine g_iload_n O dX7_three_50 rfl ?_
          refine g_ri0 (gr_V (lay := 6) (nA := 4) (As := [.int x1, .int x3, .int x4, .int x2]) (rest := []) O hRm (kX7_areApart _ O.2.2.2.2.2.2.2.2 _ _ _ _ _ _ t hT (x1) (x3) (x4) (x2) _ w) (lw_V q1437 q1439 qs37 q132 q1440) rfl rfl (by decide +kernel) ⟨Nat.le_of_ble_eq_true rfl, Nat.le_of_ble_eq_true rfl⟩ ck6 (by decide) rfl hT rfl rfl rfl (Nat.le_of_ble_eq_true rfl) dX7_three_51 ⟨Nat.le_of_ble_eq_true rfl, Nat.le_of_ble_eq_true rfl⟩) (fun r13 w => ?_)
          refine g_if_ne (tgt := 60) O w dX7_three_54 (by decide) (fun w => ?_) (fun w => ?_)
          · refine g_iload O dX7_three_60 rfl ?_
            refine g_iconst (v := 1) O dX7_three_62 (by decide) ?_
            refine g_iadd O dX7_three_63 ?_
            refine g_istore O dX7_three_64 (Nat.le_of_ble_eq_true rfl) rfl (lv' := [some (.ref t), some (.int x1), some (.int x2), some (.int x3), some (.int x4), some (.int (x4 + 1))]) rfl ?_
            obtain ⟨n29, w⟩ := w
            refine vlX7_three_66 O hRm (V := V) (P := P) t hT (x1) (x2) (x3) (x4) post hQ _ (fun y28 w => ?_) _ (fun w => ?_) n29 ((x4 + 1)) w
            · exact hke_111 (x4) (y28) w
            · exact vjX7_three_131 O hRm (V := V) (P := P) t hT (x1) (x2) (x3) (x4) post hQ (lX7_three_15 (cxE X).2.2.2.2 T L V P t x1 x2 x3 post ke_111 ke_137 n) ih w
          · refine g_goto (tgt := 131) O dX7_three_57 (by decide) ?_
            exact vjX7_three_131 O hRm (V := V) (P := P) t hT (x1) (x2) (x3) (x4) post hQ (lX7_three_15 (cxE X).2.2.2.2 T L V P t x1 x2 x3 post ke_111 ke_137 n) ih w
set_option maxHeartbeats 4000000 in
theorem vlX7_three_2 {X : Cx} {z : Nat} {T L : Nat → Nat} {V : w_V} {P : w_P} (O : Okc X cX7_three RX7 6 (some .int)) (hRm : cxR X = rX7_three) (t : Nat) (hT : T t = 7) (x1 : Int32) (x2 : Int32) (post : Int32 → Prop) (hQ : cxMQ X (va_Qi (fun x (_ : Unit) => post x) (fun u t => wdW (cxE X) (xW0 z T L V P u) t.heap) (w_A (cxE X))) 0 0) (ke_111 : Int32 → Int32 → Int32 → Prop) (hke_111 : ∀ (y3 : Int32) (y4 : Int32) (y5 : Int32), ke_111 y3 y4 y5 → gW X 0 0 z T L V P 111 [some (.ref t), none, none, some (.int y3), some (.int y4), some (.int y5)] [])  : ∀ (n : Nat) (x3 : Int32), lX7_three_2 (cxE X).2.2.2.2 T L V P t x1 x2 post ke_111 n x3 → gW X 0 0 z T L V P 2 [some (.ref t), some (.int x1), some (.int x2), some (.int x3), none, none] [] := by
  intro n
  induction n with
  | zero =>
    intro x3 w
    exact w.elim
  | succ n ih =>
    intro x3 w
    unfold lX7_three_2 at w
    refine g_iload_n O dX7_three_2 rfl ?_
    refine g_aload_n O dX7_three_3 rfl ?_
    refine g_ri0 (gr_V (lay := 6) (nA := 0) (As := []) (rest := [.int x3]) O hRm (kX7_judges _ O.2.2.2.2.2.2.2.2 _ _ _ _ _ _ t hT _ w) (lw_V q1297 q1299 qs25 q132 q1300) rfl rfl (by decide +kernel) ⟨Nat.le_of_ble_eq_true rfl, Nat.le_of_ble_eq_true rfl⟩ ck6 (by decide) rfl hT rfl rfl rfl (Nat.le_of_ble_eq_true rfl) dX7_three_4 ⟨Nat.le_of_ble_eq_true rfl, Nat.le_of_ble_eq_true rfl⟩) (fun r1 w => ?_)
    refine g_icmp_ge (tgt := 143) O w dX7_three_7 (by decide) (fun w => ?_) (fun w => ?_)
    · refine g_iconst (v := 0) O dX7_three_143 (by decide) ?_
      exact g_iret (f := xW0 z T L V P) (u := ()) O hQ rfl rfl w dX7_three_144
    · refine g_iload_n O dX7_three_10 rfl ?_
      refine g_iconst (v := 1) O dX7_three_11 (by decide) ?_
      refine g_iadd O dX7_three_12 ?_
      refine g_istore O dX7_three_13 (Nat.le_of_ble_eq_true rfl) rfl (lv' := [some (.ref t), some (.int x1), some (.int x2), some (.int x3), some (.int (x3 + 1)), none]) rfl ?_
      obtain ⟨n32, w⟩ := w
      refine vlX7_three_15 O hRm (V := V) (P := P) t hT (x1) (x2) (x3) post hQ _ (fun y30 y31 w => ?_) _ (fun w => ?_) n32 ((x3 + 1)) w
      · exact hke_111 (x3) (y30) (y31) w
      · refine g_iinc (v := (x3 + 1)) O dX7_three_137 rfl rfl rfl (lv' := [some (.ref t), some (.int x1), some (.int x2), some (.int (x3 + 1)), none, none]) rfl ?_
        refine g_goto (tgt := 2) O dX7_three_140 (by decide) ?_
        exact ih ((x3 + 1)) w
set_option maxHeartbeats 4000000 in
theorem kX7_three (l : Launch) (hfl : l.flags = flags0) (E : w_E) (z : Nat) (T L : Nat → Nat) (V : w_V) (P : w_P) (t : Nat) (hT : T t = 7) (x1 : Int32) (x2 : Int32) (post : Int32 → Prop) (w : wX7_three E.2.2.2.2 T L V P t x1 x2 post) : gMi l yX7_three (ws_ yX7_three cX7_three 6 (some .int)) rX7_three 0 0 E [.ref t, .int x1, .int x2] (z, T, L, V, P) (xW0 z T L V P) (fun x (_ : Unit) => post x) := by
  refine g_start (S := Unit) hfl (by decide +kernel) rfl [some (.ref t), some (.int x1), some (.int x2), none, none, none] rfl (fun _ h => h) (Nat.le_of_ble_eq_true rfl) (fun X hl hRm hEe O hQ => ?_)
  subst hl
  subst hEe
  unfold wX7_three at w
  refine g_iconst (v := 0) O dX7_three_0 (by decide) ?_
  refine g_istore_n O dX7_three_1 (Nat.le_of_ble_eq_true rfl) rfl (lv' := [some (.ref t), some (.int x1), some (.int x2), some (.int 0), none, none]) rfl ?_
  obtain ⟨n36, w⟩ := w
  refine vlX7_three_2 O hRm (V := V) (P := P) t hT (x1) (x2) post hQ _ (fun y33 y34 y35 w => ?_) n36 (0) w
  refine g_iconst (v := 1) O dX7_three_111 (by decide) ?_
  refine g_iload_n O dX7_three_112 rfl ?_
  refine g_ishl O dX7_three_113 ?_
  refine g_iconst (v := 1) O dX7_three_114 (by decide) ?_
  refine g_iload O dX7_three_115 rfl ?_
  refine g_ishl O dX7_three_117 ?_
  refine g_ior O dX7_three_118 ?_
  refine g_iconst (v := 1) O dX7_three_119 (by decide) ?_
  refine g_iload O dX7_three_120 rfl ?_
  refine g_ishl O dX7_three_122 ?_
  refine g_ior O dX7_three_123 ?_
  exact g_iret (f := xW0 z T L V P) (u := ()) O hQ rfl rfl w dX7_three_124
-- X7_all
abbrev rX7_all : Room := { frames := 1248, cells := 0, slots := 0, locals := 37352 }
set_option maxHeartbeats 4000000 in
theorem vlX7_all_6 {X : Cx} {z : Nat} {T L : Nat → Nat} {P : w_P} (O : Okc X cX7_all RX7 5 (some .int)) (hRm : cxR X = rX7_all) (t : Nat) (hT : T t = 7) (post : Int32 → w_V → Prop) (hQ : cxMQ X (va_Qi post (fun u t => wdW (cxE X) (xW1 z T L P u) t.heap) (w_A (cxE X))) 0 0) (ke_46 : w_V → Prop) (hke_46 : ∀ (V2 : w_V), ke_46 V2 → gW X 0 0 z T L V2 P 46 [some (.ref t), none, none, none, none] [])  : ∀ (n : Nat) (x1 : Int32) (V : w_V), lX7_all_6 (cxE X).2.2.2.2 T L P t post ke_46 n x1 V → gW X 0 0 z T L V P 6 [some (.ref t), some (.int x1), none, none, none] [] := by
  intro n
  induction n with
  | zero =>
    intro x1 V w
    exact w.elim
  | succ n ih =>
    intro x1 V w
    unfold lX7_all_6 at w
    refine g_iload_n O dX7_all_6 rfl ?_
    refine g_bipush (v := 30) O dX7_all_7 (by decide) ?_
    refine g_icmp_ge (tgt := 46) O w dX7_all_9 (by decide) (fun w => ?_) (fun w => ?_)
    · refine g_drop [1] (lv' := [some (.ref t), none, none, none, none]) rfl ?_
      exact hke_46 (V) w
    · refine g_aload_n O dX7_all_12 rfl ?_
      refine gx_getA (lay := 6) (j := 4) O ck6 (by decide) rfl rfl (by decide) hT q745 dX7_all_13 ?_
      refine g_iload_n O dX7_all_16 rfl ?_
      refine g_iconst (v := (-1)) O dX7_all_17 (by decide) ?_
      obtain ⟨i4, hi5, e6, w⟩ := w
      refine gx_iast (a := t) (kk0 := 5) (len := 30) (nn := i4) O (ha_own (lay := 6) (j := 4) (off := 3) (ty := 0) (len := 30) (by decide) hT rfl (by decide)) hi5 (by decide) e6 dX7_all_18 ?_
      refine g_nV w (fun V7 w _ => ?_)
      refine g_aload_n O dX7_all_19 rfl ?_
      refine gx_getA (lay := 6) (j := 5) O ck6 (by decide) rfl rfl (by decide) hT q747 dX7_all_20 ?_
      refine g_iload_n O dX7_all_23 rfl ?_
      refine g_iconst (v := (-1)) O dX7_all_24 (by decide) ?_
      obtain ⟨i8, hi9, e10, w⟩ := w
      refine gx_iast (a := t) (kk0 := 6) (len := 30) (nn := i8) O (ha_own (lay := 6) (j := 5) (off := 4) (ty := 0) (len := 30) (by decide) hT rfl (by decide)) hi9 (by decide) e10 dX7_all_25 ?_
      refine g_nV w (fun V11 w _ => ?_)
      refine g_aload_n O dX7_all_26 rfl ?_
      refine gx_getA (lay := 6) (j := 6) O ck6 (by decide) rfl rfl (by decide) hT q749 dX7_all_27 ?_
      refine g_iload_n O dX7_all_30 rfl ?_
      refine g_iconst (v := (-1)) O dX7_all_31 (by decide) ?_
      obtain ⟨i12, hi13, e14, w⟩ := w
      refine gx_iast (a := t) (kk0 := 7) (len := 30) (nn := i12) O (ha_own (lay := 6) (j := 6) (off := 5) (ty := 0) (len := 30) (by decide) hT rfl (by decide)) hi13 (by decide) e14 dX7_all_32 ?_
      refine g_nV w (fun V15 w _ => ?_)
      refine g_aload_n O dX7_all_33 rfl ?_
      refine gx_getA (lay := 6) (j := 10) O ck6 (by decide) rfl rfl (by decide) hT q757 dX7_all_34 ?_
      refine g_iload_n O dX7_all_37 rfl ?_
      refine g_iconst (v := 0) O dX7_all_38 (by decide) ?_
      obtain ⟨i16, hi17, e18, w⟩ := w
      refine gx_zast (a := t) (kk0 := 11) (len := 30) (nn := i16) O (ha_own (lay := 6) (j := 10) (off := 9) (ty := 2) (len := 30) (by decide) hT rfl (by decide)) hi17 (by decide) e18 dX7_all_39 ?_
      refine g_nV w (fun V19 w _ => ?_)
      refine g_iinc (v := (x1 + 1)) O dX7_all_40 rfl rfl rfl (lv' := [some (.ref t), some (.int (x1 + 1)), none, none, none]) rfl ?_
      refine g_goto (tgt := 6) O dX7_all_43 (by decide) ?_
      exact ih ((x1 + 1)) (V19) w
set_option maxHeartbeats 4000000 in
theorem vlX7_all_57 {X : Cx} {z : Nat} {T L : Nat → Nat} {P : w_P} (O : Okc X cX7_all RX7 5 (some .int)) (hRm : cxR X = rX7_all) (t : Nat) (hT : T t = 7) (x1 : Int32) (post : Int32 → w_V → Prop) (hQ : cxMQ X (va_Qi post (fun u t => wdW (cxE X) (xW1 z T L P u) t.heap) (w_A (cxE X))) 0 0) (ke_77 : w_V → Prop) (hke_77 : ∀ (V2 : w_V), ke_77 V2 → gW X 0 0 z T L V2 P 77 [some (.ref t), some (.int x1), none, none, none] [])  : ∀ (n : Nat) (x2 : Int32) (V : w_V), lX7_all_57 (cxE X).2.2.2.2 T L P t x1 post ke_77 n x2 V → gW X 0 0 z T L V P 57 [some (.ref t), some (.int x1), some (.int x2), none, none] [] := by
  intro n
  induction n with
  | zero =>
    intro x2 V w
    exact w.elim
  | succ n ih =>
    intro x2 V w
    unfold lX7_all_57 at w
    refine g_iload_n O dX7_all_57 rfl ?_
    refine g_aload_n O dX7_all_58 rfl ?_
    refine g_ri0 (gr_V (lay := 6) (nA := 0) (As := []) (rest := [.int x2]) O hRm (kX7_judges _ O.2.2.2.2.2.2.2.2 _ _ _ _ _ _ t hT _ w) (lw_V q1297 q1299 qs25 q132 q1300) rfl rfl (by decide +kernel) ⟨Nat.le_of_ble_eq_true rfl, Nat.le_of_ble_eq_true rfl⟩ ck6 (by decide) rfl hT rfl rfl rfl (Nat.le_of_ble_eq_true rfl) dX7_all_59 ⟨Nat.le_of_ble_eq_true rfl, Nat.le_of_ble_eq_true rfl⟩) (fun r21 w => ?_)
    refine g_icmp_ge (tgt := 77) O w dX7_all_62 (by decide) (fun w => ?_) (fun w => ?_)
    · refine g_drop [2] (lv' := [some (.ref t), some (.int x1), none, none, none]) rfl ?_
      exact hke_77 (V) w
    · refine g_aload_n O dX7_all_65 rfl ?_
      refine g_iload_n O dX7_all_66 rfl ?_
      refine g_iload_n O dX7_all_67 rfl ?_
      refine g_rv1 (gr_V (lay := 6) (nA := 2) (As := [.int x2, .int x1]) (rest := []) O hRm (kX7_hears _ O.2.2.2.2.2.2.2.2 _ _ _ _ _ _ t hT (x2) (x1) _ w) (lw_V q1322 q1324 qs27 q132 q1325) rfl rfl (by decide +kernel) ⟨Nat.le_of_ble_eq_true rfl, Nat.le_of_ble_eq_true rfl⟩ ck6 (by decide) rfl hT rfl rfl rfl (Nat.le_of_ble_eq_true rfl) dX7_all_68 ⟨Nat.le_of_ble_eq_true rfl, Nat.le_of_ble_eq_true rfl⟩) (fun V25 w => ?_)
      refine g_iinc (v := (x2 + 1)) O dX7_all_71 rfl rfl rfl (lv' := [some (.ref t), some (.int x1), some (.int (x2 + 1)), none, none]) rfl ?_
      refine g_goto (tgt := 57) O dX7_all_74 (by decide) ?_
      exact ih ((x2 + 1)) (V25) w
set_option maxHeartbeats 4000000 in
theorem vlX7_all_48 {X : Cx} {z : Nat} {T L : Nat → Nat} {P : w_P} (O : Okc X cX7_all RX7 5 (some .int)) (hRm : cxR X = rX7_all) (t : Nat) (hT : T t = 7) (post : Int32 → w_V → Prop) (hQ : cxMQ X (va_Qi post (fun u t => wdW (cxE X) (xW1 z T L P u) t.heap) (w_A (cxE X))) 0 0) (ke_83 : w_V → Prop) (hke_83 : ∀ (V2 : w_V), ke_83 V2 → gW X 0 0 z T L V2 P 83 [some (.ref t), none, none, none, none] [])  : ∀ (n : Nat) (x1 : Int32) (V : w_V), lX7_all_48 (cxE X).2.2.2.2 T L P t post ke_83 n x1 V → gW X 0 0 z T L V P 48 [some (.ref t), some (.int x1), none, none, none] [] := by
  intro n
  induction n with
  | zero =>
    intro x1 V w
    exact w.elim
  | succ n ih =>
    intro x1 V w
    unfold lX7_all_48 at w
    refine g_iload_n O dX7_all_48 rfl ?_
    refine g_sipush (v := 140) O dX7_all_49 (by decide) ?_
    refine g_icmp_ge (tgt := 83) O w dX7_all_52 (by decide) (fun w => ?_) (fun w => ?_)
    · refine g_drop [1] (lv' := [some (.ref t), none, none, none, none]) rfl ?_
      exact hke_83 (V) w
    · refine g_iconst (v := 0) O dX7_all_55 (by decide) ?_
      refine g_istore_n O dX7_all_56 (Nat.le_of_ble_eq_true rfl) rfl (lv' := [some (.ref t), some (.int x1), some (.int 0), none, none]) rfl ?_
      obtain ⟨n28, w⟩ := w
      refine vlX7_all_57 O hRm (P := P) t hT (x1) post hQ _ (fun V27 w => ?_) n28 (0) (V) w
      refine g_iinc (v := (x1 + 1)) O dX7_all_77 rfl rfl rfl (lv' := [some (.ref t), some (.int (x1 + 1)), none, none, none]) rfl ?_
      refine g_goto (tgt := 48) O dX7_all_80 (by decide) ?_
      exact ih ((x1 + 1)) (V27) w
set_option maxHeartbeats 4000000 in
theorem vjX7_all_129 {X : Cx} {z : Nat} {T L : Nat → Nat} {V : w_V} {P : w_P} (O : Okc X cX7_all RX7 5 (some .int)) (hRm : cxR X = rX7_all) (t : Nat) (hT : T t = 7) (x1 : Int32) (x2 : Int32) (t0 : Int32) (t1 : Int32) (post : Int32 → w_V → Prop) (hQ : cxMQ X (va_Qi post (fun u t => wdW (cxE X) (xW1 z T L P u) t.heap) (w_A (cxE X))) 0 0) (kb : Int32 → w_V → Prop) (hkb : ∀ (y2 : Int32) (V2 : w_V), kb y2 V2 → gW X 0 0 z T L V2 P 95 [some (.ref t), some (.int x1), some (.int y2), none, none] []) (w : jX7_all_129 (cxE X).2.2.2.2 T L V P t x1 x2 t0 t1 post kb) : gW X 0 0 z T L V P 129 [some (.ref t), some (.int x1), some (.int x2), none, none] [.int t0, .int t1, .ref (t + 6)] := by
  unfold jX7_all_129 at w
  obtain ⟨i39, hi40, e41, w⟩ := w
  refine gx_iast (a := t) (kk0 := 8) (len := 25) (nn := i39) O (ha_own (lay := 6) (j := 7) (off := 6) (ty := 0) (len := 25) (by decide) hT rfl (by decide)) hi40 (by decide) e41 dX7_all_129 ?_
  refine g_nV w (fun V42 w _ => ?_)
  refine g_iinc (v := (x2 + 1)) O dX7_all_130 rfl rfl rfl (lv' := [some (.ref t), some (.int x1), some (.int (x2 + 1)), none, none]) rfl ?_
  refine g_goto (tgt := 95) O dX7_all_133 (by decide) ?_
  exact hkb ((x2 + 1)) (V42) w
set_option maxHeartbeats 4000000 in
theorem vlX7_all_95 {X : Cx} {z : Nat} {T L : Nat → Nat} {P : w_P} (O : Okc X cX7_all RX7 5 (some .int)) (hRm : cxR X = rX7_all) (t : Nat) (hT : T t = 7) (x1 : Int32) (post : Int32 → w_V → Prop) (hQ : cxMQ X (va_Qi post (fun u t => wdW (cxE X) (xW1 z T L P u) t.heap) (w_A (cxE X))) 0 0) (ke_136 : w_V → Prop) (hke_136 : ∀ (V2 : w_V), ke_136 V2 → gW X 0 0 z T L V2 P 136 [some (.ref t), some (.int x1), none, none, none] [])  : ∀ (n : Nat) (x2 : Int32) (V : w_V), lX7_all_95 (cxE X).2.2.2.2 T L P t x1 post ke_136 n x2 V → gW X 0 0 z T L V P 95 [some (.ref t), some (.int x1), some (.int x2), none, none] [] := by
  intro n
  induction n with
  | zero =>
    intro x2 V w
    exact w.elim
  | succ n ih =>
    intro x2 V w
    unfold lX7_all_95 at w
    refine g_iload_n O dX7_all_95 rfl ?_
    refine g_aload_n O dX7_all_96 rfl ?_
    refine g_ri0 (gr_V (lay := 6) (nA := 0) (As := []) (rest := [.int x2]) O hRm (kX7_judges _ O.2.2.2.2.2.2.2.2 _ _ _ _ _ _ t hT _ w) (lw_V q1297 q1299 qs25 q132 q1300) rfl rfl (by decide +kernel) ⟨Nat.le_of_ble_eq_true rfl, Nat.le_of_ble_eq_true rfl⟩ ck6 (by decide) rfl hT rfl rfl rfl (Nat.le_of_ble_eq_true rfl) dX7_all_97 ⟨Nat.le_of_ble_eq_true rfl, Nat.le_of_ble_eq_true rfl⟩) (fun r33 w => ?_)
    refine g_icmp_ge (tgt := 136) O w dX7_all_100 (by decide) (fun w => ?_) (fun w => ?_)
    · refine g_drop [2] (lv' := [some (.ref t), some (.int x1), none, none, none]) rfl ?_
      exact hke_136 (V) w
    · refine g_aload_n O dX7_all_103 rfl ?_
      refine gx_getA (lay := 6) (j := 7) O ck6 (by decide) rfl rfl (by decide) hT q751 dX7_all_104 ?_
      refine g_iconst (v := 5) O dX7_all_107 (by decide) ?_
      refine g_iload_n O dX7_all_108 rfl ?_
      refine g_imul O dX7_all_109 ?_
      refine g_iload_n O dX7_all_110 rfl ?_
      refine g_iadd O dX7_all_111 ?_
      refine g_iload_n O dX7_all_112 rfl ?_
      refine g_iload_n O dX7_all_113 rfl ?_
      refine g_icmp_ne (tgt := 123) O w dX7_all_114 (by decide) (fun w => ?_) (fun w => ?_)
      · refine g_aload_n O dX7_all_123 rfl ?_
        refine g_iload_n O dX7_all_124 rfl ?_
        refine g_iload_n O dX7_all_125 rfl ?_
        refine g_ri0 (gr_V (lay := 6) (nA := 2) (As := [.int x1, .int x2]) (rest := [.int ((5 * x1) + x2), .ref (t + 6)]) O hRm (kX7_meets _ O.2.2.2.2.2.2.2.2 _ _ _ _ _ _ t hT (x1) (x2) _ w) (lw_V q1390 q1392 qs30 q132 q1393) rfl rfl (by decide +kernel) ⟨Nat.le_of_ble_eq_true rfl, Nat.le_of_ble_eq_true rfl⟩ ck6 (by decide) rfl hT rfl rfl rfl (Nat.le_of_ble_eq_true rfl) dX7_all_126 ⟨Nat.le_of_ble_eq_true rfl, Nat.le_of_ble_eq_true rfl⟩) (fun r36 w => ?_)
        exact vjX7_all_129 O hRm (V := V) (P := P) t hT (x1) (x2) (r36) (((5 * x1) + x2)) post hQ (lX7_all_95 (cxE X).2.2.2.2 T L P t x1 post ke_136 n) ih w
      · refine g_sipush (v := 9999) O dX7_all_117 (by decide) ?_
        refine g_goto (tgt := 129) O dX7_all_120 (by decide) ?_
        exact vjX7_all_129 O hRm (V := V) (P := P) t hT (x1) (x2) (9999) (((5 * x1) + x2)) post hQ (lX7_all_95 (cxE X).2.2.2.2 T L P t x1 post ke_136 n) ih w
set_option maxHeartbeats 4000000 in
theorem vlX7_all_85 {X : Cx} {z : Nat} {T L : Nat → Nat} {P : w_P} (O : Okc X cX7_all RX7 5 (some .int)) (hRm : cxR X = rX7_all) (t : Nat) (hT : T t = 7) (post : Int32 → w_V → Prop) (hQ : cxMQ X (va_Qi post (fun u t => wdW (cxE X) (xW1 z T L P u) t.heap) (w_A (cxE X))) 0 0) (ke_142 : w_V → Prop) (hke_142 : ∀ (V2 : w_V), ke_142 V2 → gW X 0 0 z T L V2 P 142 [some (.ref t), none, none, none, none] [])  : ∀ (n : Nat) (x1 : Int32) (V : w_V), lX7_all_85 (cxE X).2.2.2.2 T L P t post ke_142 n x1 V → gW X 0 0 z T L V P 85 [some (.ref t), some (.int x1), none, none, none] [] := by
  intro n
  induction n with
  | zero =>
    intro x1 V w
    exact w.elim
  | succ n ih =>
    intro x1 V w
    unfold lX7_all_85 at w
    refine g_iload_n O dX7_all_85 rfl ?_
    refine g_aload_n O dX7_all_86 rfl ?_
    refine g_ri0 (gr_V (lay := 6) (nA := 0) (As := []) (rest := [.int x1]) O hRm (kX7_judges _ O.2.2.2.2.2.2.2.2 _ _ _ _ _ _ t hT _ w) (lw_V q1297 q1299 qs25 q132 q1300) rfl rfl (by decide +kernel) ⟨Nat.le_of_ble_eq_true rfl, Nat.le_of_ble_eq_true rfl⟩ ck6 (by decide) rfl hT rfl rfl rfl (Nat.le_of_ble_eq_true rfl) dX7_all_87 ⟨Nat.le_of_ble_eq_true rfl, Nat.le_of_ble_eq_true rfl⟩) (fun r30 w => ?_)
    refine g_icmp_ge (tgt := 142) O w dX7_all_90 (by decide) (fun w => ?_) (fun w => ?_)
    · refine g_drop [1] (lv' := [some (.ref t), none, none, none, none]) rfl ?_
      exact hke_142 (V) w
    · refine g_iconst (v := 0) O dX7_all_93 (by decide) ?_
      refine g_istore_n O dX7_all_94 (Nat.le_of_ble_eq_true rfl) rfl (lv' := [some (.ref t), some (.int x1), some (.int 0), none, none]) rfl ?_
      obtain ⟨n44, w⟩ := w
      refine vlX7_all_95 O hRm (P := P) t hT (x1) post hQ _ (fun V43 w => ?_) n44 (0) (V) w
      refine g_iinc (v := (x1 + 1)) O dX7_all_136 rfl rfl rfl (lv' := [some (.ref t), some (.int (x1 + 1)), none, none, none]) rfl ?_
      refine g_goto (tgt := 85) O dX7_all_139 (by decide) ?_
      exact ih ((x1 + 1)) (V43) w
set_option maxHeartbeats 4000000 in
theorem vjX7_all_194 {X : Cx} {z : Nat} {T L : Nat → Nat} {V : w_V} {P : w_P} (O : Okc X cX7_all RX7 5 (some .int)) (hRm : cxR X = rX7_all) (t : Nat) (hT : T t = 7) (x1 : Int32) (x2 : Int32) (x3 : Int32) (post : Int32 → w_V → Prop) (hQ : cxMQ X (va_Qi post (fun u t => wdW (cxE X) (xW1 z T L P u) t.heap) (w_A (cxE X))) 0 0) (kb : Int32 → w_V → Prop) (hkb : ∀ (y3 : Int32) (V2 : w_V), kb y3 V2 → gW X 0 0 z T L V2 P 156 [some (.ref t), some (.int x1), some (.int x2), some (.int y3), none] []) (w : jX7_all_194 (cxE X).2.2.2.2 T L V P t x1 x2 x3 post kb) : gW X 0 0 z T L V P 194 [some (.ref t), some (.int x1), some (.int x2), some (.int x3), none] [] := by
  unfold jX7_all_194 at w
  refine g_iinc (v := (x3 + 1)) O dX7_all_194 rfl rfl rfl (lv' := [some (.ref t), some (.int x1), some (.int x2), some (.int (x3 + 1)), none]) rfl ?_
  refine g_goto (tgt := 156) O dX7_all_197 (by decide) ?_
  exact hkb ((x3 + 1)) (V) w
set_option maxHeartbeats 4000000 in
theorem vlX7_all_156 {X : Cx} {z : Nat} {T L : Nat → Nat} {P : w_P} (O : Okc X cX7_all RX7 5 (some .int)) (hRm : cxR X = rX7_all) (t : Nat) (hT : T t = 7) (x1 : Int32) (x2 : Int32) (post : Int32 → w_V → Prop) (hQ : cxMQ X (va_Qi post (fun u t => wdW (cxE X) (xW1 z T L P u) t.heap) (w_A (cxE X))) 0 0) (ke_200 : w_V → Prop) (hke_200 : ∀ (V2 : w_V), ke_200 V2 → gW X 0 0 z T L V2 P 200 [some (.ref t), some (.int x1), some (.int x2), none, none] [])  : ∀ (n : Nat) (x3 : Int32) (V : w_V), lX7_all_156 (cxE X).2.2.2.2 T L P t x1 x2 post ke_200 n x3 V → gW X 0 0 z T L V P 156 [some (.ref t), some (.int x1), some (.int x2), some (.int x3), none] [] := by
  intro n
  induction n with
  | zero =>
    intro x3 V w
    exact w.elim
  | succ n ih =>
    intro x3 V w
    unfold lX7_all_156 at w
    refine g_iload_n O dX7_all_156 rfl ?_
    refine g_aload_n O dX7_all_157 rfl ?_
    refine g_ri0 (gr_V (lay := 6) (nA := 0) (As := []) (rest := [.int x3]) O hRm (kX7_judges _ O.2.2.2.2.2.2.2.2 _ _ _ _ _ _ t hT _ w) (lw_V q1297 q1299 qs25 q132 q1300) rfl rfl (by decide +kernel) ⟨Nat.le_of_ble_eq_true rfl, Nat.le_of_ble_eq_true rfl⟩ ck6 (by decide) rfl hT rfl rfl rfl (Nat.le_of_ble_eq_true rfl) dX7_all_158 ⟨Nat.le_of_ble_eq_true rfl, Nat.le_of_ble_eq_true rfl⟩) (fun r49 w => ?_)
    refine g_icmp_ge (tgt := 200) O w dX7_all_161 (by decide) (fun w => ?_) (fun w => ?_)
    · refine g_drop [3] (lv' := [some (.ref t), some (.int x1), some (.int x2), none, none]) rfl ?_
      exact hke_200 (V) w
    · refine g_aload_n O dX7_all_164 rfl ?_
      refine gx_getA (lay := 6) (j := 4) O ck6 (by decide) rfl rfl (by decide) hT q745 dX7_all_165 ?_
      refine g_iconst (v := 5) O dX7_all_168 (by decide) ?_
      refine g_iload_n O dX7_all_169 rfl ?_
      refine g_imul O dX7_all_170 ?_
      refine g_iload_n O dX7_all_171 rfl ?_
      refine g_iadd O dX7_all_172 ?_
      obtain ⟨i52, hi53, e54, w⟩ := w
      refine gx_iald (a := t) (kk0 := 5) (len := 30) (nn := i52) O (ha_own (lay := 6) (j := 4) (off := 3) (ty := 0) (len := 30) (by decide) hT rfl (by decide)) hi53 (by decide) e54 dX7_all_173 ?_
      refine g_iconst (v := (-1)) O dX7_all_174 (by decide) ?_
      refine g_icmp_eq (tgt := 194) O w dX7_all_175 (by decide) (fun w => ?_) (fun w => ?_)
      · exact vjX7_all_194 O hRm (V := V) (P := P) t hT (x1) (x2) (x3) post hQ (lX7_all_156 (cxE X).2.2.2.2 T L P t x1 x2 post ke_200 n) ih w
      · refine g_aload_n O dX7_all_178 rfl ?_
        refine gx_getA (lay := 6) (j := 10) O ck6 (by decide) rfl rfl (by decide) hT q757 dX7_all_179 ?_
        refine g_iconst (v := 5) O dX7_all_182 (by decide) ?_
        refine g_iload_n O dX7_all_183 rfl ?_
        refine g_imul O dX7_all_184 ?_
        refine g_iload_n O dX7_all_185 rfl ?_
        refine g_iadd O dX7_all_186 ?_
        refine g_aload_n O dX7_all_187 rfl ?_
        refine g_iload_n O dX7_all_188 rfl ?_
        refine g_iload_n O dX7_all_189 rfl ?_
        refine g_ri0 (gr_V (lay := 6) (nA := 2) (As := [.int x2, .int x3]) (rest := [.int ((5 * x2) + x3), .ref (t + 9)]) O hRm (kX7_isVoided _ O.2.2.2.2.2.2.2.2 _ _ _ _ _ _ t hT (x2) (x3) _ w) (lw_V q1402 q1404 qs32 q132 q1405) rfl rfl (by decide +kernel) ⟨Nat.le_of_ble_eq_true rfl, Nat.le_of_ble_eq_true rfl⟩ ck6 (by decide) rfl hT rfl rfl rfl (Nat.le_of_ble_eq_true rfl) dX7_all_190 ⟨Nat.le_of_ble_eq_true rfl, Nat.le_of_ble_eq_true rfl⟩) (fun r55 w => ?_)
        obtain ⟨i58, hi59, e60, w⟩ := w
        refine gx_zast (a := t) (kk0 := 11) (len := 30) (nn := i58) O (ha_own (lay := 6) (j := 10) (off := 9) (ty := 2) (len := 30) (by decide) hT rfl (by decide)) hi59 (by decide) e60 dX7_all_193 ?_
        refine g_nV w (fun V61 w _ => ?_)
        exact vjX7_all_194 O hRm (V := V61) (P := P) t hT (x1) (x2) (x3) post hQ (lX7_all_156 (cxE X).2.2.2.2 T L P t x1 x2 post ke_200 n) ih w
set_option maxHeartbeats 4000000 in
theorem vjX7_all_267 {X : Cx} {z : Nat} {T L : Nat → Nat} {V : w_V} {P : w_P} (O : Okc X cX7_all RX7 5 (some .int)) (hRm : cxR X = rX7_all) (t : Nat) (hT : T t = 7) (x1 : Int32) (x2 : Int32) (x3 : Int32) (post : Int32 → w_V → Prop) (hQ : cxMQ X (va_Qi post (fun u t => wdW (cxE X) (xW1 z T L P u) t.heap) (w_A (cxE X))) 0 0) (kb : Int32 → Int32 → w_V → Prop) (hkb : ∀ (y1 : Int32) (y3 : Int32) (V2 : w_V), kb y1 y3 V2 → gW X 0 0 z T L V2 P 216 [some (.ref t), some (.int y1), some (.int x2), some (.int y3), none] []) (w : jX7_all_267 (cxE X).2.2.2.2 T L V P t x1 x2 x3 post kb) : gW X 0 0 z T L V P 267 [some (.ref t), some (.int x1), some (.int x2), some (.int x3), none] [] := by
  unfold jX7_all_267 at w
  refine g_iinc (v := (x3 + 1)) O dX7_all_267 rfl rfl rfl (lv' := [some (.ref t), some (.int x1), some (.int x2), some (.int (x3 + 1)), none]) rfl ?_
  refine g_goto (tgt := 216) O dX7_all_270 (by decide) ?_
  exact hkb (x1) ((x3 + 1)) (V) w
set_option maxHeartbeats 4000000 in
theorem vlX7_all_216 {X : Cx} {z : Nat} {T L : Nat → Nat} {P : w_P} (O : Okc X cX7_all RX7 5 (some .int)) (hRm : cxR X = rX7_all) (t : Nat) (hT : T t = 7) (x2 : Int32) (post : Int32 → w_V → Prop) (hQ : cxMQ X (va_Qi post (fun u t => wdW (cxE X) (xW1 z T L P u) t.heap) (w_A (cxE X))) 0 0) (ke_273 : Int32 → w_V → Prop) (hke_273 : ∀ (y1 : Int32) (V2 : w_V), ke_273 y1 V2 → gW X 0 0 z T L V2 P 273 [some (.ref t), some (.int y1), some (.int x2), none, none] [])  : ∀ (n : Nat) (x1 : Int32) (x3 : Int32) (V : w_V), lX7_all_216 (cxE X).2.2.2.2 T L P t x2 post ke_273 n x1 x3 V → gW X 0 0 z T L V P 216 [some (.ref t), some (.int x1), some (.int x2), some (.int x3), none] [] := by
  intro n
  induction n with
  | zero =>
    intro x1 x3 V w
    exact w.elim
  | succ n ih =>
    intro x1 x3 V w
    unfold lX7_all_216 at w
    refine g_iload_n O dX7_all_216 rfl ?_
    refine g_sipush (v := 140) O dX7_all_217 (by decide) ?_
    refine g_icmp_ge (tgt := 273) O w dX7_all_220 (by decide) (fun w => ?_) (fun w => ?_)
    · refine g_drop [3] (lv' := [some (.ref t), some (.int x1), some (.int x2), none, none]) rfl ?_
      exact hke_273 (x1) (V) w
    · refine g_aload_n O dX7_all_223 rfl ?_
      refine gx_getA (lay := 6) (j := 8) O ck6 (by decide) rfl rfl (by decide) hT q753 dX7_all_224 ?_
      refine g_iload_n O dX7_all_227 rfl ?_
      obtain ⟨i71, hi72, e73, w⟩ := w
      refine gx_iald (a := t) (kk0 := 9) (len := 6) (nn := i71) O (ha_own (lay := 6) (j := 8) (off := 7) (ty := 0) (len := 6) (by decide) hT rfl (by decide)) hi72 (by decide) e73 dX7_all_228 ?_
      refine g_iconst (v := (-1)) O dX7_all_229 (by decide) ?_
      refine g_icmp_ne (tgt := 273) O w dX7_all_230 (by decide) (fun w => ?_) (fun w => ?_)
      · refine g_drop [3] (lv' := [some (.ref t), some (.int x1), some (.int x2), none, none]) rfl ?_
        exact hke_273 (x1) (V) w
      · refine g_aload_n O dX7_all_233 rfl ?_
        refine g_iload_n O dX7_all_234 rfl ?_
        refine g_iload_n O dX7_all_235 rfl ?_
        refine g_ri0 (gr_V (lay := 6) (nA := 2) (As := [.int x2, .int x3]) (rest := []) O hRm (kX7_three _ O.2.2.2.2.2.2.2.2 _ _ _ _ _ _ t hT (x2) (x3) _ w) (lw_V q1429 q1431 qs35 q132 q1432) rfl rfl (by decide +kernel) ⟨Nat.le_of_ble_eq_true rfl, Nat.le_of_ble_eq_true rfl⟩ ck6 (by decide) rfl hT rfl rfl rfl (Nat.le_of_ble_eq_true rfl) dX7_all_236 ⟨Nat.le_of_ble_eq_true rfl, Nat.le_of_ble_eq_true rfl⟩) (fun r74 w => ?_)
        refine g_istore O dX7_all_239 (Nat.le_of_ble_eq_true rfl) rfl (lv' := [some (.ref t), some (.int x1), some (.int x2), some (.int x3), some (.int r74)]) rfl ?_
        refine g_iload O dX7_all_241 rfl ?_
        refine g_if_ne (tgt := 249) O w dX7_all_243 (by decide) (fun w => ?_) (fun w => ?_)
        · refine g_aload_n O dX7_all_249 rfl ?_
          refine gx_getA (lay := 6) (j := 8) O ck6 (by decide) rfl rfl (by decide) hT q753 dX7_all_250 ?_
          refine g_iload_n O dX7_all_253 rfl ?_
          refine g_iload_n O dX7_all_254 rfl ?_
          obtain ⟨i77, hi78, e79, w⟩ := w
          refine gx_iast (a := t) (kk0 := 9) (len := 6) (nn := i77) O (ha_own (lay := 6) (j := 8) (off := 7) (ty := 0) (len := 6) (by decide) hT rfl (by decide)) hi78 (by decide) e79 dX7_all_255 ?_
          refine g_nV w (fun V80 w _ => ?_)
          refine g_aload_n O dX7_all_256 rfl ?_
          refine gx_getA (lay := 6) (j := 9) O ck6 (by decide) rfl rfl (by decide) hT q755 dX7_all_257 ?_
          refine g_iload_n O dX7_all_260 rfl ?_
          refine g_iload O dX7_all_261 rfl ?_
          obtain ⟨i81, hi82, e83, w⟩ := w
          refine gx_iast (a := t) (kk0 := 10) (len := 6) (nn := i81) O (ha_own (lay := 6) (j := 9) (off := 8) (ty := 0) (len := 6) (by decide) hT rfl (by decide)) hi82 (by decide) e83 dX7_all_263 ?_
          refine g_nV w (fun V84 w _ => ?_)
          refine g_iinc (v := (x1 + 1)) O dX7_all_264 rfl rfl rfl (lv' := [some (.ref t), some (.int (x1 + 1)), some (.int x2), some (.int x3), some (.int r74)]) rfl ?_
          refine g_drop [4] (lv' := [some (.ref t), some (.int (x1 + 1)), some (.int x2), some (.int x3), none]) rfl ?_
          exact vjX7_all_267 O hRm (V := V84) (P := P) t hT ((x1 + 1)) (x2) (x3) post hQ (lX7_all_216 (cxE X).2.2.2.2 T L P t x2 post ke_273 n) ih w
        · refine g_goto (tgt := 267) O dX7_all_246 (by decide) ?_
          refine g_drop [4] (lv' := [some (.ref t), some (.int x1), some (.int x2), some (.int x3), none]) rfl ?_
          exact vjX7_all_267 O hRm (V := V) (P := P) t hT (x1) (x2) (x3) post hQ (lX7_all_216 (cxE X).2.2.2.2 T L P t x2 post ke_273 n) ih w
set_option maxHeartbeats 4000000 in
theorem vjX7_all_273 {X : Cx} {z : Nat} {T L : Nat → Nat} {V : w_V} {P : w_P} (O : Okc X cX7_all RX7 5 (some .int)) (hRm : cxR X = rX7_all) (t : Nat) (hT : T t = 7) (x1 : Int32) (x2 : Int32) (post : Int32 → w_V → Prop) (hQ : cxMQ X (va_Qi post (fun u t => wdW (cxE X) (xW1 z T L P u) t.heap) (w_A (cxE X))) 0 0) (kb : Int32 → Int32 → w_V → Prop) (hkb : ∀ (y1 : Int32) (y2 : Int32) (V2 : w_V), kb y1 y2 V2 → gW X 0 0 z T L V2 P 146 [some (.ref t), some (.int y1), some (.int y2), none, none] []) (w : jX7_all_273 (cxE X).2.2.2.2 T L V P t x1 x2 post kb) : gW X 0 0 z T L V P 273 [some (.ref t), some (.int x1), some (.int x2), none, none] [] := by
  unfold jX7_all_273 at w
  refine g_iinc (v := (x2 + 1)) O dX7_all_273 rfl rfl rfl (lv' := [some (.ref t), some (.int x1), some (.int (x2 + 1)), none, none]) rfl ?_
  refine g_goto (tgt := 146) O dX7_all_276 (by decide) ?_
  exact hkb (x1) ((x2 + 1)) (V) w
set_option maxHeartbeats 4000000 in
theorem vlX7_all_146 {X : Cx} {z : Nat} {T L : Nat → Nat} {P : w_P} (O : Okc X cX7_all RX7 5 (some .int)) (hRm : cxR X = rX7_all) (t : Nat) (hT : T t = 7) (post : Int32 → w_V → Prop) (hQ : cxMQ X (va_Qi post (fun u t => wdW (cxE X) (xW1 z T L P u) t.heap) (w_A (cxE X))) 0 0)  : ∀ (n : Nat) (x1 : Int32) (x2 : Int32) (V : w_V), lX7_all_146 (cxE X).2.2.2.2 T L P t post n x1 x2 V → gW X 0 0 z T L V P 146 [some (.ref t), some (.int x1), some (.int x2), none, none] [] := by
  intro n
  induction n with
  | zero =>
    intro x1 x2 V w
    exact w.elim
  | succ n ih =>
    intro x1 x2 V w
    unfold lX7_all_146 at w
    refine g_iload_n O dX7_all_146 rfl ?_
    refine g_aload_n O dX7_all_147 rfl ?_
    refine g_ri0 (gr_V (lay := 6) (nA := 0) (As := []) (rest := [.int x2]) O hRm (kX7_cases _ O.2.2.2.2.2.2.2.2 _ _ _ _ _ _ t hT _ w) (lw_V q1334 q1336 qs28 q132 q1337) rfl rfl (by decide +kernel) ⟨Nat.le_of_ble_eq_true rfl, Nat.le_of_ble_eq_true rfl⟩ ck6 (by decide) rfl hT rfl rfl rfl (Nat.le_of_ble_eq_true rfl) dX7_all_148 ⟨Nat.le_of_ble_eq_true rfl, Nat.le_of_ble_eq_true rfl⟩) (fun r46 w => ?_)
    refine g_icmp_ge (tgt := 279) O w dX7_all_151 (by decide) (fun w => ?_) (fun w => ?_)
    · refine g_iload_n O dX7_all_279 rfl ?_
      exact g_iret (f := xW1 z T L P) (u := V) O hQ rfl rfl w dX7_all_280
    · refine g_iconst (v := 0) O dX7_all_154 (by decide) ?_
      refine g_istore_n O dX7_all_155 (Nat.le_of_ble_eq_true rfl) rfl (lv' := [some (.ref t), some (.int x1), some (.int x2), some (.int 0), none]) rfl ?_
      obtain ⟨n88, w⟩ := w
      refine vlX7_all_156 O hRm (P := P) t hT (x1) (x2) post hQ _ (fun V62 w => ?_) n88 (0) (V) w
      refine g_aload_n O dX7_all_200 rfl ?_
      refine gx_getA (lay := 6) (j := 8) O ck6 (by decide) rfl rfl (by decide) hT q753 dX7_all_201 ?_
      refine g_iload_n O dX7_all_204 rfl ?_
      refine g_iconst (v := (-1)) O dX7_all_205 (by decide) ?_
      obtain ⟨i63, hi64, e65, w⟩ := w
      refine gx_iast (a := t) (kk0 := 9) (len := 6) (nn := i63) O (ha_own (lay := 6) (j := 8) (off := 7) (ty := 0) (len := 6) (by decide) hT rfl (by decide)) hi64 (by decide) e65 dX7_all_206 ?_
      refine g_nV w (fun V66 w _ => ?_)
      refine g_aload_n O dX7_all_207 rfl ?_
      refine gx_getA (lay := 6) (j := 9) O ck6 (by decide) rfl rfl (by decide) hT q755 dX7_all_208 ?_
      refine g_iload_n O dX7_all_211 rfl ?_
      refine g_iconst (v := 0) O dX7_all_212 (by decide) ?_
      obtain ⟨i67, hi68, e69, w⟩ := w
      refine gx_iast (a := t) (kk0 := 10) (len := 6) (nn := i67) O (ha_own (lay := 6) (j := 9) (off := 8) (ty := 0) (len := 6) (by decide) hT rfl (by decide)) hi68 (by decide) e69 dX7_all_213 ?_
      refine g_nV w (fun V70 w _ => ?_)
      refine g_iconst (v := 0) O dX7_all_214 (by decide) ?_
      refine g_istore_n O dX7_all_215 (Nat.le_of_ble_eq_true rfl) rfl (lv' := [some (.ref t), some (.int x1), some (.int x2), some (.int 0), none]) rfl ?_
      obtain ⟨n87, w⟩ := w
      refine vlX7_all_216 O hRm (P := P) t hT (x2) post hQ _ (fun y85 V86 w => ?_) n87 (x1) (0) (V70) w
      exact vjX7_all_273 O hRm (V := V86) (P := P) t hT (y85) (x2) post hQ (lX7_all_146 (cxE X).2.2.2.2 T L P t post n) ih w
set_option maxHeartbeats 4000000 in
theorem kX7_all (l : Launch) (hfl : l.flags = flags0) (E : w_E) (z : Nat) (T L : Nat → Nat) (V : w_V) (P : w_P) (t : Nat) (hT : T t = 7) (post : Int32 → w_V → Prop) (w : wX7_all E.2.2.2.2 T L V P t post) : gMi l yX7_all (ws_ yX7_all cX7_all 5 (some .int)) rX7_all 0 0 E [.ref t] (z, T, L, V, P) (xW1 z T L P) post := by
  refine g_start (S := Unit) hfl (by decide +kernel) rfl [some (.ref t), none, none, none, none] rfl (fun _ h => h) (Nat.le_of_ble_eq_true rfl) (fun X hl hRm hEe O hQ => ?_)
  subst hl
  subst hEe
  unfold wX7_all at w
  refine g_aload_n O dX7_all_0 rfl ?_
  refine g_rv1 (gr_V (lay := 6) (nA := 0) (As := []) (rest := []) O hRm (kX7_goes _ O.2.2.2.2.2.2.2.2 _ _ _ _ _ _ t hT _ w) (lw_V q1293 q1295 qs24 q132 q1296) rfl rfl (by decide +kernel) ⟨Nat.le_of_ble_eq_true rfl, Nat.le_of_ble_eq_true rfl⟩ ck6 (by decide) rfl hT rfl rfl rfl (Nat.le_of_ble_eq_true rfl) dX7_all_1 ⟨Nat.le_of_ble_eq_true rfl, Nat.le_of_ble_eq_true rfl⟩) (fun V2 w => ?_)
  refine g_iconst (v := 0) O dX7_all_4 (by decide) ?_
  refine g_istore_n O dX7_all_5 (Nat.le_of_ble_eq_true rfl) rfl (lv' := [some (.ref t), some (.int 0), none, none, none]) rfl ?_
  obtain ⟨n92, w⟩ := w
  refine vlX7_all_6 O hRm (P := P) t hT post hQ _ (fun V20 w => ?_) n92 (0) (V2) w
  refine g_iconst (v := 0) O dX7_all_46 (by decide) ?_
  refine g_istore_n O dX7_all_47 (Nat.le_of_ble_eq_true rfl) rfl (lv' := [some (.ref t), some (.int 0), none, none, none]) rfl ?_
  obtain ⟨n91, w⟩ := w
  refine vlX7_all_48 O hRm (P := P) t hT post hQ _ (fun V29 w => ?_) n91 (0) (V20) w
  refine g_iconst (v := 0) O dX7_all_83 (by decide) ?_
  refine g_istore_n O dX7_all_84 (Nat.le_of_ble_eq_true rfl) rfl (lv' := [some (.ref t), some (.int 0), none, none, none]) rfl ?_
  obtain ⟨n90, w⟩ := w
  refine vlX7_all_85 O hRm (P := P) t hT post hQ _ (fun V45 w => ?_) n90 (0) (V29) w
  refine g_iconst (v := 0) O dX7_all_142 (by decide) ?_
  refine g_istore_n O dX7_all_143 (Nat.le_of_ble_eq_true rfl) rfl (lv' := [some (.ref t), some (.int 0), none, none, none]) rfl ?_
  refine g_iconst (v := 0) O dX7_all_144 (by decide) ?_
  refine g_istore_n O dX7_all_145 (Nat.le_of_ble_eq_true rfl) rfl (lv' := [some (.ref t), some (.int 0), some (.int 0), none, none]) rfl ?_
  obtain ⟨n89, w⟩ := w
  exact vlX7_all_146 O hRm (P := P) t hT post hQ n89 (0) (0) (V45) w
-- X1_tries
abbrev rX1_tries : Room := { frames := 1249, cells := 0, slots := 0, locals := 37376 }
set_option maxHeartbeats 4000000 in
theorem kX1_tries (l : Launch) (hfl : l.flags = flags0) (E : w_E) (z : Nat) (T L : Nat → Nat) (V : w_V) (P : w_P) (t : Nat) (hT : T t = 2) (post : Int32 → w_V → Prop) (w : wX1_tries E.2.2.2.2 T L V P t post) : gMi l yX1_tries (ws_ yX1_tries cX1_tries 1 (some .int)) rX1_tries 0 0 E [.ref t] (z, T, L, V, P) (xW1 z T L P) post := by
  refine g_start (S := Unit) hfl (by decide +kernel) rfl [some (.ref t)] rfl (fun _ h => h) (Nat.le_of_ble_eq_true rfl) (fun X hl hRm hEe O hQ => ?_)
  subst hl
  subst hEe
  unfold wX1_tries at w
  refine g_aload_n O dX1_tries_0 rfl ?_
  obtain ⟨b1, hp2, ht3, w⟩ := w
  refine gx_getR (lay := 1) (j := 4) O ck1 (by decide) rfl rfl hp2 (by decide) hT q814 dX1_tries_1 ?_
  refine g_aload_n O dX1_tries_4 rfl ?_
  obtain ⟨b4, hp5, ht6, w⟩ := w
  refine gx_getR (lay := 1) (j := 3) O ck1 (by decide) rfl rfl hp5 (by decide) hT q813 dX1_tries_5 ?_
  refine g_rv1 (gr_V (lay := 5) (nA := 1) (As := [.ref b4]) (rest := []) O hRm (kX6_like _ O.2.2.2.2.2.2.2.2 _ _ _ _ _ _ b1 ht3 b4 ht6 _ w) (lw_V q861 q862 q863 q131 q864) rfl rfl (by decide +kernel) ⟨Nat.le_of_ble_eq_true rfl, Nat.le_of_ble_eq_true rfl⟩ ck5 (by decide) rfl ht3 rfl rfl rfl (Nat.le_of_ble_eq_true rfl) dX1_tries_8 ⟨Nat.le_of_ble_eq_true rfl, Nat.le_of_ble_eq_true rfl⟩) (fun V8 w => ?_)
  refine g_aload_n O dX1_tries_11 rfl ?_
  obtain ⟨b10, hp11, ht12, w⟩ := w
  refine gx_getR (lay := 1) (j := 5) O ck1 (by decide) rfl rfl hp11 (by decide) hT q815 dX1_tries_12 ?_
  refine g_ri1 (gr_V (lay := 6) (nA := 0) (As := []) (rest := []) O hRm (kX7_all _ O.2.2.2.2.2.2.2.2 _ _ _ _ _ _ b10 ht12 _ w) (lw_V q1289 q1290 q1291 q132 q1292) rfl rfl (by decide +kernel) ⟨Nat.le_of_ble_eq_true rfl, Nat.le_of_ble_eq_true rfl⟩ ck6 (by decide) rfl ht12 rfl rfl rfl (Nat.le_of_ble_eq_true rfl) dX1_tries_15 ⟨Nat.le_of_ble_eq_true rfl, Nat.le_of_ble_eq_true rfl⟩) (fun r13 V14 w => ?_)
  exact g_iret (f := xW1 z T L P) (u := V14) O hQ rfl rfl w dX1_tries_18
-- X1_within
abbrev rX1_within : Room := { frames := 1, cells := 0, slots := 0, locals := 12 }
set_option maxHeartbeats 4000000 in
theorem kX1_within (l : Launch) (hfl : l.flags = flags0) (E : w_E) (z : Nat) (T L : Nat → Nat) (V : w_V) (P : w_P) (x0 : Int32) (x1 : Int32) (x2 : Int32) (post : Int32 → Prop) (w : wX1_within E.2.2.2.2 T L V P x0 x1 x2 post) : gMi l yX1_within (ws_ yX1_within cX1_within 3 (some .boolean)) rX1_within 0 0 E [.int x0, .int x1, .int x2] (z, T, L, V, P) (xW0 z T L V P) (fun x (_ : Unit) => post x) := by
  refine g_start (S := Unit) hfl (by decide +kernel) rfl [some (.int x0), some (.int x1), some (.int x2)] rfl (fun _ h => h) (Nat.le_of_ble_eq_true rfl) (fun X hl hRm hEe O hQ => ?_)
  subst hl
  subst hEe
  unfold wX1_within at w
  refine g_iload_n O dX1_within_0 rfl ?_
  refine g_iload_n O dX1_within_1 rfl ?_
  refine g_icmp_lt (tgt := 14) O w dX1_within_2 (by decide) (fun w => ?_) (fun w => ?_)
  · refine g_iconst (v := 0) O dX1_within_14 (by decide) ?_
    exact g_iret (f := xW0 z T L V P) (u := ()) O hQ rfl rfl w dX1_within_15
  · refine g_iload_n O dX1_within_5 rfl ?_
    refine g_iload_n O dX1_within_6 rfl ?_
    refine g_icmp_gt (tgt := 14) O w dX1_within_7 (by decide) (fun w => ?_) (fun w => ?_)
    · refine g_iconst (v := 0) O dX1_within_14 (by decide) ?_
      exact g_iret (f := xW0 z T L V P) (u := ()) O hQ rfl rfl w dX1_within_15
    · refine g_iconst (v := 1) O dX1_within_10 (by decide) ?_
      refine g_goto (tgt := 15) O dX1_within_11 (by decide) ?_
      exact g_iret (f := xW0 z T L V P) (u := ()) O hQ rfl rfl w dX1_within_15
-- X16_kind
abbrev rX16_kind : Room := { frames := 1, cells := 0, slots := 0, locals := 12 }
set_option maxHeartbeats 4000000 in
theorem kX16_kind (l : Launch) (hfl : l.flags = flags0) (E : w_E) (z : Nat) (T L : Nat → Nat) (V : w_V) (P : w_P) (t : Nat) (hT : jT T t) (post : Int32 → Prop) (w : wX16_kind E.2.2.2.2 T L V P t post) : gMi l yX16_kind (ws_ yX16_kind cX16_kind 1 (some .int)) rX16_kind 0 0 E [.ref t] (z, T, L, V, P) (xW0 z T L V P) (fun x (_ : Unit) => post x) := by
  refine g_start (S := Unit) hfl (by decide +kernel) rfl [some (.ref t)] rfl (fun _ h => h) (Nat.le_of_ble_eq_true rfl) (fun X hl hRm hEe O hQ => ?_)
  subst hl
  subst hEe
  unfold wX16_kind at w
  refine g_iconst (v := 0) O dX16_kind_0 (by decide) ?_
  exact g_iret (f := xW0 z T L V P) (u := ()) O hQ rfl rfl w dX16_kind_1
-- X18_kind
abbrev rX18_kind : Room := { frames := 2, cells := 0, slots := 0, locals := 32 }
set_option maxHeartbeats 4000000 in
theorem kX18_kind (l : Launch) (hfl : l.flags = flags0) (E : w_E) (z : Nat) (T L : Nat → Nat) (V : w_V) (P : w_P) (t : Nat) (hT : T t = 15) (post : Int32 → Prop) (w : wX18_kind E.2.2.2.2 T L V P t post) : gMi l yX18_kind (ws_ yX18_kind cX18_kind 1 (some .int)) rX18_kind 0 0 E [.ref t] (z, T, L, V, P) (xW0 z T L V P) (fun x (_ : Unit) => post x) := by
  refine g_start (S := Unit) hfl (by decide +kernel) rfl [some (.ref t)] rfl (fun _ h => h) (Nat.le_of_ble_eq_true rfl) (fun X hl hRm hEe O hQ => ?_)
  subst hl
  subst hEe
  unfold wX18_kind at w
  refine g_aload_n O dX18_kind_0 rfl ?_
  refine g_ri0 (gr_SU (lay := 14) (nA := 0) (As := []) (rest := []) O hRm (kX16_kind _ O.2.2.2.2.2.2.2.2 _ _ _ _ _ _ t (Or.inr (Or.inr hT)) _ w) (lw_SU q1478 q1469 q1241 q1467 q143 q1474) rfl rfl (by decide +kernel) ⟨Nat.le_of_ble_eq_true rfl, Nat.le_of_ble_eq_true rfl⟩ ck14 (by decide) rfl hT rfl rfl rfl (Nat.le_of_ble_eq_true rfl) dX18_kind_1 ⟨Nat.le_of_ble_eq_true rfl, Nat.le_of_ble_eq_true rfl⟩) (fun r1 w => ?_)
  refine g_iconst (v := 2) O dX18_kind_4 (by decide) ?_
  refine g_iadd O dX18_kind_5 ?_
  exact g_iret (f := xW0 z T L V P) (u := ()) O hQ rfl rfl w dX18_kind_6
-- X17_kind
abbrev rX17_kind : Room := { frames := 2, cells := 0, slots := 0, locals := 32 }
set_option maxHeartbeats 4000000 in
theorem kX17_kind (l : Launch) (hfl : l.flags = flags0) (E : w_E) (z : Nat) (T L : Nat → Nat) (V : w_V) (P : w_P) (t : Nat) (hT : T t = 14) (post : Int32 → Prop) (w : wX17_kind E.2.2.2.2 T L V P t post) : gMi l yX17_kind (ws_ yX17_kind cX17_kind 1 (some .int)) rX17_kind 0 0 E [.ref t] (z, T, L, V, P) (xW0 z T L V P) (fun x (_ : Unit) => post x) := by
  refine g_start (S := Unit) hfl (by decide +kernel) rfl [some (.ref t)] rfl (fun _ h => h) (Nat.le_of_ble_eq_true rfl) (fun X hl hRm hEe O hQ => ?_)
  subst hl
  subst hEe
  unfold wX17_kind at w
  refine g_aload_n O dX17_kind_0 rfl ?_
  refine g_ri0 (gr_SU (lay := 13) (nA := 0) (As := []) (rest := []) O hRm (kX16_kind _ O.2.2.2.2.2.2.2.2 _ _ _ _ _ _ t (Or.inr (Or.inl hT)) _ w) (lw_SU q1473 q1469 q1231 q1467 q143 q1474) rfl rfl (by decide +kernel) ⟨Nat.le_of_ble_eq_true rfl, Nat.le_of_ble_eq_true rfl⟩ ck13 (by decide) rfl hT rfl rfl rfl (Nat.le_of_ble_eq_true rfl) dX17_kind_1 ⟨Nat.le_of_ble_eq_true rfl, Nat.le_of_ble_eq_true rfl⟩) (fun r1 w => ?_)
  refine g_iconst (v := 1) O dX17_kind_4 (by decide) ?_
  refine g_iadd O dX17_kind_5 ?_
  exact g_iret (f := xW0 z T L V P) (u := ()) O hQ rfl rfl w dX17_kind_6
-- X1_refuses
abbrev rX1_refuses : Room := { frames := 1, cells := 0, slots := 0, locals := 12 }
set_option maxHeartbeats 4000000 in
theorem kX1_refuses (l : Launch) (hfl : l.flags = flags0) (E : w_E) (z : Nat) (T L : Nat → Nat) (V : w_V) (P : w_P) (t : Nat) (hT : T t = 2) (x1 : Int32) (post : Int32 → w_V → Prop) (w : wX1_refuses E.2.2.2.2 T L V P t x1 post) : gMi l yX1_refuses (ws_ yX1_refuses cX1_refuses 2 (some .int)) rX1_refuses 0 0 E [.ref t, .int x1] (z, T, L, V, P) (xW1 z T L P) post := by
  refine g_start (S := Unit) hfl (by decide +kernel) rfl [some (.ref t), some (.int x1)] rfl (fun _ h => h) (Nat.le_of_ble_eq_true rfl) (fun X hl hRm hEe O hQ => ?_)
  subst hl
  subst hEe
  unfold wX1_refuses at w
  refine g_aload_n O dX1_refuses_0 rfl ?_
  obtain ⟨b1, hp2, ht3, w⟩ := w
  refine gx_getR (lay := 1) (j := 1) O ck1 (by decide) rfl rfl hp2 (by decide) hT q811 dX1_refuses_1 ?_
  refine gx_getAN (lay := 4) (j := 4) O ck4 (by decide) rfl rfl (by decide) ht3 q706 dX1_refuses_4 ?_
  refine g_iload_n O dX1_refuses_7 rfl ?_
  refine g_dup2 O dX1_refuses_8 rfl rfl ?_
  obtain ⟨i4, hi5, e6, w⟩ := w
  refine gx_iald (a := b1) (kk0 := 5) (len := 3) (nn := i4) O (ha_own (lay := 4) (j := 4) (off := 10) (ty := 0) (len := 3) (by decide) ht3 rfl (by decide)) hi5 (by decide) e6 dX1_refuses_9 ?_
  refine g_iconst (v := 1) O dX1_refuses_10 (by decide) ?_
  refine g_iadd O dX1_refuses_11 ?_
  obtain ⟨i7, hi8, e9, w⟩ := w
  refine gx_iast (a := b1) (kk0 := 5) (len := 3) (nn := i7) O (ha_own (lay := 4) (j := 4) (off := 10) (ty := 0) (len := 3) (by decide) ht3 rfl (by decide)) hi8 (by decide) e9 dX1_refuses_12 ?_
  refine g_nV w (fun V10 w _ => ?_)
  refine g_iconst (v := (-1)) O dX1_refuses_13 (by decide) ?_
  exact g_iret (f := xW1 z T L P) (u := V10) O hQ rfl rfl w dX1_refuses_14
-- X5_keeps
abbrev rX5_keeps : Room := { frames := 4, cells := 0, slots := 0, locals := 106 }
set_option maxHeartbeats 4000000 in
theorem vjX5_keeps_38 {X : Cx} {z : Nat} {T L : Nat → Nat} {V : w_V} {P : w_P} (O : Okc X cX5_keeps RX5 1 none) (hRm : cxR X = rX5_keeps) (t : Nat) (hT : T t = 5) (post : w_V → w_P → Prop) (hQ : cxMQ X (va_Qv (fun (u : w_V × w_P) => post u.1 u.2) (fun u t => wdW (cxE X) (xW2 z T L u) t.heap) (w_A (cxE X))) 0 0) (w : jX5_keeps_38 (cxE X).2.2.2.2 T L V P t post) : gW X 0 0 z T L V P 38 [some (.ref t)] [] := by
  unfold jX5_keeps_38 at w
  refine g_aload_n O dX5_keeps_38 rfl ?_
  obtain ⟨b1, hp2, ht3, w⟩ := w
  refine gx_getR (lay := 4) (j := 1) O ck4 (by decide) rfl rfl hp2 (by decide) hT q699 dX5_keeps_39 ?_
  refine g_aload_n O dX5_keeps_42 rfl ?_
  refine gx_getI (lay := 4) (j := 6) O ck4 (by decide) rfl rfl (by decide) hT q709 dX5_keeps_43 ?_
  refine g_rq0 (gr_V (lay := 15) (nA := 1) (As := [.int (V t 0 6)]) (rest := []) O hRm (kJ2_get _ O.2.2.2.2.2.2.2.2 _ _ _ _ _ _ b1 ht3 ((V t 0 6)) _ w) (lw_V q879 q796 q797 q110 q798) rfl rfl (by decide +kernel) ⟨Nat.le_of_ble_eq_true rfl, Nat.le_of_ble_eq_true rfl⟩ ck15 (by decide) rfl ht3 rfl rfl rfl (Nat.le_of_ble_eq_true rfl) dX5_keeps_46 ⟨Nat.le_of_ble_eq_true rfl, Nat.le_of_ble_eq_true rfl⟩) (fun r4 w => ?_)
  obtain ⟨ht7, w⟩ := w
  refine gx_castE (lay := 5) O ck5 (by decide) rfl ht7 q577 dX5_keeps_49 ?_
  refine g_aload_n O dX5_keeps_52 rfl ?_
  obtain ⟨b8, hp9, ht10, w⟩ := w
  refine gx_getR (lay := 4) (j := 0) O ck4 (by decide) rfl rfl hp9 (by decide) hT q697 dX5_keeps_53 ?_
  refine g_rv1 (gr_V (lay := 5) (nA := 1) (As := [.ref b8]) (rest := []) O hRm (kX6_like _ O.2.2.2.2.2.2.2.2 _ _ _ _ _ _ r4 ht7 b8 ht10 _ w) (lw_V q878 q862 q863 q131 q864) rfl rfl (by decide +kernel) ⟨Nat.le_of_ble_eq_true rfl, Nat.le_of_ble_eq_true rfl⟩ ck5 (by decide) rfl ht7 rfl rfl rfl (Nat.le_of_ble_eq_true rfl) dX5_keeps_56 ⟨Nat.le_of_ble_eq_true rfl, Nat.le_of_ble_eq_true rfl⟩) (fun V12 w => ?_)
  refine g_aload_n O dX5_keeps_59 rfl ?_
  refine g_dup O dX5_keeps_60 rfl ?_
  refine gx_getI (lay := 4) (j := 6) O ck4 (by decide) rfl rfl (by decide) hT q709 dX5_keeps_61 ?_
  refine g_iconst (v := 1) O dX5_keeps_64 (by decide) ?_
  refine g_iadd O dX5_keeps_65 ?_
  refine gx_putI (lay := 4) (j := 6) (ty := .int) O ck4 (by decide) rfl rfl (by decide) hT q709 rfl rfl rfl rfl dX5_keeps_66 ?_
  refine g_nV w (fun V14 w _ => ?_)
  exact g_vret (f := xW2 z T L) (u := (V14, P)) O hQ rfl w dX5_keeps_69
set_option maxHeartbeats 4000000 in
theorem kX5_keeps (l : Launch) (hfl : l.flags = flags0) (E : w_E) (z : Nat) (T L : Nat → Nat) (V : w_V) (P : w_P) (t : Nat) (hT : T t = 5) (post : w_V → w_P → Prop) (w : wX5_keeps E.2.2.2.2 T L V P t post) : gMv l yX5_keeps (ws_ yX5_keeps cX5_keeps 1 none) rX5_keeps 0 0 E [.ref t] (z, T, L, V, P) (xW2 z T L) (fun (u : w_V × w_P) => post u.1 u.2) := by
  refine g_start (S := Unit) hfl (by decide +kernel) rfl [some (.ref t)] rfl (fun _ h => h) (Nat.le_of_ble_eq_true rfl) (fun X hl hRm hEe O hQ => ?_)
  subst hl
  subst hEe
  unfold wX5_keeps at w
  refine g_aload_n O dX5_keeps_0 rfl ?_
  refine gx_getI (lay := 4) (j := 6) O ck4 (by decide) rfl rfl (by decide) hT q709 dX5_keeps_1 ?_
  refine g_bipush (v := 40) O dX5_keeps_4 (by decide) ?_
  refine g_icmp_ne (tgt := 38) O w dX5_keeps_6 (by decide) (fun w => ?_) (fun w => ?_)
  · exact vjX5_keeps_38 O hRm (V := V) (P := P) t hT post hQ w
  · refine g_aload_n O dX5_keeps_9 rfl ?_
    obtain ⟨b15, hp16, ht17, w⟩ := w
    refine gx_getR (lay := 4) (j := 1) O ck4 (by decide) rfl rfl hp16 (by decide) hT q699 dX5_keeps_10 ?_
    refine g_aload_n O dX5_keeps_13 rfl ?_
    obtain ⟨b18, hp19, ht20, w⟩ := w
    refine gx_getR (lay := 4) (j := 1) O ck4 (by decide) rfl rfl hp19 (by decide) hT q699 dX5_keeps_14 ?_
    refine g_iconst (v := 0) O dX5_keeps_17 (by decide) ?_
    refine g_rq2 (gr_V (lay := 15) (nA := 1) (As := [.int 0]) (rest := [.ref b15]) O hRm (kJ2_remove _ O.2.2.2.2.2.2.2.2 _ _ _ _ _ _ b18 ht20 (0) _ w) (lw_V q1551 q1552 q1553 q110 q1554) rfl rfl (by decide +kernel) ⟨Nat.le_of_ble_eq_true rfl, Nat.le_of_ble_eq_true rfl⟩ ck15 (by decide) rfl ht20 rfl rfl rfl (Nat.le_of_ble_eq_true rfl) dX5_keeps_18 ⟨Nat.le_of_ble_eq_true rfl, Nat.le_of_ble_eq_true rfl⟩) (fun r21 V22 P23 w => ?_)
    obtain ⟨ht24, w⟩ := w
    refine gx_castE (lay := 5) O ck5 (by decide) rfl ht24 q577 dX5_keeps_21 ?_
    refine g_ri2 (gr_V (lay := 15) (nA := 1) (As := [.ref r21]) (rest := []) O hRm (kJ2_add _ O.2.2.2.2.2.2.2.2 _ _ _ _ _ _ b15 ht17 r21 _ w) (lw_V q642 q643 q644 q110 q645) rfl rfl (by decide +kernel) ⟨Nat.le_of_ble_eq_true rfl, Nat.le_of_ble_eq_true rfl⟩ ck15 (by decide) rfl ht17 rfl rfl rfl (Nat.le_of_ble_eq_true rfl) dX5_keeps_24 ⟨Nat.le_of_ble_eq_true rfl, Nat.le_of_ble_eq_true rfl⟩) (fun r25 V26 P27 w => ?_)
    refine g_pop O dX5_keeps_27 rfl ?_
    refine g_aload_n O dX5_keeps_28 rfl ?_
    refine g_dup O dX5_keeps_29 rfl ?_
    refine gx_getI (lay := 4) (j := 6) O ck4 (by decide) rfl rfl (by decide) hT q709 dX5_keeps_30 ?_
    refine g_iconst (v := 1) O dX5_keeps_33 (by decide) ?_
    refine g_isub O dX5_keeps_34 ?_
    refine gx_putI (lay := 4) (j := 6) (ty := .int) O ck4 (by decide) rfl rfl (by decide) hT q709 rfl rfl rfl rfl dX5_keeps_35 ?_
    refine g_nV w (fun V28 w _ => ?_)
    exact vjX5_keeps_38 O hRm (V := V28) (P := P27) t hT post hQ w
-- X6_puts
abbrev rX6_puts : Room := { frames := 1, cells := 0, slots := 0, locals := 12 }
set_option maxHeartbeats 4000000 in
theorem kX6_puts (l : Launch) (hfl : l.flags = flags0) (E : w_E) (z : Nat) (T L : Nat → Nat) (V : w_V) (P : w_P) (d0 a0 k0 n0 : Nat) (h0 : hArr T L d0 a0 k0 n0 0) (g0 : n0 < 2147483648) (x1 : Int32) (x2 : Int32) (x3 : Int32) (x4 : Int32) (post : w_V → Prop) (w : wX6_puts E.2.2.2.2 T L V P a0 k0 n0 x1 x2 x3 x4 post) : gMv l yX6_puts (ws_ yX6_puts cX6_puts 5 none) rX6_puts 0 0 E [.ref d0, .int x1, .int x2, .int x3, .int x4] (z, T, L, V, P) (xW1 z T L P) post := by
  refine g_start (S := Unit) hfl (by decide +kernel) rfl [some (.ref d0), some (.int x1), some (.int x2), some (.int x3), some (.int x4)] rfl (fun _ h => h) (Nat.le_of_ble_eq_true rfl) (fun X hl hRm hEe O hQ => ?_)
  subst hl
  subst hEe
  unfold wX6_puts at w
  refine g_aload_n O dX6_puts_0 rfl ?_
  refine g_iconst (v := 3) O dX6_puts_1 (by decide) ?_
  refine g_iload_n O dX6_puts_2 rfl ?_
  refine g_imul O dX6_puts_3 ?_
  refine g_iload_n O dX6_puts_4 rfl ?_
  obtain ⟨i1, hi2, e3, w⟩ := w
  refine gx_iast (a := a0) (kk0 := k0) (len := n0) (nn := i1) O h0 hi2 g0 e3 dX6_puts_5 ?_
  refine g_nV w (fun V4 w _ => ?_)
  refine g_aload_n O dX6_puts_6 rfl ?_
  refine g_iconst (v := 3) O dX6_puts_7 (by decide) ?_
  refine g_iload_n O dX6_puts_8 rfl ?_
  refine g_imul O dX6_puts_9 ?_
  refine g_iconst (v := 1) O dX6_puts_10 (by decide) ?_
  refine g_iadd O dX6_puts_11 ?_
  refine g_iload_n O dX6_puts_12 rfl ?_
  obtain ⟨i5, hi6, e7, w⟩ := w
  refine gx_iast (a := a0) (kk0 := k0) (len := n0) (nn := i5) O h0 hi6 g0 e7 dX6_puts_13 ?_
  refine g_nV w (fun V8 w _ => ?_)
  refine g_aload_n O dX6_puts_14 rfl ?_
  refine g_iconst (v := 3) O dX6_puts_15 (by decide) ?_
  refine g_iload_n O dX6_puts_16 rfl ?_
  refine g_imul O dX6_puts_17 ?_
  refine g_iconst (v := 2) O dX6_puts_18 (by decide) ?_
  refine g_iadd O dX6_puts_19 ?_
  refine g_iload O dX6_puts_20 rfl ?_
  obtain ⟨i9, hi10, e11, w⟩ := w
  refine gx_iast (a := a0) (kk0 := k0) (len := n0) (nn := i9) O h0 hi10 g0 e11 dX6_puts_22 ?_
  refine g_nV w (fun V12 w _ => ?_)
  exact g_vret (f := xW1 z T L P) (u := V12) O hQ rfl w dX6_puts_23
-- X6_sends
abbrev rX6_sends : Room := { frames := 2, cells := 0, slots := 0, locals := 36 }
set_option maxHeartbeats 4000000 in
theorem kX6_sends (l : Launch) (hfl : l.flags = flags0) (E : w_E) (z : Nat) (T L : Nat → Nat) (V : w_V) (P : w_P) (t : Nat) (hT : T t = 6) (x1 : Int32) (x2 : Int32) (x3 : Int32) (post : w_V → Prop) (w : wX6_sends E.2.2.2.2 T L V P t x1 x2 x3 post) : gMv l yX6_sends (ws_ yX6_sends cX6_sends 4 none) rX6_sends 0 0 E [.ref t, .int x1, .int x2, .int x3] (z, T, L, V, P) (xW1 z T L P) post := by
  refine g_start (S := Unit) hfl (by decide +kernel) rfl [some (.ref t), some (.int x1), some (.int x2), some (.int x3)] rfl (fun _ h => h) (Nat.le_of_ble_eq_true rfl) (fun X hl hRm hEe O hQ => ?_)
  subst hl
  subst hEe
  unfold wX6_sends at w
  refine g_aload_n O dX6_sends_0 rfl ?_
  refine gx_getA (lay := 5) (j := 1) O ck5 (by decide) rfl rfl (by decide) hT q586 dX6_sends_1 ?_
  refine g_aload_n O dX6_sends_4 rfl ?_
  refine gx_getI (lay := 5) (j := 5) O ck5 (by decide) rfl rfl (by decide) hT q595 dX6_sends_5 ?_
  refine g_iload_n O dX6_sends_8 rfl ?_
  refine g_iload_n O dX6_sends_9 rfl ?_
  refine g_iload_n O dX6_sends_10 rfl ?_
  refine g_rv1 (gr_S (nA := 5) (As := [.ref (t + 2), .int (V t 0 5), .int x1, .int x2, .int x3]) (rest := []) O hRm (kX6_puts _ O.2.2.2.2.2.2.2.2 _ _ _ _ _ _ ((t + 2)) t 2 15 (ha_own (lay := 5) (j := 1) (off := 2) (ty := 0) (len := 15) (by decide) hT rfl (by decide)) (by decide) ((V t 0 5)) (x1) (x2) (x3) _ w) (lw_S q1578 q1579 q131 q1580) rfl rfl (by decide +kernel) ⟨Nat.le_of_ble_eq_true rfl, Nat.le_of_ble_eq_true rfl⟩ rfl rfl rfl (Nat.le_of_ble_eq_true rfl) dX6_sends_11 ⟨Nat.le_of_ble_eq_true rfl, Nat.le_of_ble_eq_true rfl⟩) (fun V2 w => ?_)
  refine g_aload_n O dX6_sends_14 rfl ?_
  refine g_dup O dX6_sends_15 rfl ?_
  refine gx_getI (lay := 5) (j := 5) O ck5 (by decide) rfl rfl (by decide) hT q595 dX6_sends_16 ?_
  refine g_iconst (v := 1) O dX6_sends_19 (by decide) ?_
  refine g_iadd O dX6_sends_20 ?_
  refine gx_putI (lay := 5) (j := 5) (ty := .int) O ck5 (by decide) rfl rfl (by decide) hT q595 rfl rfl rfl rfl dX6_sends_21 ?_
  refine g_nV w (fun V4 w _ => ?_)
  exact g_vret (f := xW1 z T L P) (u := V4) O hQ rfl w dX6_sends_24
-- X6_feasts
abbrev rX6_feasts : Room := { frames := 2, cells := 0, slots := 0, locals := 36 }
set_option maxHeartbeats 4000000 in
theorem kX6_feasts (l : Launch) (hfl : l.flags = flags0) (E : w_E) (z : Nat) (T L : Nat → Nat) (V : w_V) (P : w_P) (t : Nat) (hT : T t = 6) (x1 : Int32) (x2 : Int32) (x3 : Int32) (post : w_V → Prop) (w : wX6_feasts E.2.2.2.2 T L V P t x1 x2 x3 post) : gMv l yX6_feasts (ws_ yX6_feasts cX6_feasts 4 none) rX6_feasts 0 0 E [.ref t, .int x1, .int x2, .int x3] (z, T, L, V, P) (xW1 z T L P) post := by
  refine g_start (S := Unit) hfl (by decide +kernel) rfl [some (.ref t), some (.int x1), some (.int x2), some (.int x3)] rfl (fun _ h => h) (Nat.le_of_ble_eq_true rfl) (fun X hl hRm hEe O hQ => ?_)
  subst hl
  subst hEe
  unfold wX6_feasts at w
  refine g_aload_n O dX6_feasts_0 rfl ?_
  refine gx_getA (lay := 5) (j := 2) O ck5 (by decide) rfl rfl (by decide) hT q589 dX6_feasts_1 ?_
  refine g_aload_n O dX6_feasts_4 rfl ?_
  refine gx_getI (lay := 5) (j := 6) O ck5 (by decide) rfl rfl (by decide) hT q598 dX6_feasts_5 ?_
  refine g_iload_n O dX6_feasts_8 rfl ?_
  refine g_iload_n O dX6_feasts_9 rfl ?_
  refine g_iload_n O dX6_feasts_10 rfl ?_
  refine g_rv1 (gr_S (nA := 5) (As := [.ref (t + 3), .int (V t 0 6), .int x1, .int x2, .int x3]) (rest := []) O hRm (kX6_puts _ O.2.2.2.2.2.2.2.2 _ _ _ _ _ _ ((t + 3)) t 3 12 (ha_own (lay := 5) (j := 2) (off := 3) (ty := 0) (len := 12) (by decide) hT rfl (by decide)) (by decide) ((V t 0 6)) (x1) (x2) (x3) _ w) (lw_S q1578 q1579 q131 q1580) rfl rfl (by decide +kernel) ⟨Nat.le_of_ble_eq_true rfl, Nat.le_of_ble_eq_true rfl⟩ rfl rfl rfl (Nat.le_of_ble_eq_true rfl) dX6_feasts_11 ⟨Nat.le_of_ble_eq_true rfl, Nat.le_of_ble_eq_true rfl⟩) (fun V2 w => ?_)
  refine g_aload_n O dX6_feasts_14 rfl ?_
  refine g_dup O dX6_feasts_15 rfl ?_
  refine gx_getI (lay := 5) (j := 6) O ck5 (by decide) rfl rfl (by decide) hT q598 dX6_feasts_16 ?_
  refine g_iconst (v := 1) O dX6_feasts_19 (by decide) ?_
  refine g_iadd O dX6_feasts_20 ?_
  refine gx_putI (lay := 5) (j := 6) (ty := .int) O ck5 (by decide) rfl rfl (by decide) hT q598 rfl rfl rfl rfl dX6_feasts_21 ?_
  refine g_nV w (fun V4 w _ => ?_)
  exact g_vret (f := xW1 z T L P) (u := V4) O hQ rfl w dX6_feasts_24
-- X6_floods
abbrev rX6_floods : Room := { frames := 2, cells := 0, slots := 0, locals := 36 }
set_option maxHeartbeats 4000000 in
theorem kX6_floods (l : Launch) (hfl : l.flags = flags0) (E : w_E) (z : Nat) (T L : Nat → Nat) (V : w_V) (P : w_P) (t : Nat) (hT : T t = 6) (x1 : Int32) (x2 : Int32) (x3 : Int32) (post : w_V → Prop) (w : wX6_floods E.2.2.2.2 T L V P t x1 x2 x3 post) : gMv l yX6_floods (ws_ yX6_floods cX6_floods 4 none) rX6_floods 0 0 E [.ref t, .int x1, .int x2, .int x3] (z, T, L, V, P) (xW1 z T L P) post := by
  refine g_start (S := Unit) hfl (by decide +kernel) rfl [some (.ref t), some (.int x1), some (.int x2), some (.int x3)] rfl (fun _ h => h) (Nat.le_of_ble_eq_true rfl) (fun X hl hRm hEe O hQ => ?_)
  subst hl
  subst hEe
  unfold wX6_floods at w
  refine g_aload_n O dX6_floods_0 rfl ?_
  refine gx_getA (lay := 5) (j := 3) O ck5 (by decide) rfl rfl (by decide) hT q590 dX6_floods_1 ?_
  refine g_aload_n O dX6_floods_4 rfl ?_
  refine gx_getI (lay := 5) (j := 7) O ck5 (by decide) rfl rfl (by decide) hT q600 dX6_floods_5 ?_
  refine g_iload_n O dX6_floods_8 rfl ?_
  refine g_iload_n O dX6_floods_9 rfl ?_
  refine g_iload_n O dX6_floods_10 rfl ?_
  refine g_rv1 (gr_S (nA := 5) (As := [.ref (t + 4), .int (V t 0 7), .int x1, .int x2, .int x3]) (rest := []) O hRm (kX6_puts _ O.2.2.2.2.2.2.2.2 _ _ _ _ _ _ ((t + 4)) t 4 18 (ha_own (lay := 5) (j := 3) (off := 4) (ty := 0) (len := 18) (by decide) hT rfl (by decide)) (by decide) ((V t 0 7)) (x1) (x2) (x3) _ w) (lw_S q1578 q1579 q131 q1580) rfl rfl (by decide +kernel) ⟨Nat.le_of_ble_eq_true rfl, Nat.le_of_ble_eq_true rfl⟩ rfl rfl rfl (Nat.le_of_ble_eq_true rfl) dX6_floods_11 ⟨Nat.le_of_ble_eq_true rfl, Nat.le_of_ble_eq_true rfl⟩) (fun V2 w => ?_)
  refine g_aload_n O dX6_floods_14 rfl ?_
  refine g_dup O dX6_floods_15 rfl ?_
  refine gx_getI (lay := 5) (j := 7) O ck5 (by decide) rfl rfl (by decide) hT q600 dX6_floods_16 ?_
  refine g_iconst (v := 1) O dX6_floods_19 (by decide) ?_
  refine g_iadd O dX6_floods_20 ?_
  refine gx_putI (lay := 5) (j := 7) (ty := .int) O ck5 (by decide) rfl rfl (by decide) hT q600 rfl rfl rfl rfl dX6_floods_21 ?_
  refine g_nV w (fun V4 w _ => ?_)
  exact g_vret (f := xW1 z T L P) (u := V4) O hQ rfl w dX6_floods_24
-- X1_isGuilty
abbrev rX1_isGuilty : Room := { frames := 1249, cells := 0, slots := 0, locals := 37376 }
set_option maxHeartbeats 4000000 in
theorem kX1_isGuilty (l : Launch) (hfl : l.flags = flags0) (E : w_E) (z : Nat) (T L : Nat → Nat) (V : w_V) (P : w_P) (t : Nat) (hT : T t = 2) (x1 : Int32) (post : Int32 → w_V → Prop) (w : wX1_isGuilty E.2.2.2.2 T L V P t x1 post) : gMi l yX1_isGuilty (ws_ yX1_isGuilty cX1_isGuilty 2 (some .boolean)) rX1_isGuilty 0 0 E [.ref t, .int x1] (z, T, L, V, P) (xW1 z T L P) post := by
  refine g_start (S := Unit) hfl (by decide +kernel) rfl [some (.ref t), some (.int x1)] rfl (fun _ h => h) (Nat.le_of_ble_eq_true rfl) (fun X hl hRm hEe O hQ => ?_)
  subst hl
  subst hEe
  unfold wX1_isGuilty at w
  refine g_aload_n O dX1_isGuilty_0 rfl ?_
  obtain ⟨b1, hp2, ht3, w⟩ := w
  refine gx_getR (lay := 1) (j := 5) O ck1 (by decide) rfl rfl hp2 (by decide) hT q815 dX1_isGuilty_1 ?_
  refine g_ri1 (gr_V (lay := 6) (nA := 0) (As := []) (rest := []) O hRm (kX7_all _ O.2.2.2.2.2.2.2.2 _ _ _ _ _ _ b1 ht3 _ w) (lw_V q1289 q1290 q1291 q132 q1292) rfl rfl (by decide +kernel) ⟨Nat.le_of_ble_eq_true rfl, Nat.le_of_ble_eq_true rfl⟩ ck6 (by decide) rfl ht3 rfl rfl rfl (Nat.le_of_ble_eq_true rfl) dX1_isGuilty_4 ⟨Nat.le_of_ble_eq_true rfl, Nat.le_of_ble_eq_true rfl⟩) (fun r4 V5 w => ?_)
  refine g_pop O dX1_isGuilty_7 rfl ?_
  refine g_aload_n O dX1_isGuilty_8 rfl ?_
  obtain ⟨b7, hp8, ht9, w⟩ := w
  refine gx_getR (lay := 1) (j := 5) O ck1 (by decide) rfl rfl hp8 (by decide) hT q815 dX1_isGuilty_9 ?_
  refine gx_getAN (lay := 6) (j := 8) O ck6 (by decide) rfl rfl (by decide) ht9 q754 dX1_isGuilty_12 ?_
  refine g_iload_n O dX1_isGuilty_15 rfl ?_
  obtain ⟨i10, hi11, e12, w⟩ := w
  refine gx_iald (a := b7) (kk0 := 9) (len := 6) (nn := i10) O (ha_own (lay := 6) (j := 8) (off := 7) (ty := 0) (len := 6) (by decide) ht9 rfl (by decide)) hi11 (by decide) e12 dX1_isGuilty_16 ?_
  refine g_iconst (v := (-1)) O dX1_isGuilty_17 (by decide) ?_
  refine g_icmp_eq (tgt := 25) O w dX1_isGuilty_18 (by decide) (fun w => ?_) (fun w => ?_)
  · refine g_iconst (v := 0) O dX1_isGuilty_25 (by decide) ?_
    exact g_iret (f := xW1 z T L P) (u := V5) O hQ rfl rfl w dX1_isGuilty_26
  · refine g_iconst (v := 1) O dX1_isGuilty_21 (by decide) ?_
    refine g_goto (tgt := 26) O dX1_isGuilty_22 (by decide) ?_
    exact g_iret (f := xW1 z T L P) (u := V5) O hQ rfl rfl w dX1_isGuilty_26
-- X1_isGuiltyNow
abbrev rX1_isGuiltyNow : Room := { frames := 1250, cells := 0, slots := 0, locals := 37397 }
set_option maxHeartbeats 4000000 in
theorem kX1_isGuiltyNow (l : Launch) (hfl : l.flags = flags0) (E : w_E) (z : Nat) (T L : Nat → Nat) (V : w_V) (P : w_P) (t : Nat) (hT : T t = 2) (x1 : Int32) (post : Int32 → w_V → Prop) (w : wX1_isGuiltyNow E.2.2.2.2 T L V P t x1 post) : gMi l yX1_isGuiltyNow (ws_ yX1_isGuiltyNow cX1_isGuiltyNow 2 (some .boolean)) rX1_isGuiltyNow 0 0 E [.ref t, .int x1] (z, T, L, V, P) (xW1 z T L P) post := by
  refine g_start (S := Unit) hfl (by decide +kernel) rfl [some (.ref t), some (.int x1)] rfl (fun _ h => h) (Nat.le_of_ble_eq_true rfl) (fun X hl hRm hEe O hQ => ?_)
  subst hl
  subst hEe
  unfold wX1_isGuiltyNow at w
  refine g_aload_n O dX1_isGuiltyNow_0 rfl ?_
  obtain ⟨b1, hp2, ht3, w⟩ := w
  refine gx_getR (lay := 1) (j := 4) O ck1 (by decide) rfl rfl hp2 (by decide) hT q814 dX1_isGuiltyNow_1 ?_
  refine g_aload_n O dX1_isGuiltyNow_4 rfl ?_
  obtain ⟨b4, hp5, ht6, w⟩ := w
  refine gx_getR (lay := 1) (j := 3) O ck1 (by decide) rfl rfl hp5 (by decide) hT q813 dX1_isGuiltyNow_5 ?_
  refine g_rv1 (gr_V (lay := 5) (nA := 1) (As := [.ref b4]) (rest := []) O hRm (kX6_like _ O.2.2.2.2.2.2.2.2 _ _ _ _ _ _ b1 ht3 b4 ht6 _ w) (lw_V q861 q862 q863 q131 q864) rfl rfl (by decide +kernel) ⟨Nat.le_of_ble_eq_true rfl, Nat.le_of_ble_eq_true rfl⟩ ck5 (by decide) rfl ht3 rfl rfl rfl (Nat.le_of_ble_eq_true rfl) dX1_isGuiltyNow_8 ⟨Nat.le_of_ble_eq_true rfl, Nat.le_of_ble_eq_true rfl⟩) (fun V8 w => ?_)
  refine g_aload_n O dX1_isGuiltyNow_11 rfl ?_
  refine g_iload_n O dX1_isGuiltyNow_12 rfl ?_
  refine g_ri1 (gr_V (lay := 1) (nA := 1) (As := [.int x1]) (rest := []) O hRm (kX1_isGuilty _ O.2.2.2.2.2.2.2.2 _ _ _ _ _ _ t hT (x1) _ w) (lw_V q1635 q1637 qs44 q106 q1638) rfl rfl (by decide +kernel) ⟨Nat.le_of_ble_eq_true rfl, Nat.le_of_ble_eq_true rfl⟩ ck1 (by decide) rfl hT rfl rfl rfl (Nat.le_of_ble_eq_true rfl) dX1_isGuiltyNow_13 ⟨Nat.le_of_ble_eq_true rfl, Nat.le_of_ble_eq_true rfl⟩) (fun r10 V11 w => ?_)
  exact g_iret (f := xW1 z T L P) (u := V11) O hQ w.1 rfl w.2 dX1_isGuiltyNow_16
-- X1_reaches
abbrev rX1_reaches : Room := { frames := 4, cells := 0, slots := 0, locals := 76 }
set_option maxHeartbeats 4000000 in
theorem vjX1_reaches_47 {X : Cx} {z : Nat} {T L : Nat → Nat} {V : w_V} {P : w_P} (O : Okc X cX1_reaches RX1 3 (some .boolean)) (hRm : cxR X = rX1_reaches) (t : Nat) (hT : T t = 2) (x1 : Int32) (x2 : Int32) (post : Int32 → Prop) (hQ : cxMQ X (va_Qi (fun x (_ : Unit) => post x) (fun u t => wdW (cxE X) (xW0 z T L V P u) t.heap) (w_A (cxE X))) 0 0) (kb : Int32 → Prop) (hkb : ∀ (y2 : Int32), kb y2 → gW X 0 0 z T L V P 2 [some (.ref t), some (.int x1), some (.int y2)] []) (w : jX1_reaches_47 (cxE X).2.2.2.2 T L V P t x1 x2 post kb) : gW X 0 0 z T L V P 47 [some (.ref t), some (.int x1), some (.int x2)] [] := by
  unfold jX1_reaches_47 at w
  refine g_iinc (v := (x2 + 1)) O dX1_reaches_47 rfl rfl rfl (lv' := [some (.ref t), some (.int x1), some (.int (x2 + 1))]) rfl ?_
  refine g_goto (tgt := 2) O dX1_reaches_50 (by decide) ?_
  exact hkb ((x2 + 1)) w
set_option maxHeartbeats 4000000 in
theorem vlX1_reaches_2 {X : Cx} {z : Nat} {T L : Nat → Nat} {V : w_V} {P : w_P} (O : Okc X cX1_reaches RX1 3 (some .boolean)) (hRm : cxR X = rX1_reaches) (t : Nat) (hT : T t = 2) (x1 : Int32) (post : Int32 → Prop) (hQ : cxMQ X (va_Qi (fun x (_ : Unit) => post x) (fun u t => wdW (cxE X) (xW0 z T L V P u) t.heap) (w_A (cxE X))) 0 0)  : ∀ (n : Nat) (x2 : Int32), lX1_reaches_2 (cxE X).2.2.2.2 T L V P t x1 post n x2 → gW X 0 0 z T L V P 2 [some (.ref t), some (.int x1), some (.int x2)] [] := by
  intro n
  induction n with
  | zero =>
    intro x2 w
    exact w.elim
  | succ n ih =>
    intro x2 w
    unfold lX1_reaches_2 at w
    refine g_iload_n O dX1_reaches_2 rfl ?_
    refine g_aload_n O dX1_reaches_3 rfl ?_
    obtain ⟨b1, hp2, ht3, w⟩ := w
    refine gx_getR (lay := 1) (j := 0) O ck1 (by decide) rfl rfl hp2 (by decide) hT q810 dX1_reaches_4 ?_
    obtain ⟨b4, hp5, ht6, w⟩ := w
    refine gx_getRN (lay := 2) (j := 6) O ck2 (by decide) rfl rfl hp5 (by decide) ht3 q541 dX1_reaches_7 ?_
    refine g_ri0 (gr_V (lay := 15) (nA := 0) (As := []) (rest := [.int x2]) O hRm (kJ2_size _ O.2.2.2.2.2.2.2.2 _ _ _ _ _ _ b4 ht6 _ w) (lw_V q1280 q792 q793 q110 q794) rfl rfl (by decide +kernel) ⟨Nat.le_of_ble_eq_true rfl, Nat.le_of_ble_eq_true rfl⟩ ck15 (by decide) rfl ht6 rfl rfl rfl (Nat.le_of_ble_eq_true rfl) dX1_reaches_10 ⟨Nat.le_of_ble_eq_true rfl, Nat.le_of_ble_eq_true rfl⟩) (fun r7 w => ?_)
    refine g_icmp_ge (tgt := 53) O w dX1_reaches_13 (by decide) (fun w => ?_) (fun w => ?_)
    · refine g_iconst (v := 1) O dX1_reaches_53 (by decide) ?_
      exact g_iret (f := xW0 z T L V P) (u := ()) O hQ rfl rfl w dX1_reaches_54
    · refine g_iload_n O dX1_reaches_16 rfl ?_
      refine g_iload_n O dX1_reaches_17 rfl ?_
      refine g_ishr O dX1_reaches_18 ?_
      refine g_iconst (v := 1) O dX1_reaches_19 (by decide) ?_
      refine g_iand O dX1_reaches_20 ?_
      refine g_iconst (v := 1) O dX1_reaches_21 (by decide) ?_
      refine g_icmp_ne (tgt := 47) O w dX1_reaches_22 (by decide) (fun w => ?_) (fun w => ?_)
      · exact vjX1_reaches_47 O hRm (V := V) (P := P) t hT (x1) (x2) post hQ (lX1_reaches_2 (cxE X).2.2.2.2 T L V P t x1 post n) ih w
      · refine g_aload_n O dX1_reaches_25 rfl ?_
        obtain ⟨b10, hp11, ht12, w⟩ := w
        refine gx_getR (lay := 1) (j := 0) O ck1 (by decide) rfl rfl hp11 (by decide) hT q810 dX1_reaches_26 ?_
        obtain ⟨b13, hp14, ht15, w⟩ := w
        refine gx_getRN (lay := 2) (j := 6) O ck2 (by decide) rfl rfl hp14 (by decide) ht12 q541 dX1_reaches_29 ?_
        refine g_iload_n O dX1_reaches_32 rfl ?_
        refine g_rq0 (gr_V (lay := 15) (nA := 1) (As := [.int x2]) (rest := []) O hRm (kJ2_get _ O.2.2.2.2.2.2.2.2 _ _ _ _ _ _ b13 ht15 (x2) _ w) (lw_V q860 q796 q797 q110 q798) rfl rfl (by decide +kernel) ⟨Nat.le_of_ble_eq_true rfl, Nat.le_of_ble_eq_true rfl⟩ ck15 (by decide) rfl ht15 rfl rfl rfl (Nat.le_of_ble_eq_true rfl) dX1_reaches_33 ⟨Nat.le_of_ble_eq_true rfl, Nat.le_of_ble_eq_true rfl⟩) (fun r16 w => ?_)
        obtain ⟨ht19, w⟩ := w
        refine gj_cast O ht19 q1465 dX1_reaches_36 ?_
        refine g_ri0 (g_disp3 ht19 (fun h => (gr_V (lay := 12) (nA := 0) (As := []) (rest := []) O hRm (kX16_hears _ O.2.2.2.2.2.2.2.2 _ _ _ _ _ _ r16 (Or.inl h) _ (w.1 h)) (lw_V q1656 q1411 q1412 q143 q1418) rfl rfl (by decide +kernel) ⟨Nat.le_of_ble_eq_true rfl, Nat.le_of_ble_eq_true rfl⟩ ck12 (by decide) rfl h rfl rfl rfl (Nat.le_of_ble_eq_true rfl) dX1_reaches_39 ⟨Nat.le_of_ble_eq_true rfl, Nat.le_of_ble_eq_true rfl⟩)) (fun h => (gr_O (owner := "ApartBench$Judge") (lay := 13) (nA := 0) (As := []) (rest := []) O hRm (kX17_hears _ O.2.2.2.2.2.2.2.2 _ _ _ _ _ _ r16 h _ (w.2.1 h)) (lw_O q1656 q1413 q1411 q1414 q1415 q144 q1416) rfl rfl q1418 (by decide +kernel) ⟨Nat.le_of_ble_eq_true rfl, Nat.le_of_ble_eq_true rfl⟩ ck13 (by decide) rfl h rfl rfl rfl (Nat.le_of_ble_eq_true rfl) dX1_reaches_39 ⟨Nat.le_of_ble_eq_true rfl, Nat.le_of_ble_eq_true rfl⟩)) (fun h => (gr_U (owner := "ApartBench$Judge") (lay := 14) (nA := 0) (As := []) (rest := []) O hRm (kX16_hears _ O.2.2.2.2.2.2.2.2 _ _ _ _ _ _ r16 (Or.inr (Or.inr h)) _ (w.2.2 h)) (lw_U q1656 q1413 q1419 q1411 q143 q1418) rfl rfl rfl (by decide +kernel) ⟨Nat.le_of_ble_eq_true rfl, Nat.le_of_ble_eq_true rfl⟩ ck14 (by decide) rfl h rfl rfl rfl (Nat.le_of_ble_eq_true rfl) dX1_reaches_39 ⟨Nat.le_of_ble_eq_true rfl, Nat.le_of_ble_eq_true rfl⟩))) (fun r20 w => ?_)
        refine g_if_ne (tgt := 47) O w dX1_reaches_42 (by decide) (fun w => ?_) (fun w => ?_)
        · exact vjX1_reaches_47 O hRm (V := V) (P := P) t hT (x1) (x2) post hQ (lX1_reaches_2 (cxE X).2.2.2.2 T L V P t x1 post n) ih w
        · refine g_iconst (v := 0) O dX1_reaches_45 (by decide) ?_
          exact g_iret (f := xW0 z T L V P) (u := ()) O hQ rfl rfl w dX1_reaches_46
set_option maxHeartbeats 4000000 in
theorem kX1_reaches (l : Launch) (hfl : l.flags = flags0) (E : w_E) (z : Nat) (T L : Nat → Nat) (V : w_V) (P : w_P) (t : Nat) (hT : T t = 2) (x1 : Int32) (post : Int32 → Prop) (w : wX1_reaches E.2.2.2.2 T L V P t x1 post) : gMi l yX1_reaches (ws_ yX1_reaches cX1_reaches 3 (some .boolean)) rX1_reaches 0 0 E [.ref t, .int x1] (z, T, L, V, P) (xW0 z T L V P) (fun x (_ : Unit) => post x) := by
  refine g_start (S := Unit) hfl (by decide +kernel) rfl [some (.ref t), some (.int x1), none] rfl (fun _ h => h) (Nat.le_of_ble_eq_true rfl) (fun X hl hRm hEe O hQ => ?_)
  subst hl
  subst hEe
  unfold wX1_reaches at w
  refine g_iconst (v := 0) O dX1_reaches_0 (by decide) ?_
  refine g_istore_n O dX1_reaches_1 (Nat.le_of_ble_eq_true rfl) rfl (lv' := [some (.ref t), some (.int x1), some (.int 0)]) rfl ?_
  obtain ⟨n23, w⟩ := w
  exact vlX1_reaches_2 O hRm (V := V) (P := P) t hT (x1) post hQ n23 (0) w
-- X1_isSeen
abbrev rX1_isSeen : Room := { frames := 1249, cells := 0, slots := 0, locals := 37376 }
set_option maxHeartbeats 4000000 in
theorem vlX1_isSeen_10 {X : Cx} {z : Nat} {T L : Nat → Nat} {P : w_P} (O : Okc X cX1_isSeen RX1 2 (some .boolean)) (hRm : cxR X = rX1_isSeen) (t : Nat) (hT : T t = 2) (post : Int32 → w_V → Prop) (hQ : cxMQ X (va_Qi post (fun u t => wdW (cxE X) (xW1 z T L P u) t.heap) (w_A (cxE X))) 0 0)  : ∀ (n : Nat) (x1 : Int32) (V : w_V), lX1_isSeen_10 (cxE X).2.2.2.2 T L P t post n x1 V → gW X 0 0 z T L V P 10 [some (.ref t), some (.int x1)] [] := by
  intro n
  induction n with
  | zero =>
    intro x1 V w
    exact w.elim
  | succ n ih =>
    intro x1 V w
    unfold lX1_isSeen_10 at w
    refine g_iload_n O dX1_isSeen_10 rfl ?_
    refine g_aload_n O dX1_isSeen_11 rfl ?_
    obtain ⟨b7, hp8, ht9, w⟩ := w
    refine gx_getR (lay := 1) (j := 1) O ck1 (by decide) rfl rfl hp8 (by decide) hT q811 dX1_isSeen_12 ?_
    refine gx_getIN (lay := 4) (j := 7) O ck4 (by decide) rfl rfl (by decide) ht9 q712 dX1_isSeen_15 ?_
    refine g_icmp_ge (tgt := 70) O w dX1_isSeen_18 (by decide) (fun w => ?_) (fun w => ?_)
    · refine g_iconst (v := 1) O dX1_isSeen_70 (by decide) ?_
      exact g_iret (f := xW1 z T L P) (u := V) O hQ rfl rfl w dX1_isSeen_71
    · refine g_aload_n O dX1_isSeen_21 rfl ?_
      obtain ⟨b10, hp11, ht12, w⟩ := w
      refine gx_getR (lay := 1) (j := 5) O ck1 (by decide) rfl rfl hp11 (by decide) hT q815 dX1_isSeen_22 ?_
      refine gx_getAN (lay := 6) (j := 10) O ck6 (by decide) rfl rfl (by decide) ht12 q758 dX1_isSeen_25 ?_
      refine g_iconst (v := 5) O dX1_isSeen_28 (by decide) ?_
      refine g_aload_n O dX1_isSeen_29 rfl ?_
      obtain ⟨b13, hp14, ht15, w⟩ := w
      refine gx_getR (lay := 1) (j := 1) O ck1 (by decide) rfl rfl hp14 (by decide) hT q811 dX1_isSeen_30 ?_
      refine gx_getAN (lay := 4) (j := 2) O ck4 (by decide) rfl rfl (by decide) ht15 q702 dX1_isSeen_33 ?_
      refine g_iload_n O dX1_isSeen_36 rfl ?_
      obtain ⟨i16, hi17, e18, w⟩ := w
      refine gx_iald (a := b13) (kk0 := 3) (len := 8) (nn := i16) O (ha_own (lay := 4) (j := 2) (off := 8) (ty := 0) (len := 8) (by decide) ht15 rfl (by decide)) hi17 (by decide) e18 dX1_isSeen_37 ?_
      refine g_imul O dX1_isSeen_38 ?_
      refine g_aload_n O dX1_isSeen_39 rfl ?_
      obtain ⟨b19, hp20, ht21, w⟩ := w
      refine gx_getR (lay := 1) (j := 1) O ck1 (by decide) rfl rfl hp20 (by decide) hT q811 dX1_isSeen_40 ?_
      refine gx_getAN (lay := 4) (j := 3) O ck4 (by decide) rfl rfl (by decide) ht21 q704 dX1_isSeen_43 ?_
      refine g_iload_n O dX1_isSeen_46 rfl ?_
      obtain ⟨i22, hi23, e24, w⟩ := w
      refine gx_iald (a := b19) (kk0 := 4) (len := 8) (nn := i22) O (ha_own (lay := 4) (j := 3) (off := 9) (ty := 0) (len := 8) (by decide) ht21 rfl (by decide)) hi23 (by decide) e24 dX1_isSeen_47 ?_
      refine g_iadd O dX1_isSeen_48 ?_
      obtain ⟨i25, hi26, e27, w⟩ := w
      refine gx_zald (a := b10) (kk0 := 11) (len := 30) (nn := i25) O (ha_own (lay := 6) (j := 10) (off := 9) (ty := 2) (len := 30) (by decide) ht12 rfl (by decide)) hi26 (by decide) e27 dX1_isSeen_49 ?_
      refine g_aload_n O dX1_isSeen_50 rfl ?_
      obtain ⟨b28, hp29, ht30, w⟩ := w
      refine gx_getR (lay := 1) (j := 1) O ck1 (by decide) rfl rfl hp29 (by decide) hT q811 dX1_isSeen_51 ?_
      refine gx_getAN (lay := 4) (j := 5) O ck4 (by decide) rfl rfl (by decide) ht30 q708 dX1_isSeen_54 ?_
      refine g_iload_n O dX1_isSeen_57 rfl ?_
      obtain ⟨i31, hi32, e33, w⟩ := w
      refine gx_zald (a := b28) (kk0 := 6) (len := 8) (nn := i31) O (ha_own (lay := 4) (j := 5) (off := 11) (ty := 2) (len := 8) (by decide) ht30 rfl (by decide)) hi32 (by decide) e33 dX1_isSeen_58 ?_
      refine g_icmp_eq (tgt := 64) O w dX1_isSeen_59 (by decide) (fun w => ?_) (fun w => ?_)
      · refine g_iinc (v := (x1 + 1)) O dX1_isSeen_64 rfl rfl rfl (lv' := [some (.ref t), some (.int (x1 + 1))]) rfl ?_
        refine g_goto (tgt := 10) O dX1_isSeen_67 (by decide) ?_
        exact ih ((x1 + 1)) (V) w
      · refine g_iconst (v := 0) O dX1_isSeen_62 (by decide) ?_
        exact g_iret (f := xW1 z T L P) (u := V) O hQ rfl rfl w dX1_isSeen_63
set_option maxHeartbeats 4000000 in
theorem kX1_isSeen (l : Launch) (hfl : l.flags = flags0) (E : w_E) (z : Nat) (T L : Nat → Nat) (V : w_V) (P : w_P) (t : Nat) (hT : T t = 2) (post : Int32 → w_V → Prop) (w : wX1_isSeen E.2.2.2.2 T L V P t post) : gMi l yX1_isSeen (ws_ yX1_isSeen cX1_isSeen 2 (some .boolean)) rX1_isSeen 0 0 E [.ref t] (z, T, L, V, P) (xW1 z T L P) post := by
  refine g_start (S := Unit) hfl (by decide +kernel) rfl [some (.ref t), none] rfl (fun _ h => h) (Nat.le_of_ble_eq_true rfl) (fun X hl hRm hEe O hQ => ?_)
  subst hl
  subst hEe
  unfold wX1_isSeen at w
  refine g_aload_n O dX1_isSeen_0 rfl ?_
  obtain ⟨b1, hp2, ht3, w⟩ := w
  refine gx_getR (lay := 1) (j := 5) O ck1 (by decide) rfl rfl hp2 (by decide) hT q815 dX1_isSeen_1 ?_
  refine g_ri1 (gr_V (lay := 6) (nA := 0) (As := []) (rest := []) O hRm (kX7_all _ O.2.2.2.2.2.2.2.2 _ _ _ _ _ _ b1 ht3 _ w) (lw_V q1289 q1290 q1291 q132 q1292) rfl rfl (by decide +kernel) ⟨Nat.le_of_ble_eq_true rfl, Nat.le_of_ble_eq_true rfl⟩ ck6 (by decide) rfl ht3 rfl rfl rfl (Nat.le_of_ble_eq_true rfl) dX1_isSeen_4 ⟨Nat.le_of_ble_eq_true rfl, Nat.le_of_ble_eq_true rfl⟩) (fun r4 V5 w => ?_)
  refine g_pop O dX1_isSeen_7 rfl ?_
  refine g_iconst (v := 0) O dX1_isSeen_8 (by decide) ?_
  refine g_istore_n O dX1_isSeen_9 (Nat.le_of_ble_eq_true rfl) rfl (lv' := [some (.ref t), some (.int 0)]) rfl ?_
  obtain ⟨n34, w⟩ := w
  exact vlX1_isSeen_10 O hRm (P := P) t hT post hQ n34 (0) (V5) w
-- X1_wins
abbrev rX1_wins : Room := { frames := 1250, cells := 0, slots := 0, locals := 37397 }
set_option maxHeartbeats 4000000 in
theorem vjX1_wins_41 {X : Cx} {z : Nat} {T L : Nat → Nat} {V : w_V} {P : w_P} (O : Okc X cX1_wins RX1 4 (some .boolean)) (hRm : cxR X = rX1_wins) (t : Nat) (hT : T t = 2) (x1 : Int32) (x3 : Int32) (post : Int32 → w_V → Prop) (hQ : cxMQ X (va_Qi post (fun u t => wdW (cxE X) (xW1 z T L P u) t.heap) (w_A (cxE X))) 0 0) (w : jX1_wins_41 (cxE X).2.2.2.2 T L V P t x1 x3 post) : gW X 0 0 z T L V P 41 [some (.ref t), some (.int x1), none, some (.int x3)] [] := by
  unfold jX1_wins_41 at w
  refine g_aload_n O dX1_wins_41 rfl ?_
  obtain ⟨b23, hp24, ht25, w⟩ := w
  refine gx_getR (lay := 1) (j := 4) O ck1 (by decide) rfl rfl hp24 (by decide) hT q814 dX1_wins_42 ?_
  refine g_iload_n O dX1_wins_45 rfl ?_
  refine gx_putIN (lay := 5) (j := 11) (ty := .int) O ck5 (by decide) rfl rfl (by decide) ht25 q614 rfl rfl rfl rfl dX1_wins_46 ?_
  refine g_nV w (fun V26 w _ => ?_)
  refine g_aload_n O dX1_wins_49 rfl ?_
  obtain ⟨b27, hp28, ht29, w⟩ := w
  refine gx_getR (lay := 1) (j := 4) O ck1 (by decide) rfl rfl hp28 (by decide) hT q814 dX1_wins_50 ?_
  refine g_iconst (v := 1) O dX1_wins_53 (by decide) ?_
  refine g_iload_n O dX1_wins_54 rfl ?_
  refine g_ishl O dX1_wins_55 ?_
  refine gx_putIN (lay := 5) (j := 10) (ty := .int) O ck5 (by decide) rfl rfl (by decide) ht29 q611 rfl rfl rfl rfl dX1_wins_56 ?_
  refine g_nV w (fun V30 w _ => ?_)
  refine g_aload_n O dX1_wins_59 rfl ?_
  refine g_iload_n O dX1_wins_60 rfl ?_
  refine g_ri1 (gr_V (lay := 1) (nA := 1) (As := [.int x1]) (rest := []) O hRm (kX1_isGuilty _ O.2.2.2.2.2.2.2.2 _ _ _ _ _ _ t hT (x1) _ w) (lw_V q1635 q1637 qs44 q106 q1638) rfl rfl (by decide +kernel) ⟨Nat.le_of_ble_eq_true rfl, Nat.le_of_ble_eq_true rfl⟩ ck1 (by decide) rfl hT rfl rfl rfl (Nat.le_of_ble_eq_true rfl) dX1_wins_61 ⟨Nat.le_of_ble_eq_true rfl, Nat.le_of_ble_eq_true rfl⟩) (fun r31 V32 w => ?_)
  exact g_iret (f := xW1 z T L P) (u := V32) O hQ w.1 rfl w.2 dX1_wins_64
set_option maxHeartbeats 4000000 in
theorem kX1_wins (l : Launch) (hfl : l.flags = flags0) (E : w_E) (z : Nat) (T L : Nat → Nat) (V : w_V) (P : w_P) (t : Nat) (hT : T t = 2) (x1 : Int32) (x2 : Int32) (x3 : Int32) (post : Int32 → w_V → Prop) (w : wX1_wins E.2.2.2.2 T L V P t x1 x2 x3 post) : gMi l yX1_wins (ws_ yX1_wins cX1_wins 4 (some .boolean)) rX1_wins 0 0 E [.ref t, .int x1, .int x2, .int x3] (z, T, L, V, P) (xW1 z T L P) post := by
  refine g_start (S := Unit) hfl (by decide +kernel) rfl [some (.ref t), some (.int x1), some (.int x2), some (.int x3)] rfl (fun _ h => h) (Nat.le_of_ble_eq_true rfl) (fun X hl hRm hEe O hQ => ?_)
  subst hl
  subst hEe
  unfold wX1_wins at w
  refine g_aload_n O dX1_wins_0 rfl ?_
  obtain ⟨b1, hp2, ht3, w⟩ := w
  refine gx_getR (lay := 1) (j := 4) O ck1 (by decide) rfl rfl hp2 (by decide) hT q814 dX1_wins_1 ?_
  refine g_aload_n O dX1_wins_4 rfl ?_
  obtain ⟨b4, hp5, ht6, w⟩ := w
  refine gx_getR (lay := 1) (j := 3) O ck1 (by decide) rfl rfl hp5 (by decide) hT q813 dX1_wins_5 ?_
  refine g_rv1 (gr_V (lay := 5) (nA := 1) (As := [.ref b4]) (rest := []) O hRm (kX6_like _ O.2.2.2.2.2.2.2.2 _ _ _ _ _ _ b1 ht3 b4 ht6 _ w) (lw_V q861 q862 q863 q131 q864) rfl rfl (by decide +kernel) ⟨Nat.le_of_ble_eq_true rfl, Nat.le_of_ble_eq_true rfl⟩ ck5 (by decide) rfl ht3 rfl rfl rfl (Nat.le_of_ble_eq_true rfl) dX1_wins_8 ⟨Nat.le_of_ble_eq_true rfl, Nat.le_of_ble_eq_true rfl⟩) (fun V8 w => ?_)
  refine g_aload_n O dX1_wins_11 rfl ?_
  obtain ⟨b10, hp11, ht12, w⟩ := w
  refine gx_getR (lay := 1) (j := 0) O ck1 (by decide) rfl rfl hp11 (by decide) hT q810 dX1_wins_12 ?_
  obtain ⟨b13, hp14, ht15, w⟩ := w
  refine gx_getRN (lay := 2) (j := 6) O ck2 (by decide) rfl rfl hp14 (by decide) ht12 q541 dX1_wins_15 ?_
  refine g_iload_n O dX1_wins_18 rfl ?_
  refine g_rq0 (gr_V (lay := 15) (nA := 1) (As := [.int x2]) (rest := []) O hRm (kJ2_get _ O.2.2.2.2.2.2.2.2 _ _ _ _ _ _ b13 ht15 (x2) _ w) (lw_V q860 q796 q797 q110 q798) rfl rfl (by decide +kernel) ⟨Nat.le_of_ble_eq_true rfl, Nat.le_of_ble_eq_true rfl⟩ ck15 (by decide) rfl ht15 rfl rfl rfl (Nat.le_of_ble_eq_true rfl) dX1_wins_19 ⟨Nat.le_of_ble_eq_true rfl, Nat.le_of_ble_eq_true rfl⟩) (fun r16 w => ?_)
  obtain ⟨ht19, w⟩ := w
  refine gj_cast O ht19 q1465 dX1_wins_22 ?_
  refine g_ri0 (g_disp3 ht19 (fun h => (gr_V (lay := 12) (nA := 0) (As := []) (rest := []) O hRm (kX16_hears _ O.2.2.2.2.2.2.2.2 _ _ _ _ _ _ r16 (Or.inl h) _ (w.1 h)) (lw_V q1656 q1411 q1412 q143 q1418) rfl rfl (by decide +kernel) ⟨Nat.le_of_ble_eq_true rfl, Nat.le_of_ble_eq_true rfl⟩ ck12 (by decide) rfl h rfl rfl rfl (Nat.le_of_ble_eq_true rfl) dX1_wins_25 ⟨Nat.le_of_ble_eq_true rfl, Nat.le_of_ble_eq_true rfl⟩)) (fun h => (gr_O (owner := "ApartBench$Judge") (lay := 13) (nA := 0) (As := []) (rest := []) O hRm (kX17_hears _ O.2.2.2.2.2.2.2.2 _ _ _ _ _ _ r16 h _ (w.2.1 h)) (lw_O q1656 q1413 q1411 q1414 q1415 q144 q1416) rfl rfl q1418 (by decide +kernel) ⟨Nat.le_of_ble_eq_true rfl, Nat.le_of_ble_eq_true rfl⟩ ck13 (by decide) rfl h rfl rfl rfl (Nat.le_of_ble_eq_true rfl) dX1_wins_25 ⟨Nat.le_of_ble_eq_true rfl, Nat.le_of_ble_eq_true rfl⟩)) (fun h => (gr_U (owner := "ApartBench$Judge") (lay := 14) (nA := 0) (As := []) (rest := []) O hRm (kX16_hears _ O.2.2.2.2.2.2.2.2 _ _ _ _ _ _ r16 (Or.inr (Or.inr h)) _ (w.2.2 h)) (lw_U q1656 q1413 q1419 q1411 q143 q1418) rfl rfl rfl (by decide +kernel) ⟨Nat.le_of_ble_eq_true rfl, Nat.le_of_ble_eq_true rfl⟩ ck14 (by decide) rfl h rfl rfl rfl (Nat.le_of_ble_eq_true rfl) dX1_wins_25 ⟨Nat.le_of_ble_eq_true rfl, Nat.le_of_ble_eq_true rfl⟩))) (fun r20 w => ?_)
  refine g_if_eq (tgt := 41) O w dX1_wins_28 (by decide) (fun w => ?_) (fun w => ?_)
  · refine g_drop [2] (lv' := [some (.ref t), some (.int x1), none, some (.int x3)]) rfl ?_
    exact vjX1_wins_41 O hRm (V := V8) (P := P) t hT (x1) (x3) post hQ w
  · refine g_aload_n O dX1_wins_31 rfl ?_
    obtain ⟨b34, hp35, ht36, w⟩ := w
    refine gx_getR (lay := 1) (j := 4) O ck1 (by decide) rfl rfl hp35 (by decide) hT q814 dX1_wins_32 ?_
    refine g_iconst (v := 1) O dX1_wins_35 (by decide) ?_
    refine g_iload_n O dX1_wins_36 rfl ?_
    refine g_ishl O dX1_wins_37 ?_
    refine gx_putIN (lay := 5) (j := 9) (ty := .int) O ck5 (by decide) rfl rfl (by decide) ht36 q608 rfl rfl rfl rfl dX1_wins_38 ?_
    refine g_nV w (fun V37 w _ => ?_)
    refine g_drop [2] (lv' := [some (.ref t), some (.int x1), none, some (.int x3)]) rfl ?_
    exact vjX1_wins_41 O hRm (V := V37) (P := P) t hT (x1) (x3) post hQ w
-- X1_draw
abbrev rX1_draw : Room := { frames := 1, cells := 0, slots := 0, locals := 12 }
set_option maxHeartbeats 4000000 in
theorem kX1_draw (l : Launch) (hfl : l.flags = flags0) (E : w_E) (z : Nat) (T L : Nat → Nat) (V : w_V) (P : w_P) (t : Nat) (hT : T t = 2) (x1 : Int32) (post : Int32 → w_V → Prop) (w : wX1_draw E.2.2.2.2 T L V P t x1 post) : gMi l yX1_draw (ws_ yX1_draw cX1_draw 2 (some .int)) rX1_draw 0 0 E [.ref t, .int x1] (z, T, L, V, P) (xW1 z T L P) post := by
  refine g_start (S := Unit) hfl (by decide +kernel) rfl [some (.ref t), some (.int x1)] rfl (fun _ h => h) (Nat.le_of_ble_eq_true rfl) (fun X hl hRm hEe O hQ => ?_)
  subst hl
  subst hEe
  unfold wX1_draw at w
  refine g_aload_n O dX1_draw_0 rfl ?_
  refine g_aload_n O dX1_draw_1 rfl ?_
  refine gx_getI (lay := 1) (j := 10) O ck1 (by decide) rfl rfl (by decide) hT q820 dX1_draw_2 ?_
  refine g_ldcw O q1711 dX1_draw_5 ?_
  refine g_imul O dX1_draw_8 ?_
  refine g_sipush (v := 12345) O dX1_draw_9 (by decide) ?_
  refine g_iadd O dX1_draw_12 ?_
  refine gx_putI (lay := 1) (j := 10) (ty := .int) O ck1 (by decide) rfl rfl (by decide) hT q820 rfl rfl rfl rfl dX1_draw_13 ?_
  refine g_nV w (fun V1 w _ => ?_)
  refine g_aload_n O dX1_draw_16 rfl ?_
  refine gx_getI (lay := 1) (j := 10) O ck1 (by decide) rfl rfl (by decide) hT q820 dX1_draw_17 ?_
  refine g_bipush (v := 16) O dX1_draw_20 (by decide) ?_
  refine g_ishr O dX1_draw_22 ?_
  refine g_sipush (v := 32767) O dX1_draw_23 (by decide) ?_
  refine g_iand O dX1_draw_26 ?_
  refine g_iload_n O dX1_draw_27 rfl ?_
  obtain ⟨hz2, w⟩ := w
  refine g_irem O hz2 dX1_draw_28 ?_
  exact g_iret (f := xW1 z T L P) (u := V1) O hQ rfl rfl w dX1_draw_29
