/-! printed by gen/ggen.py out of the given decode rows: walks of the law's wrappers -/
set_option maxRecDepth 100000
-- land
abbrev rX0_land (U0 : Nat) : Room := { frames := 139, cells := 8 * U0, slots := 32 * U0, locals := 3236 }
set_option maxHeartbeats 4000000 in
theorem kX0_land (l : Launch) (hfl : l.flags = flags0) (E : w_E) (U0 z : Nat) (T L : Nat → Nat) (V : w_V) (P : w_P) (t : Nat) (hT : T t = 2) (x1 : Int32) (o : Nat) (ho : T o = 3003) (post : Int32 → Nat → (Nat → Nat) → (Nat → Nat) → w_V → w_P → Prop) (w : wX0_land E.2.2.2.2 U0 z T L V P t x1 o post) : vx_Met l yX0_land (wsW_ yX0_land cX0_land 4 (some .int) [(0, 9, 12, 13)]) (rX0_land U0) (va_Pc [.ref t, .int x1, .ref o] (fun U => kenv E U ∧ wdW E (z, T, L, V, P) U.heap)) (va_Qi (qF1 post) (wdF E) (w_A E)) (xcX E (xF (fun _ _ _ _ _ _ _ => False))) (8 * U0) (32 * U0) (w_A E) := by
  refine g_startH (w := (z, T, L, V, P)) hfl (by decide +kernel) rfl [some (.ref t), some (.int x1), some (.ref o), none] rfl (fun _ h => h) (Nat.le_of_ble_eq_true rfl) (fun X hl hRm hEe O hTb hQ => ?_)
  subst hl
  subst hEe
  have hk : kOk (rX0_land U0) 0 0 U0 := ⟨by show 0 + 8 * U0 ≤ 8 * U0; omega, by show 0 + 32 * U0 ≤ 32 * U0; omega⟩
  unfold wX0_land at w
  refine g_aload_n O dX0_land_0 rfl ?_
  refine g_iconst (v := 0) O dX0_land_1 (by decide) ?_
  refine g_aload_n O dX0_land_2 rfl ?_
  refine g_iload_n O dX0_land_3 rfl ?_
  obtain ⟨c, U2, e1, w⟩ := w
  have hk9 := kOk.eq hk e1
  refine gh_fi (grx_VX (lay := 1) (nA := 1) (As := [.int x1]) (rest := [.int 0, .ref o]) O hRm (kFX1_land _ O.2.2.2.2.2.2.2.2 (cxE X) _ _ _ _ _ _ t hT (x1) _ _ w) (lw_VW q889 q890 q891 q106 q892) rfl rfl (by decide +kernel) ⟨Nat.le_of_ble_eq_true rfl, Nat.le_of_ble_eq_true rfl⟩ ck1 (by decide) rfl hT rfl rfl rfl (Nat.le_of_ble_eq_true rfl) dX0_land_4 (kOk.fa hk9)) (fun q En z T L V1 P1 w => ?_) (fun r z T L V1 P1 w => ?_)
  · have hk := kOk.sa hk9
    obtain ⟨rfl, w⟩ := w
    refine gh_catch1 O hTb (by decide) (by decide) q888 q179 ?_
    refine g_astore_n (lv' := [some (.ref t), some (.int x1), some (.ref o), some (.ref q)]) O dX0_land_12 (Nat.le_of_ble_eq_true rfl) rfl rfl ?_
    refine g_iconst (v := 1) O dX0_land_13 (by decide) ?_
    exact gt_iret (f := fun u => u) (u := (z, T, L, V1, P1)) O hQ (kOk.m hk) rfl rfl w dX0_land_14
  · have hk := kOk.sa hk9
    obtain ⟨ho, hl1, hl2, w⟩ := w
    refine g_i2l O dX0_land_7 ?_
    refine gl_last (nn := 0) (x := r) O ho hl1 (by decide) hl2 rfl dX0_land_8 ?_
    refine g_nV w (fun V9 w _ => ?_)
    refine g_goto (tgt := 15) O dX0_land_9 (by decide) ?_
    refine g_iconst (v := 0) O dX0_land_15 (by decide) ?_
    exact gt_iret (f := fun u => u) (u := (z, T, L, V9, P1)) O hQ (kOk.m hk) rfl rfl w dX0_land_16
-- count
abbrev rX0_count (U0 : Nat) : Room := { frames := 1251, cells := 8 * U0, slots := 32 * U0, locals := 37417 }
set_option maxHeartbeats 4000000 in
theorem kX0_count (l : Launch) (hfl : l.flags = flags0) (E : w_E) (U0 z : Nat) (T L : Nat → Nat) (V : w_V) (P : w_P) (t : Nat) (hT : T t = 2) (x1 : Int32) (o : Nat) (ho : T o = 3003) (post : Int32 → Nat → (Nat → Nat) → (Nat → Nat) → w_V → w_P → Prop) (w : wX0_count E.2.2.2.2 U0 z T L V P t x1 o post) : vx_Met l yX0_count (wsW_ yX0_count cX0_count 4 (some .int) [(0, 9, 12, 18)]) (rX0_count U0) (va_Pc [.ref t, .int x1, .ref o] (fun U => kenv E U ∧ wdW E (z, T, L, V, P) U.heap)) (va_Qi (qF1 post) (wdF E) (w_A E)) (xcX E (xF (fun _ _ _ _ _ _ _ => False))) (8 * U0) (32 * U0) (w_A E) := by
  refine g_startH (w := (z, T, L, V, P)) hfl (by decide +kernel) rfl [some (.ref t), some (.int x1), some (.ref o), none] rfl (fun _ h => h) (Nat.le_of_ble_eq_true rfl) (fun X hl hRm hEe O hTb hQ => ?_)
  subst hl
  subst hEe
  have hk : kOk (rX0_count U0) 0 0 U0 := ⟨by show 0 + 8 * U0 ≤ 8 * U0; omega, by show 0 + 32 * U0 ≤ 32 * U0; omega⟩
  unfold wX0_count at w
  refine g_aload_n O dX0_count_0 rfl ?_
  refine g_iconst (v := 0) O dX0_count_1 (by decide) ?_
  refine g_aload_n O dX0_count_2 rfl ?_
  refine g_iload_n O dX0_count_3 rfl ?_
  obtain ⟨U2, e1, w⟩ := w
  have hk9 := kOk.eq hk e1
  refine gh_x1 (c := 1) (grx_V (lay := 1) (nA := 1) (As := [.int x1]) (rest := [.int 0, .ref o]) O hRm (kX1_count _ O.2.2.2.2.2.2.2.2 (cxE X) z T L V P t hT (x1) _ _ w) (lw_V q1255 q1256 q1257 q106 q1258) rfl rfl (by decide +kernel) ⟨Nat.le_of_ble_eq_true rfl, Nat.le_of_ble_eq_true rfl⟩ ck1 (by decide) rfl hT rfl rfl rfl (Nat.le_of_ble_eq_true rfl) dX0_count_4 (kOk.fa hk9)) (fun q En z2 V1 P1 hz w => ?_) (fun r V1 w => ?_)
  · have hk := kOk.sa hk9
    obtain ⟨rfl, w⟩ := w
    refine gh_catch1 O hTb (by decide) (by decide) q1254 q1267 ?_
    refine g_astore_n (lv' := [some (.ref t), some (.int x1), some (.ref o), some (.ref q)]) O dX0_count_12 (Nat.le_of_ble_eq_true rfl) rfl rfl ?_
    refine g_iconst (v := 1) O dX0_count_13 (by decide) ?_
    exact gt_iret (f := fun u => u) (u := (z2, T, L, V1, P1)) O hQ (kOk.m hk) rfl rfl (w z2 hz) dX0_count_14
  · have hk := kOk.sa hk9
    obtain ⟨hl1, hl2, w⟩ := w
    refine g_i2l O dX0_count_7 ?_
    refine gl_last (nn := 0) (x := r) O ho hl1 (by decide) hl2 rfl dX0_count_8 ?_
    refine g_nV w (fun V9 w _ => ?_)
    refine g_goto (tgt := 15) O dX0_count_9 (by decide) ?_
    refine g_iconst (v := 0) O dX0_count_15 (by decide) ?_
    exact gt_iret (f := fun u => u) (u := (z, T, L, V9, P)) O hQ (kOk.m hk) rfl rfl w dX0_count_16
-- far
abbrev rX0_far (U0 : Nat) : Room := { frames := 9, cells := 8 * U0, slots := 32 * U0, locals := 165 }
set_option maxHeartbeats 4000000 in
theorem kX0_far (l : Launch) (hfl : l.flags = flags0) (E : w_E) (U0 z : Nat) (T L : Nat → Nat) (V : w_V) (P : w_P) (t : Nat) (hT : T t = 2) (x1 : Int32) (x2 : Int32) (x3 : Int32) (o : Nat) (ho : T o = 3003) (post : Int32 → Nat → (Nat → Nat) → (Nat → Nat) → w_V → w_P → Prop) (w : wX0_far E.2.2.2.2 U0 z T L V P t x1 x2 x3 o post) : vx_Met l yX0_far (wsW_ yX0_far cX0_far 6 (some .int) [(0, 12, 15, 18)]) (rX0_far U0) (va_Pc [.ref t, .int x1, .int x2, .int x3, .ref o] (fun U => kenv E U ∧ wdW E (z, T, L, V, P) U.heap)) (va_Qi (qF1 post) (wdF E) (w_A E)) (xcX E (xF (fun _ _ _ _ _ _ _ => False))) (8 * U0) (32 * U0) (w_A E) := by
  refine g_startH (w := (z, T, L, V, P)) hfl (by decide +kernel) rfl [some (.ref t), some (.int x1), some (.int x2), some (.int x3), some (.ref o), none] rfl (fun _ h => h) (Nat.le_of_ble_eq_true rfl) (fun X hl hRm hEe O hTb hQ => ?_)
  subst hl
  subst hEe
  have hk : kOk (rX0_far U0) 0 0 U0 := ⟨by show 0 + 8 * U0 ≤ 8 * U0; omega, by show 0 + 32 * U0 ≤ 32 * U0; omega⟩
  unfold wX0_far at w
  refine g_aload O dX0_far_0 rfl ?_
  refine g_iconst (v := 0) O dX0_far_2 (by decide) ?_
  refine g_aload_n O dX0_far_3 rfl ?_
  refine g_iload_n O dX0_far_4 rfl ?_
  refine g_iload_n O dX0_far_5 rfl ?_
  refine g_iload_n O dX0_far_6 rfl ?_
  obtain ⟨U2, e1, w⟩ := w
  have hk9 := kOk.eq hk e1
  refine gh_x0 (c := 3) (grx_V (lay := 1) (nA := 3) (As := [.int x1, .int x2, .int x3]) (rest := [.int 0, .ref o]) O hRm (kX1_far _ O.2.2.2.2.2.2.2.2 (cxE X) z T L V P t hT (x1) (x2) (x3) _ _ w) (lw_V q1444 q1445 q1446 q106 q1447) rfl rfl (by decide +kernel) ⟨Nat.le_of_ble_eq_true rfl, Nat.le_of_ble_eq_true rfl⟩ ck1 (by decide) rfl hT rfl rfl rfl (Nat.le_of_ble_eq_true rfl) dX0_far_7 (kOk.fa hk9)) (fun q En z2 V1 P1 hz w => ?_) (fun r w => ?_)
  · have hk := kOk.sa hk9
    obtain ⟨rfl, w⟩ := w
    refine gh_catch1 O hTb (by decide) (by decide) q1254 q1267 ?_
    refine g_astore (lv' := [some (.ref t), some (.int x1), some (.int x2), some (.int x3), some (.ref o), some (.ref q)]) O dX0_far_15 (Nat.le_of_ble_eq_true rfl) rfl rfl ?_
    refine g_iconst (v := 1) O dX0_far_17 (by decide) ?_
    exact gt_iret (f := fun u => u) (u := (z2, T, L, V1, P1)) O hQ (kOk.m hk) rfl rfl (w z2 hz) dX0_far_18
  · have hk := kOk.sa hk9
    obtain ⟨hl1, hl2, w⟩ := w
    refine g_i2l O dX0_far_10 ?_
    refine gl_last (nn := 0) (x := r) O ho hl1 (by decide) hl2 rfl dX0_far_11 ?_
    refine g_nV w (fun V9 w _ => ?_)
    refine g_goto (tgt := 19) O dX0_far_12 (by decide) ?_
    refine g_iconst (v := 0) O dX0_far_19 (by decide) ?_
    exact gt_iret (f := fun u => u) (u := (z, T, L, V9, P)) O hQ (kOk.m hk) rfl rfl w dX0_far_20
-- judge
abbrev rX0_judge (U0 : Nat) : Room := { frames := 1251, cells := 8 * U0, slots := 32 * U0, locals := 37419 }
set_option maxHeartbeats 4000000 in
theorem kX0_judge (l : Launch) (hfl : l.flags = flags0) (E : w_E) (U0 z : Nat) (T L : Nat → Nat) (V : w_V) (P : w_P) (t : Nat) (hT : T t = 2) (x1 : Int32) (x2 : Int32) (o : Nat) (ho : T o = 3003) (post : Int32 → Nat → (Nat → Nat) → (Nat → Nat) → w_V → w_P → Prop) (w : wX0_judge E.2.2.2.2 U0 z T L V P t x1 x2 o post) : vx_Met l yX0_judge (wsW_ yX0_judge cX0_judge 5 (some .int) [(0, 10, 13, 18)]) (rX0_judge U0) (va_Pc [.ref t, .int x1, .int x2, .ref o] (fun U => kenv E U ∧ wdW E (z, T, L, V, P) U.heap)) (va_Qi (qF1 post) (wdF E) (w_A E)) (xcX E (xF (fun _ _ _ _ _ _ _ => False))) (8 * U0) (32 * U0) (w_A E) := by
  refine g_startH (w := (z, T, L, V, P)) hfl (by decide +kernel) rfl [some (.ref t), some (.int x1), some (.int x2), some (.ref o), none] rfl (fun _ h => h) (Nat.le_of_ble_eq_true rfl) (fun X hl hRm hEe O hTb hQ => ?_)
  subst hl
  subst hEe
  have hk : kOk (rX0_judge U0) 0 0 U0 := ⟨by show 0 + 8 * U0 ≤ 8 * U0; omega, by show 0 + 32 * U0 ≤ 32 * U0; omega⟩
  unfold wX0_judge at w
  refine g_aload_n O dX0_judge_0 rfl ?_
  refine g_iconst (v := 0) O dX0_judge_1 (by decide) ?_
  refine g_aload_n O dX0_judge_2 rfl ?_
  refine g_iload_n O dX0_judge_3 rfl ?_
  refine g_iload_n O dX0_judge_4 rfl ?_
  obtain ⟨U2, e1, w⟩ := w
  have hk9 := kOk.eq hk e1
  refine gh_x1 (c := 2) (grx_V (lay := 1) (nA := 2) (As := [.int x1, .int x2]) (rest := [.int 0, .ref o]) O hRm (kX1_judge _ O.2.2.2.2.2.2.2.2 (cxE X) z T L V P t hT (x1) (x2) _ _ w) (lw_V q1457 q1458 q1459 q106 q1460) rfl rfl (by decide +kernel) ⟨Nat.le_of_ble_eq_true rfl, Nat.le_of_ble_eq_true rfl⟩ ck1 (by decide) rfl hT rfl rfl rfl (Nat.le_of_ble_eq_true rfl) dX0_judge_5 (kOk.fa hk9)) (fun q En z2 V1 P1 hz w => ?_) (fun r V1 w => ?_)
  · have hk := kOk.sa hk9
    obtain ⟨rfl, w⟩ := w
    refine gh_catch1 O hTb (by decide) (by decide) q1254 q1267 ?_
    refine g_astore (lv' := [some (.ref t), some (.int x1), some (.int x2), some (.ref o), some (.ref q)]) O dX0_judge_13 (Nat.le_of_ble_eq_true rfl) rfl rfl ?_
    refine g_iconst (v := 1) O dX0_judge_15 (by decide) ?_
    exact gt_iret (f := fun u => u) (u := (z2, T, L, V1, P1)) O hQ (kOk.m hk) rfl rfl (w z2 hz) dX0_judge_16
  · have hk := kOk.sa hk9
    obtain ⟨hl1, hl2, w⟩ := w
    refine g_i2l O dX0_judge_8 ?_
    refine gl_last (nn := 0) (x := r) O ho hl1 (by decide) hl2 rfl dX0_judge_9 ?_
    refine g_nV w (fun V9 w _ => ?_)
    refine g_goto (tgt := 17) O dX0_judge_10 (by decide) ?_
    refine g_iconst (v := 0) O dX0_judge_17 (by decide) ?_
    exact gt_iret (f := fun u => u) (u := (z, T, L, V9, P)) O hQ (kOk.m hk) rfl rfl w dX0_judge_18
-- stop
abbrev rX0_stop (U0 : Nat) : Room := { frames := 1251, cells := 8 * U0, slots := 32 * U0, locals := 37420 }
set_option maxHeartbeats 4000000 in
theorem kX0_stop (l : Launch) (hfl : l.flags = flags0) (E : w_E) (U0 z : Nat) (T L : Nat → Nat) (V : w_V) (P : w_P) (t : Nat) (hT : T t = 2) (x1 : Int32) (x2 : Int32) (x3 : Int32) (o : Nat) (ho : T o = 3003) (post : Int32 → Nat → (Nat → Nat) → (Nat → Nat) → w_V → w_P → Prop) (w : wX0_stop E.2.2.2.2 U0 z T L V P t x1 x2 x3 o post) : vx_Met l yX0_stop (wsW_ yX0_stop cX0_stop 6 (some .int) [(0, 12, 15, 18)]) (rX0_stop U0) (va_Pc [.ref t, .int x1, .int x2, .int x3, .ref o] (fun U => kenv E U ∧ wdW E (z, T, L, V, P) U.heap)) (va_Qi (qF1 post) (wdF E) (w_A E)) (xcX E (xF (fun _ _ _ _ _ _ _ => False))) (8 * U0) (32 * U0) (w_A E) := by
  refine g_startH (w := (z, T, L, V, P)) hfl (by decide +kernel) rfl [some (.ref t), some (.int x1), some (.int x2), some (.int x3), some (.ref o), none] rfl (fun _ h => h) (Nat.le_of_ble_eq_true rfl) (fun X hl hRm hEe O hTb hQ => ?_)
  subst hl
  subst hEe
  have hk : kOk (rX0_stop U0) 0 0 U0 := ⟨by show 0 + 8 * U0 ≤ 8 * U0; omega, by show 0 + 32 * U0 ≤ 32 * U0; omega⟩
  unfold wX0_stop at w
  refine g_aload O dX0_stop_0 rfl ?_
  refine g_iconst (v := 0) O dX0_stop_2 (by decide) ?_
  refine g_aload_n O dX0_stop_3 rfl ?_
  refine g_iload_n O dX0_stop_4 rfl ?_
  refine g_iload_n O dX0_stop_5 rfl ?_
  refine g_iload_n O dX0_stop_6 rfl ?_
  obtain ⟨U2, e1, w⟩ := w
  have hk9 := kOk.eq hk e1
  refine gh_x1 (c := 2) (grx_V (lay := 1) (nA := 3) (As := [.int x1, .int x2, .int x3]) (rest := [.int 0, .ref o]) O hRm (kX1_stop _ O.2.2.2.2.2.2.2.2 (cxE X) z T L V P t hT (x1) (x2) (x3) _ _ w) (lw_V q1483 q1484 q1485 q106 q1486) rfl rfl (by decide +kernel) ⟨Nat.le_of_ble_eq_true rfl, Nat.le_of_ble_eq_true rfl⟩ ck1 (by decide) rfl hT rfl rfl rfl (Nat.le_of_ble_eq_true rfl) dX0_stop_7 (kOk.fa hk9)) (fun q En z2 V1 P1 hz w => ?_) (fun r V1 w => ?_)
  · have hk := kOk.sa hk9
    obtain ⟨rfl, w⟩ := w
    refine gh_catch1 O hTb (by decide) (by decide) q1254 q1267 ?_
    refine g_astore (lv' := [some (.ref t), some (.int x1), some (.int x2), some (.int x3), some (.ref o), some (.ref q)]) O dX0_stop_15 (Nat.le_of_ble_eq_true rfl) rfl rfl ?_
    refine g_iconst (v := 1) O dX0_stop_17 (by decide) ?_
    exact gt_iret (f := fun u => u) (u := (z2, T, L, V1, P1)) O hQ (kOk.m hk) rfl rfl (w z2 hz) dX0_stop_18
  · have hk := kOk.sa hk9
    obtain ⟨hl1, hl2, w⟩ := w
    refine g_i2l O dX0_stop_10 ?_
    refine gl_last (nn := 0) (x := r) O ho hl1 (by decide) hl2 rfl dX0_stop_11 ?_
    refine g_nV w (fun V9 w _ => ?_)
    refine g_goto (tgt := 19) O dX0_stop_12 (by decide) ?_
    refine g_iconst (v := 0) O dX0_stop_19 (by decide) ?_
    exact gt_iret (f := fun u => u) (u := (z, T, L, V9, P)) O hQ (kOk.m hk) rfl rfl w dX0_stop_20
-- where
abbrev rX0_where (U0 : Nat) : Room := { frames := 1251, cells := 8 * U0, slots := 32 * U0, locals := 37418 }
set_option maxHeartbeats 4000000 in
theorem kX0_where (l : Launch) (hfl : l.flags = flags0) (E : w_E) (U0 z : Nat) (T L : Nat → Nat) (V : w_V) (P : w_P) (t : Nat) (hT : T t = 2) (x1 : Int32) (x2 : Int32) (o : Nat) (ho : T o = 3003) (post : Int32 → Nat → (Nat → Nat) → (Nat → Nat) → w_V → w_P → Prop) (w : wX0_where E.2.2.2.2 U0 z T L V P t x1 x2 o post) : vx_Met l yX0_where (wsW_ yX0_where cX0_where 5 (some .int) [(0, 10, 13, 18)]) (rX0_where U0) (va_Pc [.ref t, .int x1, .int x2, .ref o] (fun U => kenv E U ∧ wdW E (z, T, L, V, P) U.heap)) (va_Qi (qF1 post) (wdF E) (w_A E)) (xcX E (xF (fun _ _ _ _ _ _ _ => False))) (8 * U0) (32 * U0) (w_A E) := by
  refine g_startH (w := (z, T, L, V, P)) hfl (by decide +kernel) rfl [some (.ref t), some (.int x1), some (.int x2), some (.ref o), none] rfl (fun _ h => h) (Nat.le_of_ble_eq_true rfl) (fun X hl hRm hEe O hTb hQ => ?_)
  subst hl
  subst hEe
  have hk : kOk (rX0_where U0) 0 0 U0 := ⟨by show 0 + 8 * U0 ≤ 8 * U0; omega, by show 0 + 32 * U0 ≤ 32 * U0; omega⟩
  unfold wX0_where at w
  refine g_aload_n O dX0_where_0 rfl ?_
  refine g_iconst (v := 0) O dX0_where_1 (by decide) ?_
  refine g_aload_n O dX0_where_2 rfl ?_
  refine g_iload_n O dX0_where_3 rfl ?_
  refine g_iload_n O dX0_where_4 rfl ?_
  obtain ⟨U2, e1, w⟩ := w
  have hk9 := kOk.eq hk e1
  refine gh_x1 (c := 1) (grx_V (lay := 1) (nA := 2) (As := [.int x1, .int x2]) (rest := [.int 0, .ref o]) O hRm (kX1_where _ O.2.2.2.2.2.2.2.2 (cxE X) z T L V P t hT (x1) (x2) _ _ w) (lw_V q1490 q1491 q1492 q106 q1493) rfl rfl (by decide +kernel) ⟨Nat.le_of_ble_eq_true rfl, Nat.le_of_ble_eq_true rfl⟩ ck1 (by decide) rfl hT rfl rfl rfl (Nat.le_of_ble_eq_true rfl) dX0_where_5 (kOk.fa hk9)) (fun q En z2 V1 P1 hz w => ?_) (fun r V1 w => ?_)
  · have hk := kOk.sa hk9
    obtain ⟨rfl, w⟩ := w
    refine gh_catch1 O hTb (by decide) (by decide) q1254 q1267 ?_
    refine g_astore (lv' := [some (.ref t), some (.int x1), some (.int x2), some (.ref o), some (.ref q)]) O dX0_where_13 (Nat.le_of_ble_eq_true rfl) rfl rfl ?_
    refine g_iconst (v := 1) O dX0_where_15 (by decide) ?_
    exact gt_iret (f := fun u => u) (u := (z2, T, L, V1, P1)) O hQ (kOk.m hk) rfl rfl (w z2 hz) dX0_where_16
  · have hk := kOk.sa hk9
    obtain ⟨hl1, hl2, w⟩ := w
    refine g_i2l O dX0_where_8 ?_
    refine gl_last (nn := 0) (x := r) O ho hl1 (by decide) hl2 rfl dX0_where_9 ?_
    refine g_nV w (fun V9 w _ => ?_)
    refine g_goto (tgt := 17) O dX0_where_10 (by decide) ?_
    refine g_iconst (v := 0) O dX0_where_17 (by decide) ?_
    exact gt_iret (f := fun u => u) (u := (z, T, L, V9, P)) O hQ (kOk.m hk) rfl rfl w dX0_where_18
-- proof
abbrev rX0_proof (U0 : Nat) : Room := { frames := 9, cells := 8 * U0, slots := 32 * U0, locals := 163 }
set_option maxHeartbeats 4000000 in
theorem kX0_proof (l : Launch) (hfl : l.flags = flags0) (E : w_E) (U0 z : Nat) (T L : Nat → Nat) (V : w_V) (P : w_P) (t : Nat) (hT : T t = 2) (x1 : Int32) (x2 : Int32) (o : Nat) (ho : T o = 3003) (post : Int32 → Nat → (Nat → Nat) → (Nat → Nat) → w_V → w_P → Prop) (w : wX0_proof E.2.2.2.2 U0 z T L V P t x1 x2 o post) : vx_Met l yX0_proof (wsW_ yX0_proof cX0_proof 5 (some .int) [(0, 10, 13, 18)]) (rX0_proof U0) (va_Pc [.ref t, .int x1, .int x2, .ref o] (fun U => kenv E U ∧ wdW E (z, T, L, V, P) U.heap)) (va_Qi (qF1 post) (wdF E) (w_A E)) (xcX E (xF (fun _ _ _ _ _ _ _ => False))) (8 * U0) (32 * U0) (w_A E) := by
  refine g_startH (w := (z, T, L, V, P)) hfl (by decide +kernel) rfl [some (.ref t), some (.int x1), some (.int x2), some (.ref o), none] rfl (fun _ h => h) (Nat.le_of_ble_eq_true rfl) (fun X hl hRm hEe O hTb hQ => ?_)
  subst hl
  subst hEe
  have hk : kOk (rX0_proof U0) 0 0 U0 := ⟨by show 0 + 8 * U0 ≤ 8 * U0; omega, by show 0 + 32 * U0 ≤ 32 * U0; omega⟩
  unfold wX0_proof at w
  refine g_aload_n O dX0_proof_0 rfl ?_
  refine g_iconst (v := 0) O dX0_proof_1 (by decide) ?_
  refine g_aload_n O dX0_proof_2 rfl ?_
  refine g_iload_n O dX0_proof_3 rfl ?_
  refine g_iload_n O dX0_proof_4 rfl ?_
  obtain ⟨U2, e1, w⟩ := w
  have hk9 := kOk.eq hk e1
  refine gh_x0 (c := 2) (grx_V (lay := 1) (nA := 2) (As := [.int x1, .int x2]) (rest := [.int 0, .ref o]) O hRm (kX1_proof _ O.2.2.2.2.2.2.2.2 (cxE X) z T L V P t hT (x1) (x2) _ _ w) (lw_V q1498 q1499 q1500 q106 q1501) rfl rfl (by decide +kernel) ⟨Nat.le_of_ble_eq_true rfl, Nat.le_of_ble_eq_true rfl⟩ ck1 (by decide) rfl hT rfl rfl rfl (Nat.le_of_ble_eq_true rfl) dX0_proof_5 (kOk.fa hk9)) (fun q En z2 V1 P1 hz w => ?_) (fun r w => ?_)
  · have hk := kOk.sa hk9
    obtain ⟨rfl, w⟩ := w
    refine gh_catch1 O hTb (by decide) (by decide) q1254 q1267 ?_
    refine g_astore (lv' := [some (.ref t), some (.int x1), some (.int x2), some (.ref o), some (.ref q)]) O dX0_proof_13 (Nat.le_of_ble_eq_true rfl) rfl rfl ?_
    refine g_iconst (v := 1) O dX0_proof_15 (by decide) ?_
    exact gt_iret (f := fun u => u) (u := (z2, T, L, V1, P1)) O hQ (kOk.m hk) rfl rfl (w z2 hz) dX0_proof_16
  · have hk := kOk.sa hk9
    obtain ⟨hl1, hl2, w⟩ := w
    refine g_i2l O dX0_proof_8 ?_
    refine gl_last (nn := 0) (x := r) O ho hl1 (by decide) hl2 rfl dX0_proof_9 ?_
    refine g_nV w (fun V9 w _ => ?_)
    refine g_goto (tgt := 17) O dX0_proof_10 (by decide) ?_
    refine g_iconst (v := 0) O dX0_proof_17 (by decide) ?_
    exact gt_iret (f := fun u => u) (u := (z, T, L, V9, P)) O hQ (kOk.m hk) rfl rfl w dX0_proof_18
-- said
abbrev rX0_said (U0 : Nat) : Room := { frames := 1251, cells := 8 * U0, slots := 32 * U0, locals := 37420 }
set_option maxHeartbeats 4000000 in
theorem kX0_said (l : Launch) (hfl : l.flags = flags0) (E : w_E) (U0 z : Nat) (T L : Nat → Nat) (V : w_V) (P : w_P) (t : Nat) (hT : T t = 2) (x1 : Int32) (x2 : Int32) (x3 : Int32) (o : Nat) (ho : T o = 3003) (post : Int32 → Nat → (Nat → Nat) → (Nat → Nat) → w_V → w_P → Prop) (w : wX0_said E.2.2.2.2 U0 z T L V P t x1 x2 x3 o post) : vx_Met l yX0_said (wsW_ yX0_said cX0_said 6 (some .int) [(0, 12, 15, 18)]) (rX0_said U0) (va_Pc [.ref t, .int x1, .int x2, .int x3, .ref o] (fun U => kenv E U ∧ wdW E (z, T, L, V, P) U.heap)) (va_Qi (qF1 post) (wdF E) (w_A E)) (xcX E (xF (fun _ _ _ _ _ _ _ => False))) (8 * U0) (32 * U0) (w_A E) := by
  refine g_startH (w := (z, T, L, V, P)) hfl (by decide +kernel) rfl [some (.ref t), some (.int x1), some (.int x2), some (.int x3), some (.ref o), none] rfl (fun _ h => h) (Nat.le_of_ble_eq_true rfl) (fun X hl hRm hEe O hTb hQ => ?_)
  subst hl
  subst hEe
  have hk : kOk (rX0_said U0) 0 0 U0 := ⟨by show 0 + 8 * U0 ≤ 8 * U0; omega, by show 0 + 32 * U0 ≤ 32 * U0; omega⟩
  unfold wX0_said at w
  refine g_aload O dX0_said_0 rfl ?_
  refine g_iconst (v := 0) O dX0_said_2 (by decide) ?_
  refine g_aload_n O dX0_said_3 rfl ?_
  refine g_iload_n O dX0_said_4 rfl ?_
  refine g_iload_n O dX0_said_5 rfl ?_
  refine g_iload_n O dX0_said_6 rfl ?_
  obtain ⟨U2, e1, w⟩ := w
  have hk9 := kOk.eq hk e1
  refine gh_x1 (c := 3) (grx_V (lay := 1) (nA := 3) (As := [.int x1, .int x2, .int x3]) (rest := [.int 0, .ref o]) O hRm (kX1_said _ O.2.2.2.2.2.2.2.2 (cxE X) z T L V P t hT (x1) (x2) (x3) _ _ w) (lw_V q1510 q1511 q1512 q106 q1513) rfl rfl (by decide +kernel) ⟨Nat.le_of_ble_eq_true rfl, Nat.le_of_ble_eq_true rfl⟩ ck1 (by decide) rfl hT rfl rfl rfl (Nat.le_of_ble_eq_true rfl) dX0_said_7 (kOk.fa hk9)) (fun q En z2 V1 P1 hz w => ?_) (fun r V1 w => ?_)
  · have hk := kOk.sa hk9
    obtain ⟨rfl, w⟩ := w
    refine gh_catch1 O hTb (by decide) (by decide) q1254 q1267 ?_
    refine g_astore (lv' := [some (.ref t), some (.int x1), some (.int x2), some (.int x3), some (.ref o), some (.ref q)]) O dX0_said_15 (Nat.le_of_ble_eq_true rfl) rfl rfl ?_
    refine g_iconst (v := 1) O dX0_said_17 (by decide) ?_
    exact gt_iret (f := fun u => u) (u := (z2, T, L, V1, P1)) O hQ (kOk.m hk) rfl rfl (w z2 hz) dX0_said_18
  · have hk := kOk.sa hk9
    obtain ⟨hl1, hl2, w⟩ := w
    refine g_i2l O dX0_said_10 ?_
    refine gl_last (nn := 0) (x := r) O ho hl1 (by decide) hl2 rfl dX0_said_11 ?_
    refine g_nV w (fun V9 w _ => ?_)
    refine g_goto (tgt := 19) O dX0_said_12 (by decide) ?_
    refine g_iconst (v := 0) O dX0_said_19 (by decide) ?_
    exact gt_iret (f := fun u => u) (u := (z, T, L, V9, P)) O hQ (kOk.m hk) rfl rfl w dX0_said_20
-- met
abbrev rX0_met (U0 : Nat) : Room := { frames := 1251, cells := 8 * U0, slots := 32 * U0, locals := 37419 }
set_option maxHeartbeats 4000000 in
theorem kX0_met (l : Launch) (hfl : l.flags = flags0) (E : w_E) (U0 z : Nat) (T L : Nat → Nat) (V : w_V) (P : w_P) (t : Nat) (hT : T t = 2) (x1 : Int32) (x2 : Int32) (o : Nat) (ho : T o = 3003) (post : Int32 → Nat → (Nat → Nat) → (Nat → Nat) → w_V → w_P → Prop) (w : wX0_met E.2.2.2.2 U0 z T L V P t x1 x2 o post) : vx_Met l yX0_met (wsW_ yX0_met cX0_met 5 (some .int) [(0, 10, 13, 18), (0, 10, 17, 13)]) (rX0_met U0) (va_Pc [.ref t, .int x1, .int x2, .ref o] (fun U => kenv E U ∧ wdW E (z, T, L, V, P) U.heap)) (va_Qi (qF1 post) (wdF E) (w_A E)) (xcX E (xF (fun _ _ _ _ _ _ _ => False))) (8 * U0) (32 * U0) (w_A E) := by
  refine g_startH (w := (z, T, L, V, P)) hfl (by decide +kernel) rfl [some (.ref t), some (.int x1), some (.int x2), some (.ref o), none] rfl (fun _ h => h) (Nat.le_of_ble_eq_true rfl) (fun X hl hRm hEe O hTb hQ => ?_)
  subst hl
  subst hEe
  have hk : kOk (rX0_met U0) 0 0 U0 := ⟨by show 0 + 8 * U0 ≤ 8 * U0; omega, by show 0 + 32 * U0 ≤ 32 * U0; omega⟩
  unfold wX0_met at w
  refine g_aload_n O dX0_met_0 rfl ?_
  refine g_iconst (v := 0) O dX0_met_1 (by decide) ?_
  refine g_aload_n O dX0_met_2 rfl ?_
  refine g_iload_n O dX0_met_3 rfl ?_
  refine g_iload_n O dX0_met_4 rfl ?_
  obtain ⟨U2, e1, w⟩ := w
  have hk9 := kOk.eq hk e1
  refine gh_x1 (c := 3) (grx_V (lay := 1) (nA := 2) (As := [.int x1, .int x2]) (rest := [.int 0, .ref o]) O hRm (kX1_met _ O.2.2.2.2.2.2.2.2 (cxE X) z T L V P t hT (x1) (x2) _ _ w) (lw_V q1517 q1518 q1519 q106 q1520) rfl rfl (by decide +kernel) ⟨Nat.le_of_ble_eq_true rfl, Nat.le_of_ble_eq_true rfl⟩ ck1 (by decide) rfl hT rfl rfl rfl (Nat.le_of_ble_eq_true rfl) dX0_met_5 (kOk.fa hk9)) (fun q En z2 V1 P1 hz w => ?_) (fun r V1 w => ?_)
  · have hk := kOk.sa hk9
    rcases w with ⟨rfl, w⟩ | ⟨rfl, w⟩
    · refine gh_catch1 O hTb (by decide) (by decide) q1254 q1267 ?_
      refine g_astore (lv' := [some (.ref t), some (.int x1), some (.int x2), some (.ref o), some (.ref q)]) O dX0_met_13 (Nat.le_of_ble_eq_true rfl) rfl rfl ?_
      refine g_iconst (v := 1) O dX0_met_15 (by decide) ?_
      exact gt_iret (f := fun u => u) (u := (z2, T, L, V1, P1)) O hQ (kOk.m hk) rfl rfl (w z2 hz) dX0_met_16
    · refine gh_catch2 O hTb (by decide) q1254 (kenv.nN iae_nse_in O.2.2.2.2.2.1) (by decide) (by decide) q888 q179 ?_
      refine g_astore (lv' := [some (.ref t), some (.int x1), some (.int x2), some (.ref o), some (.ref q)]) O dX0_met_17 (Nat.le_of_ble_eq_true rfl) rfl rfl ?_
      refine g_iconst (v := 2) O dX0_met_19 (by decide) ?_
      exact gt_iret (f := fun u => u) (u := (z2, T, L, V1, P1)) O hQ (kOk.m hk) rfl rfl (w z2 hz) dX0_met_20
  · have hk := kOk.sa hk9
    obtain ⟨hl1, hl2, w⟩ := w
    refine g_i2l O dX0_met_8 ?_
    refine gl_last (nn := 0) (x := r) O ho hl1 (by decide) hl2 rfl dX0_met_9 ?_
    refine g_nV w (fun V9 w _ => ?_)
    refine g_goto (tgt := 21) O dX0_met_10 (by decide) ?_
    refine g_iconst (v := 0) O dX0_met_21 (by decide) ?_
    exact gt_iret (f := fun u => u) (u := (z, T, L, V9, P)) O hQ (kOk.m hk) rfl rfl w dX0_met_22
-- guilty
abbrev rX0_guilty (U0 : Nat) : Room := { frames := 1251, cells := 8 * U0, slots := 32 * U0, locals := 37418 }
set_option maxHeartbeats 4000000 in
theorem kX0_guilty (l : Launch) (hfl : l.flags = flags0) (E : w_E) (U0 z : Nat) (T L : Nat → Nat) (V : w_V) (P : w_P) (t : Nat) (hT : T t = 2) (x1 : Int32) (x2 : Int32) (o : Nat) (ho : T o = 3003) (post : Int32 → Nat → (Nat → Nat) → (Nat → Nat) → w_V → w_P → Prop) (w : wX0_guilty E.2.2.2.2 U0 z T L V P t x1 x2 o post) : vx_Met l yX0_guilty (wsW_ yX0_guilty cX0_guilty 5 (some .int) [(0, 10, 13, 18)]) (rX0_guilty U0) (va_Pc [.ref t, .int x1, .int x2, .ref o] (fun U => kenv E U ∧ wdW E (z, T, L, V, P) U.heap)) (va_Qi (qF1 post) (wdF E) (w_A E)) (xcX E (xF (fun _ _ _ _ _ _ _ => False))) (8 * U0) (32 * U0) (w_A E) := by
  refine g_startH (w := (z, T, L, V, P)) hfl (by decide +kernel) rfl [some (.ref t), some (.int x1), some (.int x2), some (.ref o), none] rfl (fun _ h => h) (Nat.le_of_ble_eq_true rfl) (fun X hl hRm hEe O hTb hQ => ?_)
  subst hl
  subst hEe
  have hk : kOk (rX0_guilty U0) 0 0 U0 := ⟨by show 0 + 8 * U0 ≤ 8 * U0; omega, by show 0 + 32 * U0 ≤ 32 * U0; omega⟩
  unfold wX0_guilty at w
  refine g_aload_n O dX0_guilty_0 rfl ?_
  refine g_iconst (v := 0) O dX0_guilty_1 (by decide) ?_
  refine g_aload_n O dX0_guilty_2 rfl ?_
  refine g_iload_n O dX0_guilty_3 rfl ?_
  refine g_iload_n O dX0_guilty_4 rfl ?_
  obtain ⟨U2, e1, w⟩ := w
  have hk9 := kOk.eq hk e1
  refine gh_x1 (c := 2) (grx_V (lay := 1) (nA := 2) (As := [.int x1, .int x2]) (rest := [.int 0, .ref o]) O hRm (kX1_guilty _ O.2.2.2.2.2.2.2.2 (cxE X) z T L V P t hT (x1) (x2) _ _ w) (lw_V q1524 q1525 q1526 q106 q1527) rfl rfl (by decide +kernel) ⟨Nat.le_of_ble_eq_true rfl, Nat.le_of_ble_eq_true rfl⟩ ck1 (by decide) rfl hT rfl rfl rfl (Nat.le_of_ble_eq_true rfl) dX0_guilty_5 (kOk.fa hk9)) (fun q En z2 V1 P1 hz w => ?_) (fun r V1 w => ?_)
  · have hk := kOk.sa hk9
    obtain ⟨rfl, w⟩ := w
    refine gh_catch1 O hTb (by decide) (by decide) q1254 q1267 ?_
    refine g_astore (lv' := [some (.ref t), some (.int x1), some (.int x2), some (.ref o), some (.ref q)]) O dX0_guilty_13 (Nat.le_of_ble_eq_true rfl) rfl rfl ?_
    refine g_iconst (v := 1) O dX0_guilty_15 (by decide) ?_
    exact gt_iret (f := fun u => u) (u := (z2, T, L, V1, P1)) O hQ (kOk.m hk) rfl rfl (w z2 hz) dX0_guilty_16
  · have hk := kOk.sa hk9
    obtain ⟨hl1, hl2, w⟩ := w
    refine g_i2l O dX0_guilty_8 ?_
    refine gl_last (nn := 0) (x := r) O ho hl1 (by decide) hl2 rfl dX0_guilty_9 ?_
    refine g_nV w (fun V9 w _ => ?_)
    refine g_goto (tgt := 17) O dX0_guilty_10 (by decide) ?_
    refine g_iconst (v := 0) O dX0_guilty_17 (by decide) ?_
    exact gt_iret (f := fun u => u) (u := (z, T, L, V9, P)) O hQ (kOk.m hk) rfl rfl w dX0_guilty_18
-- news
abbrev rX0_news (U0 : Nat) : Room := { frames := 1251, cells := 8 * U0, slots := 32 * U0, locals := 37421 }
set_option maxHeartbeats 4000000 in
theorem kX0_news (l : Launch) (hfl : l.flags = flags0) (E : w_E) (U0 z : Nat) (T L : Nat → Nat) (V : w_V) (P : w_P) (t : Nat) (hT : T t = 2) (x1 : Int32) (x2 : Int32) (o : Nat) (ho : T o = 3003) (post : Int32 → Nat → (Nat → Nat) → (Nat → Nat) → w_V → w_P → Prop) (w : wX0_news E.2.2.2.2 U0 z T L V P t x1 x2 o post) : vx_Met l yX0_news (wsW_ yX0_news cX0_news 5 (some .int) [(0, 10, 13, 18)]) (rX0_news U0) (va_Pc [.ref t, .int x1, .int x2, .ref o] (fun U => kenv E U ∧ wdW E (z, T, L, V, P) U.heap)) (va_Qi (qF1 post) (wdF E) (w_A E)) (xcX E (xF (fun _ _ _ _ _ _ _ => False))) (8 * U0) (32 * U0) (w_A E) := by
  refine g_startH (w := (z, T, L, V, P)) hfl (by decide +kernel) rfl [some (.ref t), some (.int x1), some (.int x2), some (.ref o), none] rfl (fun _ h => h) (Nat.le_of_ble_eq_true rfl) (fun X hl hRm hEe O hTb hQ => ?_)
  subst hl
  subst hEe
  have hk : kOk (rX0_news U0) 0 0 U0 := ⟨by show 0 + 8 * U0 ≤ 8 * U0; omega, by show 0 + 32 * U0 ≤ 32 * U0; omega⟩
  unfold wX0_news at w
  refine g_aload_n O dX0_news_0 rfl ?_
  refine g_iconst (v := 0) O dX0_news_1 (by decide) ?_
  refine g_aload_n O dX0_news_2 rfl ?_
  refine g_iload_n O dX0_news_3 rfl ?_
  refine g_iload_n O dX0_news_4 rfl ?_
  obtain ⟨U2, e1, w⟩ := w
  have hk9 := kOk.eq hk e1
  refine gh_x1 (c := 2) (grx_V (lay := 1) (nA := 2) (As := [.int x1, .int x2]) (rest := [.int 0, .ref o]) O hRm (kX1_news _ O.2.2.2.2.2.2.2.2 (cxE X) z T L V P t hT (x1) (x2) _ _ w) (lw_V q1531 q1532 q1533 q106 q1534) rfl rfl (by decide +kernel) ⟨Nat.le_of_ble_eq_true rfl, Nat.le_of_ble_eq_true rfl⟩ ck1 (by decide) rfl hT rfl rfl rfl (Nat.le_of_ble_eq_true rfl) dX0_news_5 (kOk.fa hk9)) (fun q En z2 V1 P1 hz w => ?_) (fun r V1 w => ?_)
  · have hk := kOk.sa hk9
    obtain ⟨rfl, w⟩ := w
    refine gh_catch1 O hTb (by decide) (by decide) q1254 q1267 ?_
    refine g_astore (lv' := [some (.ref t), some (.int x1), some (.int x2), some (.ref o), some (.ref q)]) O dX0_news_13 (Nat.le_of_ble_eq_true rfl) rfl rfl ?_
    refine g_iconst (v := 1) O dX0_news_15 (by decide) ?_
    exact gt_iret (f := fun u => u) (u := (z2, T, L, V1, P1)) O hQ (kOk.m hk) rfl rfl (w z2 hz) dX0_news_16
  · have hk := kOk.sa hk9
    obtain ⟨hl1, hl2, w⟩ := w
    refine g_i2l O dX0_news_8 ?_
    refine gl_last (nn := 0) (x := r) O ho hl1 (by decide) hl2 rfl dX0_news_9 ?_
    refine g_nV w (fun V9 w _ => ?_)
    refine g_goto (tgt := 17) O dX0_news_10 (by decide) ?_
    refine g_iconst (v := 0) O dX0_news_17 (by decide) ?_
    exact gt_iret (f := fun u => u) (u := (z, T, L, V9, P)) O hQ (kOk.m hk) rfl rfl w dX0_news_18
-- start
abbrev rX0_start (U0 : Nat) : Room := { frames := 9, cells := 8 * U0, slots := 32 * U0, locals := 164 }
set_option maxHeartbeats 4000000 in
theorem kX0_start (l : Launch) (hfl : l.flags = flags0) (E : w_E) (U0 z : Nat) (T L : Nat → Nat) (V : w_V) (P : w_P) (t : Nat) (hT : T t = 2) (x1 : Int32) (x2 : Int32) (o : Nat) (ho : T o = 3003) (post : Int32 → Nat → (Nat → Nat) → (Nat → Nat) → w_V → w_P → Prop) (w : wX0_start E.2.2.2.2 U0 z T L V P t x1 x2 o post) : vx_Met l yX0_start (wsW_ yX0_start cX0_start 5 (some .int) [(0, 10, 13, 18)]) (rX0_start U0) (va_Pc [.ref t, .int x1, .int x2, .ref o] (fun U => kenv E U ∧ wdW E (z, T, L, V, P) U.heap)) (va_Qi (qF1 post) (wdF E) (w_A E)) (xcX E (xF (fun _ _ _ _ _ _ _ => False))) (8 * U0) (32 * U0) (w_A E) := by
  refine g_startH (w := (z, T, L, V, P)) hfl (by decide +kernel) rfl [some (.ref t), some (.int x1), some (.int x2), some (.ref o), none] rfl (fun _ h => h) (Nat.le_of_ble_eq_true rfl) (fun X hl hRm hEe O hTb hQ => ?_)
  subst hl
  subst hEe
  have hk : kOk (rX0_start U0) 0 0 U0 := ⟨by show 0 + 8 * U0 ≤ 8 * U0; omega, by show 0 + 32 * U0 ≤ 32 * U0; omega⟩
  unfold wX0_start at w
  refine g_aload_n O dX0_start_0 rfl ?_
  refine g_iconst (v := 0) O dX0_start_1 (by decide) ?_
  refine g_aload_n O dX0_start_2 rfl ?_
  refine g_iload_n O dX0_start_3 rfl ?_
  refine g_iload_n O dX0_start_4 rfl ?_
  obtain ⟨U2, e1, w⟩ := w
  have hk9 := kOk.eq hk e1
  refine gh_x2 (c := 1) (grx_V (lay := 1) (nA := 2) (As := [.int x1, .int x2]) (rest := [.int 0, .ref o]) O hRm (kX1_start _ O.2.2.2.2.2.2.2.2 (cxE X) z T L V P t hT (x1) (x2) _ _ w) (lw_V q1539 q1540 q1541 q106 q1542) rfl rfl (by decide +kernel) ⟨Nat.le_of_ble_eq_true rfl, Nat.le_of_ble_eq_true rfl⟩ ck1 (by decide) rfl hT rfl rfl rfl (Nat.le_of_ble_eq_true rfl) dX0_start_5 (kOk.fa hk9)) (fun q En z2 V1 P1 hz w => ?_) (fun r V1 P1 w => ?_)
  · have hk := kOk.sa hk9
    obtain ⟨rfl, w⟩ := w
    refine gh_catch1 O hTb (by decide) (by decide) q1254 q1267 ?_
    refine g_astore (lv' := [some (.ref t), some (.int x1), some (.int x2), some (.ref o), some (.ref q)]) O dX0_start_13 (Nat.le_of_ble_eq_true rfl) rfl rfl ?_
    refine g_iconst (v := 1) O dX0_start_15 (by decide) ?_
    exact gt_iret (f := fun u => u) (u := (z2, T, L, V1, P1)) O hQ (kOk.m hk) rfl rfl (w z2 hz) dX0_start_16
  · have hk := kOk.sa hk9
    obtain ⟨hl1, hl2, w⟩ := w
    refine g_i2l O dX0_start_8 ?_
    refine gl_last (nn := 0) (x := r) O ho hl1 (by decide) hl2 rfl dX0_start_9 ?_
    refine g_nV w (fun V9 w _ => ?_)
    refine g_goto (tgt := 17) O dX0_start_10 (by decide) ?_
    refine g_iconst (v := 0) O dX0_start_17 (by decide) ?_
    exact gt_iret (f := fun u => u) (u := (z, T, L, V9, P1)) O hQ (kOk.m hk) rfl rfl w dX0_start_18
-- inn
abbrev rX0_inn (U0 : Nat) : Room := { frames := 9, cells := 8 * U0, slots := 32 * U0, locals := 163 }
set_option maxHeartbeats 4000000 in
theorem kX0_inn (l : Launch) (hfl : l.flags = flags0) (E : w_E) (U0 z : Nat) (T L : Nat → Nat) (V : w_V) (P : w_P) (t : Nat) (hT : T t = 2) (x1 : Int32) (x2 : Int32) (o : Nat) (ho : T o = 3003) (post : Int32 → Nat → (Nat → Nat) → (Nat → Nat) → w_V → w_P → Prop) (w : wX0_inn E.2.2.2.2 U0 z T L V P t x1 x2 o post) : vx_Met l yX0_inn (wsW_ yX0_inn cX0_inn 5 (some .int) [(0, 17, 20, 18)]) (rX0_inn U0) (va_Pc [.ref t, .int x1, .int x2, .ref o] (fun U => kenv E U ∧ wdW E (z, T, L, V, P) U.heap)) (va_Qi (qF1 post) (wdF E) (w_A E)) (xcX E (xF (fun _ _ _ _ _ _ _ => False))) (8 * U0) (32 * U0) (w_A E) := by
  refine g_startH (w := (z, T, L, V, P)) hfl (by decide +kernel) rfl [some (.ref t), some (.int x1), some (.int x2), some (.ref o), none] rfl (fun _ h => h) (Nat.le_of_ble_eq_true rfl) (fun X hl hRm hEe O hTb hQ => ?_)
  subst hl
  subst hEe
  have hk : kOk (rX0_inn U0) 0 0 U0 := ⟨by show 0 + 8 * U0 ≤ 8 * U0; omega, by show 0 + 32 * U0 ≤ 32 * U0; omega⟩
  unfold wX0_inn at w
  refine g_aload_n O dX0_inn_0 rfl ?_
  refine g_iconst (v := 0) O dX0_inn_1 (by decide) ?_
  refine g_aload_n O dX0_inn_2 rfl ?_
  refine g_iload_n O dX0_inn_3 rfl ?_
  refine g_iload_n O dX0_inn_4 rfl ?_
  obtain ⟨U2, e1, w⟩ := w
  have hk9 := kOk.eq hk e1
  refine gh_x2 (c := 1) (grx_V (lay := 1) (nA := 2) (As := [.int x1, .int x2]) (rest := [.int 0, .ref o]) O hRm (kX1_inn _ O.2.2.2.2.2.2.2.2 (cxE X) z T L V P t hT (x1) (x2) _ _ w) (lw_V q1563 q1564 q1565 q106 q1566) rfl rfl (by decide +kernel) ⟨Nat.le_of_ble_eq_true rfl, Nat.le_of_ble_eq_true rfl⟩ ck1 (by decide) rfl hT rfl rfl rfl (Nat.le_of_ble_eq_true rfl) dX0_inn_5 (kOk.fa hk9)) (fun q En z2 V1 P1 hz w => ?_) (fun r V1 P1 w => ?_)
  · have hk := kOk.sa hk9
    obtain ⟨rfl, w⟩ := w
    refine gh_catch1 O hTb (by decide) (by decide) q1254 q1267 ?_
    refine g_astore (lv' := [some (.ref t), some (.int x1), some (.int x2), some (.ref o), some (.ref q)]) O dX0_inn_20 (Nat.le_of_ble_eq_true rfl) rfl rfl ?_
    refine g_iconst (v := 1) O dX0_inn_22 (by decide) ?_
    exact gt_iret (f := fun u => u) (u := (z2, T, L, V1, P1)) O hQ (kOk.m hk) rfl rfl (w z2 hz) dX0_inn_23
  · have hk := kOk.sa hk9
    obtain ⟨hl1, hl2, w⟩ := w
    by_cases hr : r = 0
    · rw [if_pos hr] at w
      refine g_if_eq_t (tgt := 15) O hr dX0_inn_8 (by decide) ?_
      refine g_lconst O dX0_inn_15 rfl ?_
      refine gl_last (nn := 0) (x := 0) O ho hl1 (by decide) hl2 rfl dX0_inn_16 ?_
      refine g_nV w (fun V9 w _ => ?_)
      refine g_goto (tgt := 24) O dX0_inn_17 (by decide) ?_
      refine g_iconst (v := 0) O dX0_inn_24 (by decide) ?_
      exact gt_iret (f := fun u => u) (u := (z, T, L, V9, P1)) O hQ (kOk.m hk) rfl rfl w dX0_inn_25
    · rw [if_neg hr] at w
      refine g_if_eq_f (tgt := 15) O hr dX0_inn_8 (by decide) ?_
      refine g_lconst O dX0_inn_11 rfl ?_
      refine g_goto (tgt := 16) O dX0_inn_12 (by decide) ?_
      refine gl_last (nn := 0) (x := 1) O ho hl1 (by decide) hl2 rfl dX0_inn_16 ?_
      refine g_nV w (fun V9 w _ => ?_)
      refine g_goto (tgt := 24) O dX0_inn_17 (by decide) ?_
      refine g_iconst (v := 0) O dX0_inn_24 (by decide) ?_
      exact gt_iret (f := fun u => u) (u := (z, T, L, V9, P1)) O hQ (kOk.m hk) rfl rfl w dX0_inn_25
-- word
abbrev rX0_word (U0 : Nat) : Room := { frames := 9, cells := 8 * U0, slots := 32 * U0, locals := 164 }
set_option maxHeartbeats 4000000 in
theorem kX0_word (l : Launch) (hfl : l.flags = flags0) (E : w_E) (U0 z : Nat) (T L : Nat → Nat) (V : w_V) (P : w_P) (t : Nat) (hT : T t = 2) (x1 : Int32) (x2 : Int32) (x3 : Int32) (o : Nat) (ho : T o = 3003) (post : Int32 → Nat → (Nat → Nat) → (Nat → Nat) → w_V → w_P → Prop) (w : wX0_word E.2.2.2.2 U0 z T L V P t x1 x2 x3 o post) : vx_Met l yX0_word (wsW_ yX0_word cX0_word 6 (some .int) [(0, 12, 15, 18)]) (rX0_word U0) (va_Pc [.ref t, .int x1, .int x2, .int x3, .ref o] (fun U => kenv E U ∧ wdW E (z, T, L, V, P) U.heap)) (va_Qi (qF1 post) (wdF E) (w_A E)) (xcX E (xF (fun _ _ _ _ _ _ _ => False))) (8 * U0) (32 * U0) (w_A E) := by
  refine g_startH (w := (z, T, L, V, P)) hfl (by decide +kernel) rfl [some (.ref t), some (.int x1), some (.int x2), some (.int x3), some (.ref o), none] rfl (fun _ h => h) (Nat.le_of_ble_eq_true rfl) (fun X hl hRm hEe O hTb hQ => ?_)
  subst hl
  subst hEe
  have hk : kOk (rX0_word U0) 0 0 U0 := ⟨by show 0 + 8 * U0 ≤ 8 * U0; omega, by show 0 + 32 * U0 ≤ 32 * U0; omega⟩
  unfold wX0_word at w
  refine g_aload O dX0_word_0 rfl ?_
  refine g_iconst (v := 0) O dX0_word_2 (by decide) ?_
  refine g_aload_n O dX0_word_3 rfl ?_
  refine g_iload_n O dX0_word_4 rfl ?_
  refine g_iload_n O dX0_word_5 rfl ?_
  refine g_iload_n O dX0_word_6 rfl ?_
  obtain ⟨U2, e1, w⟩ := w
  have hk9 := kOk.eq hk e1
  refine gh_x2 (c := 2) (grx_V (lay := 1) (nA := 3) (As := [.int x1, .int x2, .int x3]) (rest := [.int 0, .ref o]) O hRm (kX1_word _ O.2.2.2.2.2.2.2.2 (cxE X) z T L V P t hT (x1) (x2) (x3) _ _ w) (lw_V q1570 q1571 q1572 q106 q1573) rfl rfl (by decide +kernel) ⟨Nat.le_of_ble_eq_true rfl, Nat.le_of_ble_eq_true rfl⟩ ck1 (by decide) rfl hT rfl rfl rfl (Nat.le_of_ble_eq_true rfl) dX0_word_7 (kOk.fa hk9)) (fun q En z2 V1 P1 hz w => ?_) (fun r V1 P1 w => ?_)
  · have hk := kOk.sa hk9
    obtain ⟨rfl, w⟩ := w
    refine gh_catch1 O hTb (by decide) (by decide) q1254 q1267 ?_
    refine g_astore (lv' := [some (.ref t), some (.int x1), some (.int x2), some (.int x3), some (.ref o), some (.ref q)]) O dX0_word_15 (Nat.le_of_ble_eq_true rfl) rfl rfl ?_
    refine g_iconst (v := 1) O dX0_word_17 (by decide) ?_
    exact gt_iret (f := fun u => u) (u := (z2, T, L, V1, P1)) O hQ (kOk.m hk) rfl rfl (w z2 hz) dX0_word_18
  · have hk := kOk.sa hk9
    obtain ⟨hl1, hl2, w⟩ := w
    refine g_i2l O dX0_word_10 ?_
    refine gl_last (nn := 0) (x := r) O ho hl1 (by decide) hl2 rfl dX0_word_11 ?_
    refine g_nV w (fun V9 w _ => ?_)
    refine g_goto (tgt := 19) O dX0_word_12 (by decide) ?_
    refine g_iconst (v := 0) O dX0_word_19 (by decide) ?_
    exact gt_iret (f := fun u => u) (u := (z, T, L, V9, P1)) O hQ (kOk.m hk) rfl rfl w dX0_word_20
-- feast
abbrev rX0_feast (U0 : Nat) : Room := { frames := 9, cells := 8 * U0, slots := 32 * U0, locals := 164 }
set_option maxHeartbeats 4000000 in
theorem kX0_feast (l : Launch) (hfl : l.flags = flags0) (E : w_E) (U0 z : Nat) (T L : Nat → Nat) (V : w_V) (P : w_P) (t : Nat) (hT : T t = 2) (x1 : Int32) (x2 : Int32) (x3 : Int32) (o : Nat) (ho : T o = 3003) (post : Int32 → Nat → (Nat → Nat) → (Nat → Nat) → w_V → w_P → Prop) (w : wX0_feast E.2.2.2.2 U0 z T L V P t x1 x2 x3 o post) : vx_Met l yX0_feast (wsW_ yX0_feast cX0_feast 6 (some .int) [(0, 12, 15, 18)]) (rX0_feast U0) (va_Pc [.ref t, .int x1, .int x2, .int x3, .ref o] (fun U => kenv E U ∧ wdW E (z, T, L, V, P) U.heap)) (va_Qi (qF1 post) (wdF E) (w_A E)) (xcX E (xF (fun _ _ _ _ _ _ _ => False))) (8 * U0) (32 * U0) (w_A E) := by
  refine g_startH (w := (z, T, L, V, P)) hfl (by decide +kernel) rfl [some (.ref t), some (.int x1), some (.int x2), some (.int x3), some (.ref o), none] rfl (fun _ h => h) (Nat.le_of_ble_eq_true rfl) (fun X hl hRm hEe O hTb hQ => ?_)
  subst hl
  subst hEe
  have hk : kOk (rX0_feast U0) 0 0 U0 := ⟨by show 0 + 8 * U0 ≤ 8 * U0; omega, by show 0 + 32 * U0 ≤ 32 * U0; omega⟩
  unfold wX0_feast at w
  refine g_aload O dX0_feast_0 rfl ?_
  refine g_iconst (v := 0) O dX0_feast_2 (by decide) ?_
  refine g_aload_n O dX0_feast_3 rfl ?_
  refine g_iload_n O dX0_feast_4 rfl ?_
  refine g_iload_n O dX0_feast_5 rfl ?_
  refine g_iload_n O dX0_feast_6 rfl ?_
  obtain ⟨U2, e1, w⟩ := w
  have hk9 := kOk.eq hk e1
  refine gh_x2 (c := 1) (grx_V (lay := 1) (nA := 3) (As := [.int x1, .int x2, .int x3]) (rest := [.int 0, .ref o]) O hRm (kX1_feast _ O.2.2.2.2.2.2.2.2 (cxE X) z T L V P t hT (x1) (x2) (x3) _ _ w) (lw_V q1584 q1585 q1586 q106 q1587) rfl rfl (by decide +kernel) ⟨Nat.le_of_ble_eq_true rfl, Nat.le_of_ble_eq_true rfl⟩ ck1 (by decide) rfl hT rfl rfl rfl (Nat.le_of_ble_eq_true rfl) dX0_feast_7 (kOk.fa hk9)) (fun q En z2 V1 P1 hz w => ?_) (fun r V1 P1 w => ?_)
  · have hk := kOk.sa hk9
    obtain ⟨rfl, w⟩ := w
    refine gh_catch1 O hTb (by decide) (by decide) q1254 q1267 ?_
    refine g_astore (lv' := [some (.ref t), some (.int x1), some (.int x2), some (.int x3), some (.ref o), some (.ref q)]) O dX0_feast_15 (Nat.le_of_ble_eq_true rfl) rfl rfl ?_
    refine g_iconst (v := 1) O dX0_feast_17 (by decide) ?_
    exact gt_iret (f := fun u => u) (u := (z2, T, L, V1, P1)) O hQ (kOk.m hk) rfl rfl (w z2 hz) dX0_feast_18
  · have hk := kOk.sa hk9
    obtain ⟨hl1, hl2, w⟩ := w
    refine g_i2l O dX0_feast_10 ?_
    refine gl_last (nn := 0) (x := r) O ho hl1 (by decide) hl2 rfl dX0_feast_11 ?_
    refine g_nV w (fun V9 w _ => ?_)
    refine g_goto (tgt := 19) O dX0_feast_12 (by decide) ?_
    refine g_iconst (v := 0) O dX0_feast_19 (by decide) ?_
    exact gt_iret (f := fun u => u) (u := (z, T, L, V9, P1)) O hQ (kOk.m hk) rfl rfl w dX0_feast_20
-- flood
abbrev rX0_flood (U0 : Nat) : Room := { frames := 9, cells := 8 * U0, slots := 32 * U0, locals := 164 }
set_option maxHeartbeats 4000000 in
theorem kX0_flood (l : Launch) (hfl : l.flags = flags0) (E : w_E) (U0 z : Nat) (T L : Nat → Nat) (V : w_V) (P : w_P) (t : Nat) (hT : T t = 2) (x1 : Int32) (x2 : Int32) (x3 : Int32) (o : Nat) (ho : T o = 3003) (post : Int32 → Nat → (Nat → Nat) → (Nat → Nat) → w_V → w_P → Prop) (w : wX0_flood E.2.2.2.2 U0 z T L V P t x1 x2 x3 o post) : vx_Met l yX0_flood (wsW_ yX0_flood cX0_flood 6 (some .int) [(0, 12, 15, 18)]) (rX0_flood U0) (va_Pc [.ref t, .int x1, .int x2, .int x3, .ref o] (fun U => kenv E U ∧ wdW E (z, T, L, V, P) U.heap)) (va_Qi (qF1 post) (wdF E) (w_A E)) (xcX E (xF (fun _ _ _ _ _ _ _ => False))) (8 * U0) (32 * U0) (w_A E) := by
  refine g_startH (w := (z, T, L, V, P)) hfl (by decide +kernel) rfl [some (.ref t), some (.int x1), some (.int x2), some (.int x3), some (.ref o), none] rfl (fun _ h => h) (Nat.le_of_ble_eq_true rfl) (fun X hl hRm hEe O hTb hQ => ?_)
  subst hl
  subst hEe
  have hk : kOk (rX0_flood U0) 0 0 U0 := ⟨by show 0 + 8 * U0 ≤ 8 * U0; omega, by show 0 + 32 * U0 ≤ 32 * U0; omega⟩
  unfold wX0_flood at w
  refine g_aload O dX0_flood_0 rfl ?_
  refine g_iconst (v := 0) O dX0_flood_2 (by decide) ?_
  refine g_aload_n O dX0_flood_3 rfl ?_
  refine g_iload_n O dX0_flood_4 rfl ?_
  refine g_iload_n O dX0_flood_5 rfl ?_
  refine g_iload_n O dX0_flood_6 rfl ?_
  obtain ⟨U2, e1, w⟩ := w
  have hk9 := kOk.eq hk e1
  refine gh_x2 (c := 1) (grx_V (lay := 1) (nA := 3) (As := [.int x1, .int x2, .int x3]) (rest := [.int 0, .ref o]) O hRm (kX1_flood _ O.2.2.2.2.2.2.2.2 (cxE X) z T L V P t hT (x1) (x2) (x3) _ _ w) (lw_V q1595 q1596 q1597 q106 q1598) rfl rfl (by decide +kernel) ⟨Nat.le_of_ble_eq_true rfl, Nat.le_of_ble_eq_true rfl⟩ ck1 (by decide) rfl hT rfl rfl rfl (Nat.le_of_ble_eq_true rfl) dX0_flood_7 (kOk.fa hk9)) (fun q En z2 V1 P1 hz w => ?_) (fun r V1 P1 w => ?_)
  · have hk := kOk.sa hk9
    obtain ⟨rfl, w⟩ := w
    refine gh_catch1 O hTb (by decide) (by decide) q1254 q1267 ?_
    refine g_astore (lv' := [some (.ref t), some (.int x1), some (.int x2), some (.int x3), some (.ref o), some (.ref q)]) O dX0_flood_15 (Nat.le_of_ble_eq_true rfl) rfl rfl ?_
    refine g_iconst (v := 1) O dX0_flood_17 (by decide) ?_
    exact gt_iret (f := fun u => u) (u := (z2, T, L, V1, P1)) O hQ (kOk.m hk) rfl rfl (w z2 hz) dX0_flood_18
  · have hk := kOk.sa hk9
    obtain ⟨hl1, hl2, w⟩ := w
    refine g_i2l O dX0_flood_10 ?_
    refine gl_last (nn := 0) (x := r) O ho hl1 (by decide) hl2 rfl dX0_flood_11 ?_
    refine g_nV w (fun V9 w _ => ?_)
    refine g_goto (tgt := 19) O dX0_flood_12 (by decide) ?_
    refine g_iconst (v := 0) O dX0_flood_19 (by decide) ?_
    exact gt_iret (f := fun u => u) (u := (z, T, L, V9, P1)) O hQ (kOk.m hk) rfl rfl w dX0_flood_20
-- burn
abbrev rX0_burn (U0 : Nat) : Room := { frames := 1250, cells := 8 * U0, slots := 32 * U0, locals := 37401 }
set_option maxHeartbeats 4000000 in
theorem kX0_burn (l : Launch) (hfl : l.flags = flags0) (E : w_E) (U0 z : Nat) (T L : Nat → Nat) (V : w_V) (P : w_P) (t : Nat) (hT : T t = 2) (x1 : Int32) (o : Nat) (ho : T o = 3003) (post : Int32 → Nat → (Nat → Nat) → (Nat → Nat) → w_V → w_P → Prop) (w : wX0_burn E.2.2.2.2 U0 z T L V P t x1 o post) : vx_Met l yX0_burn (wsW_ yX0_burn cX0_burn 4 (some .int) [(0, 9, 12, 18)]) (rX0_burn U0) (va_Pc [.ref t, .int x1, .ref o] (fun U => kenv E U ∧ wdW E (z, T, L, V, P) U.heap)) (va_Qi (qF1 post) (wdF E) (w_A E)) (xcX E (xF (fun _ _ _ _ _ _ _ => False))) (8 * U0) (32 * U0) (w_A E) := by
  refine g_startH (w := (z, T, L, V, P)) hfl (by decide +kernel) rfl [some (.ref t), some (.int x1), some (.ref o), none] rfl (fun _ h => h) (Nat.le_of_ble_eq_true rfl) (fun X hl hRm hEe O hTb hQ => ?_)
  subst hl
  subst hEe
  have hk : kOk (rX0_burn U0) 0 0 U0 := ⟨by show 0 + 8 * U0 ≤ 8 * U0; omega, by show 0 + 32 * U0 ≤ 32 * U0; omega⟩
  unfold wX0_burn at w
  refine g_aload_n O dX0_burn_0 rfl ?_
  refine g_iconst (v := 0) O dX0_burn_1 (by decide) ?_
  refine g_aload_n O dX0_burn_2 rfl ?_
  refine g_iload_n O dX0_burn_3 rfl ?_
  obtain ⟨U2, e1, w⟩ := w
  have hk9 := kOk.eq hk e1
  refine gh_x1 (c := 1) (grx_V (lay := 1) (nA := 1) (As := [.int x1]) (rest := [.int 0, .ref o]) O hRm (kX1_burn _ O.2.2.2.2.2.2.2.2 (cxE X) z T L V P t hT (x1) _ _ w) (lw_V q1606 q1607 q1608 q106 q1609) rfl rfl (by decide +kernel) ⟨Nat.le_of_ble_eq_true rfl, Nat.le_of_ble_eq_true rfl⟩ ck1 (by decide) rfl hT rfl rfl rfl (Nat.le_of_ble_eq_true rfl) dX0_burn_4 (kOk.fa hk9)) (fun q En z2 V1 P1 hz w => ?_) (fun r V1 w => ?_)
  · have hk := kOk.sa hk9
    obtain ⟨rfl, w⟩ := w
    refine gh_catch1 O hTb (by decide) (by decide) q1254 q1267 ?_
    refine g_astore_n (lv' := [some (.ref t), some (.int x1), some (.ref o), some (.ref q)]) O dX0_burn_12 (Nat.le_of_ble_eq_true rfl) rfl rfl ?_
    refine g_iconst (v := 1) O dX0_burn_13 (by decide) ?_
    exact gt_iret (f := fun u => u) (u := (z2, T, L, V1, P1)) O hQ (kOk.m hk) rfl rfl (w z2 hz) dX0_burn_14
  · have hk := kOk.sa hk9
    obtain ⟨hl1, hl2, w⟩ := w
    refine g_i2l O dX0_burn_7 ?_
    refine gl_last (nn := 0) (x := r) O ho hl1 (by decide) hl2 rfl dX0_burn_8 ?_
    refine g_nV w (fun V9 w _ => ?_)
    refine g_goto (tgt := 15) O dX0_burn_9 (by decide) ?_
    refine g_iconst (v := 0) O dX0_burn_15 (by decide) ?_
    exact gt_iret (f := fun u => u) (u := (z, T, L, V9, P)) O hQ (kOk.m hk) rfl rfl w dX0_burn_16
-- when
abbrev rX0_when (U0 : Nat) : Room := { frames := 1250, cells := 8 * U0, slots := 32 * U0, locals := 37402 }
set_option maxHeartbeats 4000000 in
theorem kX0_when (l : Launch) (hfl : l.flags = flags0) (E : w_E) (U0 z : Nat) (T L : Nat → Nat) (V : w_V) (P : w_P) (t : Nat) (hT : T t = 2) (x1 : Int32) (x2 : Int32) (o : Nat) (ho : T o = 3003) (post : Int32 → Nat → (Nat → Nat) → (Nat → Nat) → w_V → w_P → Prop) (w : wX0_when E.2.2.2.2 U0 z T L V P t x1 x2 o post) : vx_Met l yX0_when (wsW_ yX0_when cX0_when 5 (some .int) [(0, 10, 13, 18)]) (rX0_when U0) (va_Pc [.ref t, .int x1, .int x2, .ref o] (fun U => kenv E U ∧ wdW E (z, T, L, V, P) U.heap)) (va_Qi (qF1 post) (wdF E) (w_A E)) (xcX E (xF (fun _ _ _ _ _ _ _ => False))) (8 * U0) (32 * U0) (w_A E) := by
  refine g_startH (w := (z, T, L, V, P)) hfl (by decide +kernel) rfl [some (.ref t), some (.int x1), some (.int x2), some (.ref o), none] rfl (fun _ h => h) (Nat.le_of_ble_eq_true rfl) (fun X hl hRm hEe O hTb hQ => ?_)
  subst hl
  subst hEe
  have hk : kOk (rX0_when U0) 0 0 U0 := ⟨by show 0 + 8 * U0 ≤ 8 * U0; omega, by show 0 + 32 * U0 ≤ 32 * U0; omega⟩
  unfold wX0_when at w
  refine g_aload_n O dX0_when_0 rfl ?_
  refine g_iconst (v := 0) O dX0_when_1 (by decide) ?_
  refine g_aload_n O dX0_when_2 rfl ?_
  refine g_iload_n O dX0_when_3 rfl ?_
  refine g_iload_n O dX0_when_4 rfl ?_
  obtain ⟨U2, e1, w⟩ := w
  have hk9 := kOk.eq hk e1
  refine gh_x1 (c := 2) (grx_V (lay := 1) (nA := 2) (As := [.int x1, .int x2]) (rest := [.int 0, .ref o]) O hRm (kX1_when _ O.2.2.2.2.2.2.2.2 (cxE X) z T L V P t hT (x1) (x2) _ _ w) (lw_V q1613 q1614 q1615 q106 q1616) rfl rfl (by decide +kernel) ⟨Nat.le_of_ble_eq_true rfl, Nat.le_of_ble_eq_true rfl⟩ ck1 (by decide) rfl hT rfl rfl rfl (Nat.le_of_ble_eq_true rfl) dX0_when_5 (kOk.fa hk9)) (fun q En z2 V1 P1 hz w => ?_) (fun r V1 w => ?_)
  · have hk := kOk.sa hk9
    obtain ⟨rfl, w⟩ := w
    refine gh_catch1 O hTb (by decide) (by decide) q1254 q1267 ?_
    refine g_astore (lv' := [some (.ref t), some (.int x1), some (.int x2), some (.ref o), some (.ref q)]) O dX0_when_13 (Nat.le_of_ble_eq_true rfl) rfl rfl ?_
    refine g_iconst (v := 1) O dX0_when_15 (by decide) ?_
    exact gt_iret (f := fun u => u) (u := (z2, T, L, V1, P1)) O hQ (kOk.m hk) rfl rfl (w z2 hz) dX0_when_16
  · have hk := kOk.sa hk9
    obtain ⟨hl1, hl2, w⟩ := w
    refine g_i2l O dX0_when_8 ?_
    refine gl_last (nn := 0) (x := r) O ho hl1 (by decide) hl2 rfl dX0_when_9 ?_
    refine g_nV w (fun V9 w _ => ?_)
    refine g_goto (tgt := 17) O dX0_when_10 (by decide) ?_
    refine g_iconst (v := 0) O dX0_when_17 (by decide) ?_
    exact gt_iret (f := fun u => u) (u := (z, T, L, V9, P)) O hQ (kOk.m hk) rfl rfl w dX0_when_18
-- round
abbrev rX0_round (U0 : Nat) : Room := { frames := 1251, cells := 8 * U0, slots := 32 * U0, locals := 37418 }
set_option maxHeartbeats 4000000 in
theorem kX0_round (l : Launch) (hfl : l.flags = flags0) (E : w_E) (U0 z : Nat) (T L : Nat → Nat) (V : w_V) (P : w_P) (t : Nat) (hT : T t = 2) (x1 : Int32) (o : Nat) (ho : T o = 3003) (post : Int32 → Nat → (Nat → Nat) → (Nat → Nat) → w_V → w_P → Prop) (w : wX0_round E.2.2.2.2 U0 z T L V P t x1 o post) : vx_Met l yX0_round (wsW_ yX0_round cX0_round 4 (some .int) [(0, 9, 12, 18)]) (rX0_round U0) (va_Pc [.ref t, .int x1, .ref o] (fun U => kenv E U ∧ wdW E (z, T, L, V, P) U.heap)) (va_Qi (qF1 post) (wdF E) (w_A E)) (xcX E (xF (fun _ _ _ _ _ _ _ => False))) (8 * U0) (32 * U0) (w_A E) := by
  refine g_startH (w := (z, T, L, V, P)) hfl (by decide +kernel) rfl [some (.ref t), some (.int x1), some (.ref o), none] rfl (fun _ h => h) (Nat.le_of_ble_eq_true rfl) (fun X hl hRm hEe O hTb hQ => ?_)
  subst hl
  subst hEe
  have hk : kOk (rX0_round U0) 0 0 U0 := ⟨by show 0 + 8 * U0 ≤ 8 * U0; omega, by show 0 + 32 * U0 ≤ 32 * U0; omega⟩
  unfold wX0_round at w
  refine g_aload_n O dX0_round_0 rfl ?_
  refine g_iconst (v := 0) O dX0_round_1 (by decide) ?_
  refine g_aload_n O dX0_round_2 rfl ?_
  refine g_iload_n O dX0_round_3 rfl ?_
  obtain ⟨U2, e1, w⟩ := w
  have hk9 := kOk.eq hk e1
  refine gh_x1 (c := 1) (grx_V (lay := 1) (nA := 1) (As := [.int x1]) (rest := [.int 0, .ref o]) O hRm (kX1_round _ O.2.2.2.2.2.2.2.2 (cxE X) z T L V P t hT (x1) _ _ w) (lw_V q1620 q1621 q1622 q106 q1623) rfl rfl (by decide +kernel) ⟨Nat.le_of_ble_eq_true rfl, Nat.le_of_ble_eq_true rfl⟩ ck1 (by decide) rfl hT rfl rfl rfl (Nat.le_of_ble_eq_true rfl) dX0_round_4 (kOk.fa hk9)) (fun q En z2 V1 P1 hz w => ?_) (fun r V1 w => ?_)
  · have hk := kOk.sa hk9
    obtain ⟨rfl, w⟩ := w
    refine gh_catch1 O hTb (by decide) (by decide) q1254 q1267 ?_
    refine g_astore_n (lv' := [some (.ref t), some (.int x1), some (.ref o), some (.ref q)]) O dX0_round_12 (Nat.le_of_ble_eq_true rfl) rfl rfl ?_
    refine g_iconst (v := 1) O dX0_round_13 (by decide) ?_
    exact gt_iret (f := fun u => u) (u := (z2, T, L, V1, P1)) O hQ (kOk.m hk) rfl rfl (w z2 hz) dX0_round_14
  · have hk := kOk.sa hk9
    obtain ⟨hl1, hl2, w⟩ := w
    refine g_i2l O dX0_round_7 ?_
    refine gl_last (nn := 0) (x := r) O ho hl1 (by decide) hl2 rfl dX0_round_8 ?_
    refine g_nV w (fun V9 w _ => ?_)
    refine g_goto (tgt := 15) O dX0_round_9 (by decide) ?_
    refine g_iconst (v := 0) O dX0_round_15 (by decide) ?_
    exact gt_iret (f := fun u => u) (u := (z, T, L, V9, P)) O hQ (kOk.m hk) rfl rfl w dX0_round_16
-- free
abbrev rX0_free (U0 : Nat) : Room := { frames := 1252, cells := 8 * U0, slots := 32 * U0, locals := 37442 }
set_option maxHeartbeats 4000000 in
theorem kX0_free (l : Launch) (hfl : l.flags = flags0) (E : w_E) (U0 z : Nat) (T L : Nat → Nat) (V : w_V) (P : w_P) (t : Nat) (hT : T t = 2) (x1 : Int32) (x2 : Int32) (o : Nat) (ho : T o = 3003) (post : Int32 → Nat → (Nat → Nat) → (Nat → Nat) → w_V → w_P → Prop) (w : wX0_free E.2.2.2.2 U0 z T L V P t x1 x2 o post) : vx_Met l yX0_free (wsW_ yX0_free cX0_free 5 (some .int) [(0, 10, 13, 18)]) (rX0_free U0) (va_Pc [.ref t, .int x1, .int x2, .ref o] (fun U => kenv E U ∧ wdW E (z, T, L, V, P) U.heap)) (va_Qi (qF1 post) (wdF E) (w_A E)) (xcX E (xF (fun _ _ _ _ _ _ _ => False))) (8 * U0) (32 * U0) (w_A E) := by
  refine g_startH (w := (z, T, L, V, P)) hfl (by decide +kernel) rfl [some (.ref t), some (.int x1), some (.int x2), some (.ref o), none] rfl (fun _ h => h) (Nat.le_of_ble_eq_true rfl) (fun X hl hRm hEe O hTb hQ => ?_)
  subst hl
  subst hEe
  have hk : kOk (rX0_free U0) 0 0 U0 := ⟨by show 0 + 8 * U0 ≤ 8 * U0; omega, by show 0 + 32 * U0 ≤ 32 * U0; omega⟩
  unfold wX0_free at w
  refine g_aload_n O dX0_free_0 rfl ?_
  refine g_iconst (v := 0) O dX0_free_1 (by decide) ?_
  refine g_aload_n O dX0_free_2 rfl ?_
  refine g_iload_n O dX0_free_3 rfl ?_
  refine g_iload_n O dX0_free_4 rfl ?_
  obtain ⟨U2, e1, w⟩ := w
  have hk9 := kOk.eq hk e1
  refine gh_x1 (c := 2) (grx_V (lay := 1) (nA := 2) (As := [.int x1, .int x2]) (rest := [.int 0, .ref o]) O hRm (kX1_free _ O.2.2.2.2.2.2.2.2 (cxE X) z T L V P t hT (x1) (x2) _ _ w) (lw_V q1627 q1628 q1629 q106 q1630) rfl rfl (by decide +kernel) ⟨Nat.le_of_ble_eq_true rfl, Nat.le_of_ble_eq_true rfl⟩ ck1 (by decide) rfl hT rfl rfl rfl (Nat.le_of_ble_eq_true rfl) dX0_free_5 (kOk.fa hk9)) (fun q En z2 V1 P1 hz w => ?_) (fun r V1 w => ?_)
  · have hk := kOk.sa hk9
    obtain ⟨rfl, w⟩ := w
    refine gh_catch1 O hTb (by decide) (by decide) q1254 q1267 ?_
    refine g_astore (lv' := [some (.ref t), some (.int x1), some (.int x2), some (.ref o), some (.ref q)]) O dX0_free_13 (Nat.le_of_ble_eq_true rfl) rfl rfl ?_
    refine g_iconst (v := 1) O dX0_free_15 (by decide) ?_
    exact gt_iret (f := fun u => u) (u := (z2, T, L, V1, P1)) O hQ (kOk.m hk) rfl rfl (w z2 hz) dX0_free_16
  · have hk := kOk.sa hk9
    obtain ⟨hl1, hl2, w⟩ := w
    refine g_i2l O dX0_free_8 ?_
    refine gl_last (nn := 0) (x := r) O ho hl1 (by decide) hl2 rfl dX0_free_9 ?_
    refine g_nV w (fun V9 w _ => ?_)
    refine g_goto (tgt := 17) O dX0_free_10 (by decide) ?_
    refine g_iconst (v := 0) O dX0_free_17 (by decide) ?_
    exact gt_iret (f := fun u => u) (u := (z, T, L, V9, P)) O hQ (kOk.m hk) rfl rfl w dX0_free_18
-- mercy
abbrev rX0_mercy (U0 : Nat) : Room := { frames := 1251, cells := 8 * U0, slots := 32 * U0, locals := 37420 }
set_option maxHeartbeats 4000000 in
theorem kX0_mercy (l : Launch) (hfl : l.flags = flags0) (E : w_E) (U0 z : Nat) (T L : Nat → Nat) (V : w_V) (P : w_P) (t : Nat) (hT : T t = 2) (x1 : Int32) (o : Nat) (ho : T o = 3003) (post : Int32 → Nat → (Nat → Nat) → (Nat → Nat) → w_V → w_P → Prop) (w : wX0_mercy E.2.2.2.2 U0 z T L V P t x1 o post) : vx_Met l yX0_mercy (wsW_ yX0_mercy cX0_mercy 4 (some .int) [(0, 9, 12, 18)]) (rX0_mercy U0) (va_Pc [.ref t, .int x1, .ref o] (fun U => kenv E U ∧ wdW E (z, T, L, V, P) U.heap)) (va_Qi (qF1 post) (wdF E) (w_A E)) (xcX E (xF (fun _ _ _ _ _ _ _ => False))) (8 * U0) (32 * U0) (w_A E) := by
  refine g_startH (w := (z, T, L, V, P)) hfl (by decide +kernel) rfl [some (.ref t), some (.int x1), some (.ref o), none] rfl (fun _ h => h) (Nat.le_of_ble_eq_true rfl) (fun X hl hRm hEe O hTb hQ => ?_)
  subst hl
  subst hEe
  have hk : kOk (rX0_mercy U0) 0 0 U0 := ⟨by show 0 + 8 * U0 ≤ 8 * U0; omega, by show 0 + 32 * U0 ≤ 32 * U0; omega⟩
  unfold wX0_mercy at w
  refine g_aload_n O dX0_mercy_0 rfl ?_
  refine g_iconst (v := 0) O dX0_mercy_1 (by decide) ?_
  refine g_aload_n O dX0_mercy_2 rfl ?_
  refine g_iload_n O dX0_mercy_3 rfl ?_
  obtain ⟨U2, e1, w⟩ := w
  have hk9 := kOk.eq hk e1
  refine gh_x1 (c := 1) (grx_V (lay := 1) (nA := 1) (As := [.int x1]) (rest := [.int 0, .ref o]) O hRm (kX1_mercy _ O.2.2.2.2.2.2.2.2 (cxE X) z T L V P t hT (x1) _ _ w) (lw_V q1642 q1643 q1644 q106 q1645) rfl rfl (by decide +kernel) ⟨Nat.le_of_ble_eq_true rfl, Nat.le_of_ble_eq_true rfl⟩ ck1 (by decide) rfl hT rfl rfl rfl (Nat.le_of_ble_eq_true rfl) dX0_mercy_4 (kOk.fa hk9)) (fun q En z2 V1 P1 hz w => ?_) (fun r V1 w => ?_)
  · have hk := kOk.sa hk9
    obtain ⟨rfl, w⟩ := w
    refine gh_catch1 O hTb (by decide) (by decide) q1254 q1267 ?_
    refine g_astore_n (lv' := [some (.ref t), some (.int x1), some (.ref o), some (.ref q)]) O dX0_mercy_12 (Nat.le_of_ble_eq_true rfl) rfl rfl ?_
    refine g_iconst (v := 1) O dX0_mercy_13 (by decide) ?_
    exact gt_iret (f := fun u => u) (u := (z2, T, L, V1, P1)) O hQ (kOk.m hk) rfl rfl (w z2 hz) dX0_mercy_14
  · have hk := kOk.sa hk9
    obtain ⟨hl1, hl2, w⟩ := w
    refine g_i2l O dX0_mercy_7 ?_
    refine gl_last (nn := 0) (x := r) O ho hl1 (by decide) hl2 rfl dX0_mercy_8 ?_
    refine g_nV w (fun V9 w _ => ?_)
    refine g_goto (tgt := 15) O dX0_mercy_9 (by decide) ?_
    refine g_iconst (v := 0) O dX0_mercy_15 (by decide) ?_
    exact gt_iret (f := fun u => u) (u := (z, T, L, V9, P)) O hQ (kOk.m hk) rfl rfl w dX0_mercy_16
-- deaf
abbrev rX0_deaf (U0 : Nat) : Room := { frames := 1250, cells := 8 * U0, slots := 32 * U0, locals := 37397 }
set_option maxHeartbeats 4000000 in
theorem kX0_deaf (l : Launch) (hfl : l.flags = flags0) (E : w_E) (U0 z : Nat) (T L : Nat → Nat) (V : w_V) (P : w_P) (t : Nat) (hT : T t = 2) (x1 : Int32) (o : Nat) (ho : T o = 3003) (post : Int32 → Nat → (Nat → Nat) → (Nat → Nat) → w_V → w_P → Prop) (w : wX0_deaf E.2.2.2.2 U0 z T L V P t x1 o post) : vx_Met l yX0_deaf (wsW_ yX0_deaf cX0_deaf 4 (some .int) [(0, 9, 12, 18)]) (rX0_deaf U0) (va_Pc [.ref t, .int x1, .ref o] (fun U => kenv E U ∧ wdW E (z, T, L, V, P) U.heap)) (va_Qi (qF1 post) (wdF E) (w_A E)) (xcX E (xF (fun _ _ _ _ _ _ _ => False))) (8 * U0) (32 * U0) (w_A E) := by
  refine g_startH (w := (z, T, L, V, P)) hfl (by decide +kernel) rfl [some (.ref t), some (.int x1), some (.ref o), none] rfl (fun _ h => h) (Nat.le_of_ble_eq_true rfl) (fun X hl hRm hEe O hTb hQ => ?_)
  subst hl
  subst hEe
  have hk : kOk (rX0_deaf U0) 0 0 U0 := ⟨by show 0 + 8 * U0 ≤ 8 * U0; omega, by show 0 + 32 * U0 ≤ 32 * U0; omega⟩
  unfold wX0_deaf at w
  refine g_aload_n O dX0_deaf_0 rfl ?_
  refine g_iconst (v := 0) O dX0_deaf_1 (by decide) ?_
  refine g_aload_n O dX0_deaf_2 rfl ?_
  refine g_iload_n O dX0_deaf_3 rfl ?_
  obtain ⟨U2, e1, w⟩ := w
  have hk9 := kOk.eq hk e1
  refine gh_x1 (c := 1) (grx_V (lay := 1) (nA := 1) (As := [.int x1]) (rest := [.int 0, .ref o]) O hRm (kX1_deaf _ O.2.2.2.2.2.2.2.2 (cxE X) z T L V P t hT (x1) _ _ w) (lw_V q1660 q1661 q1662 q106 q1663) rfl rfl (by decide +kernel) ⟨Nat.le_of_ble_eq_true rfl, Nat.le_of_ble_eq_true rfl⟩ ck1 (by decide) rfl hT rfl rfl rfl (Nat.le_of_ble_eq_true rfl) dX0_deaf_4 (kOk.fa hk9)) (fun q En z2 V1 P1 hz w => ?_) (fun r V1 w => ?_)
  · have hk := kOk.sa hk9
    obtain ⟨rfl, w⟩ := w
    refine gh_catch1 O hTb (by decide) (by decide) q1254 q1267 ?_
    refine g_astore_n (lv' := [some (.ref t), some (.int x1), some (.ref o), some (.ref q)]) O dX0_deaf_12 (Nat.le_of_ble_eq_true rfl) rfl rfl ?_
    refine g_iconst (v := 1) O dX0_deaf_13 (by decide) ?_
    exact gt_iret (f := fun u => u) (u := (z2, T, L, V1, P1)) O hQ (kOk.m hk) rfl rfl (w z2 hz) dX0_deaf_14
  · have hk := kOk.sa hk9
    obtain ⟨hl1, hl2, w⟩ := w
    refine g_i2l O dX0_deaf_7 ?_
    refine gl_last (nn := 0) (x := r) O ho hl1 (by decide) hl2 rfl dX0_deaf_8 ?_
    refine g_nV w (fun V9 w _ => ?_)
    refine g_goto (tgt := 15) O dX0_deaf_9 (by decide) ?_
    refine g_iconst (v := 0) O dX0_deaf_15 (by decide) ?_
    exact gt_iret (f := fun u => u) (u := (z, T, L, V9, P)) O hQ (kOk.m hk) rfl rfl w dX0_deaf_16
-- soonest
abbrev rX0_soonest (U0 : Nat) : Room := { frames := 1251, cells := 8 * U0, slots := 32 * U0, locals := 37420 }
set_option maxHeartbeats 4000000 in
theorem kX0_soonest (l : Launch) (hfl : l.flags = flags0) (E : w_E) (U0 z : Nat) (T L : Nat → Nat) (V : w_V) (P : w_P) (t : Nat) (hT : T t = 2) (x1 : Int32) (o : Nat) (ho : T o = 3003) (post : Int32 → Nat → (Nat → Nat) → (Nat → Nat) → w_V → w_P → Prop) (w : wX0_soonest E.2.2.2.2 U0 z T L V P t x1 o post) : vx_Met l yX0_soonest (wsW_ yX0_soonest cX0_soonest 4 (some .int) [(0, 9, 12, 18)]) (rX0_soonest U0) (va_Pc [.ref t, .int x1, .ref o] (fun U => kenv E U ∧ wdW E (z, T, L, V, P) U.heap)) (va_Qi (qF1 post) (wdF E) (w_A E)) (xcX E (xF (fun _ _ _ _ _ _ _ => False))) (8 * U0) (32 * U0) (w_A E) := by
  refine g_startH (w := (z, T, L, V, P)) hfl (by decide +kernel) rfl [some (.ref t), some (.int x1), some (.ref o), none] rfl (fun _ h => h) (Nat.le_of_ble_eq_true rfl) (fun X hl hRm hEe O hTb hQ => ?_)
  subst hl
  subst hEe
  have hk : kOk (rX0_soonest U0) 0 0 U0 := ⟨by show 0 + 8 * U0 ≤ 8 * U0; omega, by show 0 + 32 * U0 ≤ 32 * U0; omega⟩
  unfold wX0_soonest at w
  refine g_aload_n O dX0_soonest_0 rfl ?_
  refine g_iconst (v := 0) O dX0_soonest_1 (by decide) ?_
  refine g_aload_n O dX0_soonest_2 rfl ?_
  refine g_iload_n O dX0_soonest_3 rfl ?_
  obtain ⟨U2, e1, w⟩ := w
  have hk9 := kOk.eq hk e1
  refine gh_x1 (c := 1) (grx_V (lay := 1) (nA := 1) (As := [.int x1]) (rest := [.int 0, .ref o]) O hRm (kX1_soonest _ O.2.2.2.2.2.2.2.2 (cxE X) z T L V P t hT (x1) _ _ w) (lw_V q1667 q1668 q1669 q106 q1670) rfl rfl (by decide +kernel) ⟨Nat.le_of_ble_eq_true rfl, Nat.le_of_ble_eq_true rfl⟩ ck1 (by decide) rfl hT rfl rfl rfl (Nat.le_of_ble_eq_true rfl) dX0_soonest_4 (kOk.fa hk9)) (fun q En z2 V1 P1 hz w => ?_) (fun r V1 w => ?_)
  · have hk := kOk.sa hk9
    obtain ⟨rfl, w⟩ := w
    refine gh_catch1 O hTb (by decide) (by decide) q1254 q1267 ?_
    refine g_astore_n (lv' := [some (.ref t), some (.int x1), some (.ref o), some (.ref q)]) O dX0_soonest_12 (Nat.le_of_ble_eq_true rfl) rfl rfl ?_
    refine g_iconst (v := 1) O dX0_soonest_13 (by decide) ?_
    exact gt_iret (f := fun u => u) (u := (z2, T, L, V1, P1)) O hQ (kOk.m hk) rfl rfl (w z2 hz) dX0_soonest_14
  · have hk := kOk.sa hk9
    obtain ⟨hl1, hl2, w⟩ := w
    refine g_i2l O dX0_soonest_7 ?_
    refine gl_last (nn := 0) (x := r) O ho hl1 (by decide) hl2 rfl dX0_soonest_8 ?_
    refine g_nV w (fun V9 w _ => ?_)
    refine g_goto (tgt := 15) O dX0_soonest_9 (by decide) ?_
    refine g_iconst (v := 0) O dX0_soonest_15 (by decide) ?_
    exact gt_iret (f := fun u => u) (u := (z, T, L, V9, P)) O hQ (kOk.m hk) rfl rfl w dX0_soonest_16
-- see
abbrev rX0_see (U0 : Nat) : Room := { frames := 9, cells := 8 * U0, slots := 32 * U0, locals := 165 }
set_option maxHeartbeats 4000000 in
theorem kX0_see (l : Launch) (hfl : l.flags = flags0) (E : w_E) (U0 z : Nat) (T L : Nat → Nat) (V : w_V) (P : w_P) (t : Nat) (hT : T t = 2) (x1 : Int32) (x2 : Int32) (x3 : Int32) (o : Nat) (ho : T o = 3003) (post : Int32 → Nat → (Nat → Nat) → (Nat → Nat) → w_V → w_P → Prop) (w : wX0_see E.2.2.2.2 U0 z T L V P t x1 x2 x3 o post) : vx_Met l yX0_see (wsW_ yX0_see cX0_see 6 (some .int) [(0, 12, 15, 18)]) (rX0_see U0) (va_Pc [.ref t, .int x1, .int x2, .int x3, .ref o] (fun U => kenv E U ∧ wdW E (z, T, L, V, P) U.heap)) (va_Qi (qF1 post) (wdF E) (w_A E)) (xcX E (xF (fun _ _ _ _ _ _ _ => False))) (8 * U0) (32 * U0) (w_A E) := by
  refine g_startH (w := (z, T, L, V, P)) hfl (by decide +kernel) rfl [some (.ref t), some (.int x1), some (.int x2), some (.int x3), some (.ref o), none] rfl (fun _ h => h) (Nat.le_of_ble_eq_true rfl) (fun X hl hRm hEe O hTb hQ => ?_)
  subst hl
  subst hEe
  have hk : kOk (rX0_see U0) 0 0 U0 := ⟨by show 0 + 8 * U0 ≤ 8 * U0; omega, by show 0 + 32 * U0 ≤ 32 * U0; omega⟩
  unfold wX0_see at w
  refine g_aload O dX0_see_0 rfl ?_
  refine g_iconst (v := 0) O dX0_see_2 (by decide) ?_
  refine g_aload_n O dX0_see_3 rfl ?_
  refine g_iload_n O dX0_see_4 rfl ?_
  refine g_iload_n O dX0_see_5 rfl ?_
  refine g_iload_n O dX0_see_6 rfl ?_
  obtain ⟨U2, e1, w⟩ := w
  have hk9 := kOk.eq hk e1
  refine gh_x1 (c := 2) (grx_V (lay := 1) (nA := 3) (As := [.int x1, .int x2, .int x3]) (rest := [.int 0, .ref o]) O hRm (kX1_see _ O.2.2.2.2.2.2.2.2 (cxE X) z T L V P t hT (x1) (x2) (x3) _ _ w) (lw_V q1674 q1675 q1676 q106 q1677) rfl rfl (by decide +kernel) ⟨Nat.le_of_ble_eq_true rfl, Nat.le_of_ble_eq_true rfl⟩ ck1 (by decide) rfl hT rfl rfl rfl (Nat.le_of_ble_eq_true rfl) dX0_see_7 (kOk.fa hk9)) (fun q En z2 V1 P1 hz w => ?_) (fun r V1 w => ?_)
  · have hk := kOk.sa hk9
    obtain ⟨rfl, w⟩ := w
    refine gh_catch1 O hTb (by decide) (by decide) q1254 q1267 ?_
    refine g_astore (lv' := [some (.ref t), some (.int x1), some (.int x2), some (.int x3), some (.ref o), some (.ref q)]) O dX0_see_15 (Nat.le_of_ble_eq_true rfl) rfl rfl ?_
    refine g_iconst (v := 1) O dX0_see_17 (by decide) ?_
    exact gt_iret (f := fun u => u) (u := (z2, T, L, V1, P1)) O hQ (kOk.m hk) rfl rfl (w z2 hz) dX0_see_18
  · have hk := kOk.sa hk9
    obtain ⟨hl1, hl2, w⟩ := w
    refine g_i2l O dX0_see_10 ?_
    refine gl_last (nn := 0) (x := r) O ho hl1 (by decide) hl2 rfl dX0_see_11 ?_
    refine g_nV w (fun V9 w _ => ?_)
    refine g_goto (tgt := 19) O dX0_see_12 (by decide) ?_
    refine g_iconst (v := 0) O dX0_see_19 (by decide) ?_
    exact gt_iret (f := fun u => u) (u := (z, T, L, V9, P)) O hQ (kOk.m hk) rfl rfl w dX0_see_20
-- sent
abbrev rX0_sent (U0 : Nat) : Room := { frames := 1251, cells := 8 * U0, slots := 32 * U0, locals := 37423 }
set_option maxHeartbeats 4000000 in
theorem kX0_sent (l : Launch) (hfl : l.flags = flags0) (E : w_E) (U0 z : Nat) (T L : Nat → Nat) (V : w_V) (P : w_P) (t : Nat) (hT : T t = 2) (x1 : Int32) (x2 : Int32) (o : Nat) (ho : T o = 3003) (post : Int32 → Nat → (Nat → Nat) → (Nat → Nat) → w_V → w_P → Prop) (w : wX0_sent E.2.2.2.2 U0 z T L V P t x1 x2 o post) : vx_Met l yX0_sent (wsW_ yX0_sent cX0_sent 5 (some .int) [(0, 10, 13, 18)]) (rX0_sent U0) (va_Pc [.ref t, .int x1, .int x2, .ref o] (fun U => kenv E U ∧ wdW E (z, T, L, V, P) U.heap)) (va_Qi (qF1 post) (wdF E) (w_A E)) (xcX E (xF (fun _ _ _ _ _ _ _ => False))) (8 * U0) (32 * U0) (w_A E) := by
  refine g_startH (w := (z, T, L, V, P)) hfl (by decide +kernel) rfl [some (.ref t), some (.int x1), some (.int x2), some (.ref o), none] rfl (fun _ h => h) (Nat.le_of_ble_eq_true rfl) (fun X hl hRm hEe O hTb hQ => ?_)
  subst hl
  subst hEe
  have hk : kOk (rX0_sent U0) 0 0 U0 := ⟨by show 0 + 8 * U0 ≤ 8 * U0; omega, by show 0 + 32 * U0 ≤ 32 * U0; omega⟩
  unfold wX0_sent at w
  refine g_aload_n O dX0_sent_0 rfl ?_
  refine g_iconst (v := 0) O dX0_sent_1 (by decide) ?_
  refine g_aload_n O dX0_sent_2 rfl ?_
  refine g_iload_n O dX0_sent_3 rfl ?_
  refine g_iload_n O dX0_sent_4 rfl ?_
  obtain ⟨U2, e1, w⟩ := w
  have hk9 := kOk.eq hk e1
  refine gh_x1 (c := 2) (grx_V (lay := 1) (nA := 2) (As := [.int x1, .int x2]) (rest := [.int 0, .ref o]) O hRm (kX1_sent _ O.2.2.2.2.2.2.2.2 (cxE X) z T L V P t hT (x1) (x2) _ _ w) (lw_V q1681 q1682 q1683 q106 q1684) rfl rfl (by decide +kernel) ⟨Nat.le_of_ble_eq_true rfl, Nat.le_of_ble_eq_true rfl⟩ ck1 (by decide) rfl hT rfl rfl rfl (Nat.le_of_ble_eq_true rfl) dX0_sent_5 (kOk.fa hk9)) (fun q En z2 V1 P1 hz w => ?_) (fun r V1 w => ?_)
  · have hk := kOk.sa hk9
    obtain ⟨rfl, w⟩ := w
    refine gh_catch1 O hTb (by decide) (by decide) q1254 q1267 ?_
    refine g_astore (lv' := [some (.ref t), some (.int x1), some (.int x2), some (.ref o), some (.ref q)]) O dX0_sent_13 (Nat.le_of_ble_eq_true rfl) rfl rfl ?_
    refine g_iconst (v := 1) O dX0_sent_15 (by decide) ?_
    exact gt_iret (f := fun u => u) (u := (z2, T, L, V1, P1)) O hQ (kOk.m hk) rfl rfl (w z2 hz) dX0_sent_16
  · have hk := kOk.sa hk9
    obtain ⟨hl1, hl2, w⟩ := w
    refine g_i2l O dX0_sent_8 ?_
    refine gl_last (nn := 0) (x := r) O ho hl1 (by decide) hl2 rfl dX0_sent_9 ?_
    refine g_nV w (fun V9 w _ => ?_)
    refine g_goto (tgt := 17) O dX0_sent_10 (by decide) ?_
    refine g_iconst (v := 0) O dX0_sent_17 (by decide) ?_
    exact gt_iret (f := fun u => u) (u := (z, T, L, V9, P)) O hQ (kOk.m hk) rfl rfl w dX0_sent_18
-- game
abbrev rX0_game (U0 : Nat) : Room := { frames := 1252, cells := 8 * U0, slots := 32 * U0, locals := 37449 }
set_option maxHeartbeats 4000000 in
theorem kX0_game (l : Launch) (hfl : l.flags = flags0) (E : w_E) (U0 z : Nat) (T L : Nat → Nat) (V : w_V) (P : w_P) (t : Nat) (hT : T t = 2) (x1 : Int32) (x2 : Int32) (o : Nat) (ho : T o = 3003) (post : Int32 → Nat → (Nat → Nat) → (Nat → Nat) → w_V → w_P → Prop) (w : wX0_game E.2.2.2.2 U0 z T L V P t x1 x2 o post) : vx_Met l yX0_game (wsW_ yX0_game cX0_game 5 (some .int) [(0, 10, 13, 18)]) (rX0_game U0) (va_Pc [.ref t, .int x1, .int x2, .ref o] (fun U => kenv E U ∧ wdW E (z, T, L, V, P) U.heap)) (va_Qi (qF1 post) (wdF E) (w_A E)) (xcX E (xF (fun _ _ _ _ _ _ _ => False))) (8 * U0) (32 * U0) (w_A E) := by
  refine g_startH (w := (z, T, L, V, P)) hfl (by decide +kernel) rfl [some (.ref t), some (.int x1), some (.int x2), some (.ref o), none] rfl (fun _ h => h) (Nat.le_of_ble_eq_true rfl) (fun X hl hRm hEe O hTb hQ => ?_)
  subst hl
  subst hEe
  have hk : kOk (rX0_game U0) 0 0 U0 := ⟨by show 0 + 8 * U0 ≤ 8 * U0; omega, by show 0 + 32 * U0 ≤ 32 * U0; omega⟩
  unfold wX0_game at w
  refine g_aload_n O dX0_game_0 rfl ?_
  refine g_iconst (v := 0) O dX0_game_1 (by decide) ?_
  refine g_aload_n O dX0_game_2 rfl ?_
  refine g_iload_n O dX0_game_3 rfl ?_
  refine g_iload_n O dX0_game_4 rfl ?_
  obtain ⟨c, U2, e1, w⟩ := w
  have hk9 := kOk.eq hk e1
  refine gh_fi (grx_V (lay := 1) (nA := 2) (As := [.int x1, .int x2]) (rest := [.int 0, .ref o]) O hRm (kFX1_game _ O.2.2.2.2.2.2.2.2 (cxE X) _ _ _ _ _ _ t hT (x1) (x2) _ _ w) (lw_V q1692 q1693 q1694 q106 q1695) rfl rfl (by decide +kernel) ⟨Nat.le_of_ble_eq_true rfl, Nat.le_of_ble_eq_true rfl⟩ ck1 (by decide) rfl hT rfl rfl rfl (Nat.le_of_ble_eq_true rfl) dX0_game_5 (kOk.fa hk9)) (fun q En z T L V1 P1 w => ?_) (fun r z T L V1 P1 w => ?_)
  · have hk := kOk.sa hk9
    obtain ⟨rfl, w⟩ := w
    refine gh_catch1 O hTb (by decide) (by decide) q1254 q1267 ?_
    refine g_astore (lv' := [some (.ref t), some (.int x1), some (.int x2), some (.ref o), some (.ref q)]) O dX0_game_13 (Nat.le_of_ble_eq_true rfl) rfl rfl ?_
    refine g_iconst (v := 1) O dX0_game_15 (by decide) ?_
    exact gt_iret (f := fun u => u) (u := (z, T, L, V1, P1)) O hQ (kOk.m hk) rfl rfl w dX0_game_16
  · have hk := kOk.sa hk9
    obtain ⟨ho, hl1, hl2, w⟩ := w
    refine g_i2l O dX0_game_8 ?_
    refine gl_last (nn := 0) (x := r) O ho hl1 (by decide) hl2 rfl dX0_game_9 ?_
    refine g_nV w (fun V9 w _ => ?_)
    refine g_goto (tgt := 17) O dX0_game_10 (by decide) ?_
    refine g_iconst (v := 0) O dX0_game_17 (by decide) ?_
    exact gt_iret (f := fun u => u) (u := (z, T, L, V9, P1)) O hQ (kOk.m hk) rfl rfl w dX0_game_18
-- season
abbrev rX0_season (U0 : Nat) : Room := { frames := 1250, cells := 8 * U0, slots := 32 * U0, locals := 37406 }
set_option maxHeartbeats 4000000 in
theorem kX0_season (l : Launch) (hfl : l.flags = flags0) (E : w_E) (U0 z : Nat) (T L : Nat → Nat) (V : w_V) (P : w_P) (t : Nat) (hT : T t = 2) (x1 : Int32) (x2 : Int32) (x3 : Int32) (o : Nat) (ho : T o = 3003) (post : Int32 → Nat → (Nat → Nat) → (Nat → Nat) → w_V → w_P → Prop) (w : wX0_season E.2.2.2.2 U0 z T L V P t x1 x2 x3 o post) : vx_Met l yX0_season (wsW_ yX0_season cX0_season 6 (some .int) [(0, 12, 15, 18), (0, 12, 19, 13)]) (rX0_season U0) (va_Pc [.ref t, .int x1, .int x2, .int x3, .ref o] (fun U => kenv E U ∧ wdW E (z, T, L, V, P) U.heap)) (va_Qi (qF1 post) (wdF E) (w_A E)) (xcX E (xF (fun _ _ _ _ _ _ _ => False))) (8 * U0) (32 * U0) (w_A E) := by
  refine g_startH (w := (z, T, L, V, P)) hfl (by decide +kernel) rfl [some (.ref t), some (.int x1), some (.int x2), some (.int x3), some (.ref o), none] rfl (fun _ h => h) (Nat.le_of_ble_eq_true rfl) (fun X hl hRm hEe O hTb hQ => ?_)
  subst hl
  subst hEe
  have hk : kOk (rX0_season U0) 0 0 U0 := ⟨by show 0 + 8 * U0 ≤ 8 * U0; omega, by show 0 + 32 * U0 ≤ 32 * U0; omega⟩
  unfold wX0_season at w
  refine g_aload O dX0_season_0 rfl ?_
  refine g_iconst (v := 0) O dX0_season_2 (by decide) ?_
  refine g_aload_n O dX0_season_3 rfl ?_
  refine g_iload_n O dX0_season_4 rfl ?_
  refine g_iload_n O dX0_season_5 rfl ?_
  refine g_iload_n O dX0_season_6 rfl ?_
  obtain ⟨U2, e1, w⟩ := w
  have hk9 := kOk.eq hk e1
  refine gh_x1 (c := 2) (grx_V (lay := 1) (nA := 3) (As := [.int x1, .int x2, .int x3]) (rest := [.int 0, .ref o]) O hRm (kX1_season _ O.2.2.2.2.2.2.2.2 (cxE X) z T L V P t hT (x1) (x2) (x3) _ _ w) (lw_V q1703 q1704 q1705 q106 q1706) rfl rfl (by decide +kernel) ⟨Nat.le_of_ble_eq_true rfl, Nat.le_of_ble_eq_true rfl⟩ ck1 (by decide) rfl hT rfl rfl rfl (Nat.le_of_ble_eq_true rfl) dX0_season_7 (kOk.fa hk9)) (fun q En z2 V1 P1 hz w => ?_) (fun r V1 w => ?_)
  · have hk := kOk.sa hk9
    rcases w with ⟨rfl, w⟩ | ⟨rfl, w⟩
    · refine gh_catch1 O hTb (by decide) (by decide) q1254 q1267 ?_
      refine g_astore (lv' := [some (.ref t), some (.int x1), some (.int x2), some (.int x3), some (.ref o), some (.ref q)]) O dX0_season_15 (Nat.le_of_ble_eq_true rfl) rfl rfl ?_
      refine g_iconst (v := 1) O dX0_season_17 (by decide) ?_
      exact gt_iret (f := fun u => u) (u := (z2, T, L, V1, P1)) O hQ (kOk.m hk) rfl rfl (w z2 hz) dX0_season_18
    · refine gh_catch2 O hTb (by decide) q1254 (kenv.nN iae_nse_in O.2.2.2.2.2.1) (by decide) (by decide) q888 q179 ?_
      refine g_astore (lv' := [some (.ref t), some (.int x1), some (.int x2), some (.int x3), some (.ref o), some (.ref q)]) O dX0_season_19 (Nat.le_of_ble_eq_true rfl) rfl rfl ?_
      refine g_iconst (v := 2) O dX0_season_21 (by decide) ?_
      exact gt_iret (f := fun u => u) (u := (z2, T, L, V1, P1)) O hQ (kOk.m hk) rfl rfl (w z2 hz) dX0_season_22
  · have hk := kOk.sa hk9
    obtain ⟨hl1, hl2, w⟩ := w
    refine g_i2l O dX0_season_10 ?_
    refine gl_last (nn := 0) (x := r) O ho hl1 (by decide) hl2 rfl dX0_season_11 ?_
    refine g_nV w (fun V9 w _ => ?_)
    refine g_goto (tgt := 23) O dX0_season_12 (by decide) ?_
    refine g_iconst (v := 0) O dX0_season_23 (by decide) ?_
    exact gt_iret (f := fun u => u) (u := (z, T, L, V9, P)) O hQ (kOk.m hk) rfl rfl w dX0_season_24
