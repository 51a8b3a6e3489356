/-! printed by gen/fgen.py out of the given decode rows: their walks -/
set_option maxRecDepth 100000
-- X11_init
abbrev rFX11_init (U0 : Nat) : Room := { frames := 2, cells := 8 * U0, slots := 32 * U0, locals := 60 }
set_option maxHeartbeats 4000000 in
theorem kFX11_init (l : Launch) (hfl : l.flags = flags0) (E : w_E) (U0 z : Nat) (T L : Nat → Nat) (V : w_V) (P : w_P) (t : Nat) (hT : eT T t) (post : Nat → (Nat → Nat) → (Nat → Nat) → w_V → w_P → Prop) (w : wFX11_init E.2.2.2.2 U0 z T L V P t post) : Met l yX11_init (ws_ yX11_init cX11_init 1 none) (rFX11_init U0) (va_Pc [.ref t] (fun U => kenv E U ∧ wdW E (z, T, L, V, P) U.heap)) (va_Qv (qF0 post) (wdF E) (w_A E)) (8 * U0) (32 * U0) (w_A E) := by
  refine g_startN (w := (z, T, L, V, P)) hfl (by decide +kernel) rfl [some (.ref t)] rfl (fun _ h => h) (Nat.le_of_ble_eq_true rfl) (fun X hl hRm hEe O hI hQ => ?_)
  subst hl
  subst hEe
  have hk : kOk (rFX11_init U0) 0 0 U0 := ⟨by show 0 + 8 * U0 ≤ 8 * U0; omega, by show 0 + 32 * U0 ≤ 32 * U0; omega⟩
  unfold wFX11_init at w
  refine g_aload_n O dX11_init_0 rfl ?_
  refine gc_objInit O hRm q1109 (Nat.le_of_ble_eq_true rfl) (Nat.le_of_ble_eq_true rfl) rfl dX11_init_1 ?_
  exact gm2_vret O hQ (kOk.m hk) w dX11_init_4
-- X12_init
abbrev rFX12_init (U0 : Nat) : Room := { frames := 4, cells := 8 * U0, slots := 32 * U0, locals := 80 }
set_option maxHeartbeats 4000000 in
theorem kFX12_init (l : Launch) (hfl : l.flags = flags0) (E : w_E) (U0 z : Nat) (T L : Nat → Nat) (V : w_V) (P : w_P) (t : Nat) (hT : T t = 9) (x1 : Int32) (post : Nat → (Nat → Nat) → (Nat → Nat) → w_V → w_P → Prop) (w : wFX12_init E.2.2.2.2 U0 z T L V P t x1 post) : Met l yX12_init (ws_ yX12_init cX12_init 2 none) (rFX12_init U0) (va_Pc [.ref t, .int x1] (fun U => kenv E U ∧ wdW E (z, T, L, V, P) U.heap)) (va_Qv (qF0 post) (wdF E) (w_A E)) (8 * U0) (32 * U0) (w_A E) := by
  refine g_startN (w := (z, T, L, V, P)) hfl (by decide +kernel) rfl [some (.ref t), some (.int x1)] rfl (fun _ h => h) (Nat.le_of_ble_eq_true rfl) (fun X hl hRm hEe O hI hQ => ?_)
  subst hl
  subst hEe
  have hk : kOk (rFX12_init U0) 0 0 U0 := ⟨by show 0 + 8 * U0 ≤ 8 * U0; omega, by show 0 + 32 * U0 ≤ 32 * U0; omega⟩
  unfold wFX12_init at w
  refine g_aload_n O dX12_init_0 rfl ?_
  refine g_rv0 (gr_IN (nA := 0) (As := []) (rest := []) O hRm (kX11_init _ O.2.2.2.2.2.2.2.2 (cxE X) z T L V P t) (lw_meth q1108) q1106 q1107 q138 rfl rfl rfl (by decide +kernel) ⟨Nat.le_of_ble_eq_true rfl, Nat.le_of_ble_eq_true rfl⟩ rfl rfl rfl (Nat.le_of_ble_eq_true rfl) dX12_init_1 (kOk.f0 hk)) (fun _ => ?_)
  have hk := kOk.s0 hk
  refine g_aload_n O dX12_init_4 rfl ?_
  refine g_iload_n O dX12_init_5 rfl ?_
  refine gx_putIF (lay := 8) (j := 0) (ty := .int) (x := x1) O hI ck8 (by decide) rfl rfl (by decide) hT q1110 rfl rfl rfl rfl rfl dX12_init_6 ?_
  refine g_nV w (fun V1 w _ => ?_)
  exact gm2_vret O hQ (kOk.m hk) w dX12_init_9
-- X13_init
abbrev rFX13_init (U0 : Nat) : Room := { frames := 4, cells := 8 * U0, slots := 32 * U0, locals := 80 }
set_option maxHeartbeats 4000000 in
theorem kFX13_init (l : Launch) (hfl : l.flags = flags0) (E : w_E) (U0 z : Nat) (T L : Nat → Nat) (V : w_V) (P : w_P) (t : Nat) (hT : T t = 10) (x1 : Option Nat) (post : Nat → (Nat → Nat) → (Nat → Nat) → w_V → w_P → Prop) (w : wFX13_init E.2.2.2.2 U0 z T L V P t x1 post) : Met l yX13_init (ws_ yX13_init cX13_init 2 none) (rFX13_init U0) (va_Pc [.ref t, va_rf x1] (fun U => kenv E U ∧ wdW E (z, T, L, V, P) U.heap)) (va_Qv (qF0 post) (wdF E) (w_A E)) (8 * U0) (32 * U0) (w_A E) := by
  refine g_startN (w := (z, T, L, V, P)) hfl (by decide +kernel) rfl [some (.ref t), some (va_rf x1)] rfl (fun _ h => h) (by cases x1 <;> exact Nat.le_of_ble_eq_true rfl) (fun X hl hRm hEe O hI hQ => ?_)
  subst hl
  subst hEe
  have hk : kOk (rFX13_init U0) 0 0 U0 := ⟨by show 0 + 8 * U0 ≤ 8 * U0; omega, by show 0 + 32 * U0 ≤ 32 * U0; omega⟩
  unfold wFX13_init at w
  refine g_aload_n O dX13_init_0 rfl ?_
  refine g_rv0 (gr_IN (nA := 0) (As := []) (rest := []) O hRm (kX11_init _ O.2.2.2.2.2.2.2.2 (cxE X) z T L V P t) (lw_meth q1108) q1141 q1107 q138 rfl rfl rfl (by decide +kernel) ⟨Nat.le_of_ble_eq_true rfl, Nat.le_of_ble_eq_true rfl⟩ rfl rfl rfl (Nat.le_of_ble_eq_true rfl) dX13_init_1 (kOk.f0 hk)) (fun _ => ?_)
  have hk := kOk.s0 hk
  refine g_aload_n O dX13_init_4 rfl ?_
  refine g_aload_nq O dX13_init_5 rfl ?_
  refine gx_putRF (lay := 9) (j := 0) (x := x1) O hI ck9 (by decide) rfl rfl (by decide) hT q1142 rfl rfl rfl (by first | exact Or.inl ⟨_, rfl⟩ | exact Or.inr ⟨_, rfl⟩) dX13_init_6 ?_
  refine g_nP w (fun P1 w _ => ?_)
  exact gm2_vret O hQ (kOk.m hk) w dX13_init_9
-- X14_init
abbrev rFX14_init (U0 : Nat) : Room := { frames := 4, cells := 8 * U0, slots := 32 * U0, locals := 80 }
set_option maxHeartbeats 4000000 in
theorem kFX14_init (l : Launch) (hfl : l.flags = flags0) (E : w_E) (U0 z : Nat) (T L : Nat → Nat) (V : w_V) (P : w_P) (t : Nat) (hT : T t = 11) (x1 : Int32) (x2 : Nat) (hx2 : eT T x2) (x3 : Nat) (hx3 : eT T x3) (post : Nat → (Nat → Nat) → (Nat → Nat) → w_V → w_P → Prop) (w : wFX14_init E.2.2.2.2 U0 z T L V P t x1 x2 x3 post) : Met l yX14_init (ws_ yX14_init cX14_init 4 none) (rFX14_init U0) (va_Pc [.ref t, .int x1, .ref x2, .ref x3] (fun U => kenv E U ∧ wdW E (z, T, L, V, P) U.heap)) (va_Qv (qF0 post) (wdF E) (w_A E)) (8 * U0) (32 * U0) (w_A E) := by
  refine g_startN (w := (z, T, L, V, P)) hfl (by decide +kernel) rfl [some (.ref t), some (.int x1), some (.ref x2), some (.ref x3)] rfl (fun _ h => h) (Nat.le_of_ble_eq_true rfl) (fun X hl hRm hEe O hI hQ => ?_)
  subst hl
  subst hEe
  have hk : kOk (rFX14_init U0) 0 0 U0 := ⟨by show 0 + 8 * U0 ≤ 8 * U0; omega, by show 0 + 32 * U0 ≤ 32 * U0; omega⟩
  unfold wFX14_init at w
  refine g_aload_n O dX14_init_0 rfl ?_
  refine g_rv0 (gr_IN (nA := 0) (As := []) (rest := []) O hRm (kX11_init _ O.2.2.2.2.2.2.2.2 (cxE X) z T L V P t) (lw_meth q1108) q1168 q1107 q138 rfl rfl rfl (by decide +kernel) ⟨Nat.le_of_ble_eq_true rfl, Nat.le_of_ble_eq_true rfl⟩ rfl rfl rfl (Nat.le_of_ble_eq_true rfl) dX14_init_1 (kOk.f0 hk)) (fun _ => ?_)
  have hk := kOk.s0 hk
  refine g_aload_n O dX14_init_4 rfl ?_
  refine g_iload_n O dX14_init_5 rfl ?_
  obtain ⟨hz2, hf1, w⟩ := w
  refine gx_putIF (lay := 10) (j := 0) (ty := .char) (x := x1) O hI ck10 (by decide) rfl rfl (by decide) hT q1169 rfl rfl rfl hz2 hf1 dX14_init_6 ?_
  refine g_nV w (fun V3 w _ => ?_)
  refine g_aload_n O dX14_init_9 rfl ?_
  refine g_aload_n O dX14_init_10 rfl ?_
  refine gx_putRF (lay := 10) (j := 1) (x := (some x2)) O hI ck10 (by decide) rfl rfl (by decide) hT q1170 rfl rfl rfl (by first | exact Or.inl ⟨_, rfl⟩ | exact Or.inr ⟨_, rfl⟩) dX14_init_11 ?_
  refine g_nP w (fun P4 w _ => ?_)
  refine g_aload_n O dX14_init_14 rfl ?_
  refine g_aload_n O dX14_init_15 rfl ?_
  refine gx_putRF (lay := 10) (j := 2) (x := (some x3)) O hI ck10 (by decide) rfl rfl (by decide) hT q1171 rfl rfl rfl (by first | exact Or.inl ⟨_, rfl⟩ | exact Or.inr ⟨_, rfl⟩) dX14_init_16 ?_
  refine g_nP w (fun P5 w _ => ?_)
  exact gm2_vret O hQ (kOk.m hk) w dX14_init_19
-- X15_init
abbrev rFX15_init (U0 : Nat) : Room := { frames := 4, cells := 8 * U0, slots := 32 * U0, locals := 80 }
set_option maxHeartbeats 4000000 in
theorem kFX15_init (l : Launch) (hfl : l.flags = flags0) (E : w_E) (U0 z : Nat) (T L : Nat → Nat) (V : w_V) (P : w_P) (t : Nat) (hT : T t = 12) (x1 : Nat) (hx1 : eT T x1) (post : Nat → (Nat → Nat) → (Nat → Nat) → w_V → w_P → Prop) (w : wFX15_init E.2.2.2.2 U0 z T L V P t x1 post) : Met l yX15_init (ws_ yX15_init cX15_init 2 none) (rFX15_init U0) (va_Pc [.ref t, .ref x1] (fun U => kenv E U ∧ wdW E (z, T, L, V, P) U.heap)) (va_Qv (qF0 post) (wdF E) (w_A E)) (8 * U0) (32 * U0) (w_A E) := by
  refine g_startN (w := (z, T, L, V, P)) hfl (by decide +kernel) rfl [some (.ref t), some (.ref x1)] rfl (fun _ h => h) (Nat.le_of_ble_eq_true rfl) (fun X hl hRm hEe O hI hQ => ?_)
  subst hl
  subst hEe
  have hk : kOk (rFX15_init U0) 0 0 U0 := ⟨by show 0 + 8 * U0 ≤ 8 * U0; omega, by show 0 + 32 * U0 ≤ 32 * U0; omega⟩
  unfold wFX15_init at w
  refine g_aload_n O dX15_init_0 rfl ?_
  refine g_rv0 (gr_IN (nA := 0) (As := []) (rest := []) O hRm (kX11_init _ O.2.2.2.2.2.2.2.2 (cxE X) z T L V P t) (lw_meth q1108) q1188 q1107 q138 rfl rfl rfl (by decide +kernel) ⟨Nat.le_of_ble_eq_true rfl, Nat.le_of_ble_eq_true rfl⟩ rfl rfl rfl (Nat.le_of_ble_eq_true rfl) dX15_init_1 (kOk.f0 hk)) (fun _ => ?_)
  have hk := kOk.s0 hk
  refine g_aload_n O dX15_init_4 rfl ?_
  refine g_aload_n O dX15_init_5 rfl ?_
  refine gx_putRF (lay := 11) (j := 0) (x := (some x1)) O hI ck11 (by decide) rfl rfl (by decide) hT q1189 rfl rfl rfl (by first | exact Or.inl ⟨_, rfl⟩ | exact Or.inr ⟨_, rfl⟩) dX15_init_6 ?_
  refine g_nP w (fun P1 w _ => ?_)
  exact gm2_vret O hQ (kOk.m hk) w dX15_init_9
-- X16_init
abbrev rFX16_init (U0 : Nat) : Room := { frames := 2, cells := 8 * U0, slots := 32 * U0, locals := 60 }
set_option maxHeartbeats 4000000 in
theorem kFX16_init (l : Launch) (hfl : l.flags = flags0) (E : w_E) (U0 z : Nat) (T L : Nat → Nat) (V : w_V) (P : w_P) (t : Nat) (hT : jT T t) (x1 : Int32) (x2 : Int32) (dx3 ax3 kx3 nx3 : Nat) (hx3 : hArr T L dx3 ax3 kx3 nx3 0) (gx3 : nx3 < 2147483648) (post : Nat → (Nat → Nat) → (Nat → Nat) → w_V → w_P → Prop) (w : wFX16_init E.2.2.2.2 U0 z T L V P t x1 x2 dx3 ax3 kx3 nx3 post) : Met l yX16_init (ws_ yX16_init cX16_init 4 none) (rFX16_init U0) (va_Pc [.ref t, .int x1, .int x2, .ref dx3] (fun U => kenv E U ∧ wdW E (z, T, L, V, P) U.heap)) (va_Qv (qF0 post) (wdF E) (w_A E)) (8 * U0) (32 * U0) (w_A E) := by
  refine g_startN (w := (z, T, L, V, P)) hfl (by decide +kernel) rfl [some (.ref t), some (.int x1), some (.int x2), some (.ref dx3)] rfl (fun _ h => h) (Nat.le_of_ble_eq_true rfl) (fun X hl hRm hEe O hI hQ => ?_)
  subst hl
  subst hEe
  have hk : kOk (rFX16_init U0) 0 0 U0 := ⟨by show 0 + 8 * U0 ≤ 8 * U0; omega, by show 0 + 32 * U0 ≤ 32 * U0; omega⟩
  unfold wFX16_init at w
  refine g_aload_n O dX16_init_0 rfl ?_
  refine gc_objInit O hRm q1218 (Nat.le_of_ble_eq_true rfl) (Nat.le_of_ble_eq_true rfl) rfl dX16_init_1 ?_
  refine g_aload_n O dX16_init_4 rfl ?_
  refine g_iload_n O dX16_init_5 rfl ?_
  refine gj_putIF (j := 0) (x := x1) O hI (by decide) hT q1219 dX16_init_6 ?_
  refine g_nV w (fun V1 w _ => ?_)
  refine g_aload_n O dX16_init_9 rfl ?_
  refine g_iload_n O dX16_init_10 rfl ?_
  refine gj_putIF (j := 1) (x := x2) O hI (by decide) hT q1221 dX16_init_11 ?_
  refine g_nV w (fun V2 w _ => ?_)
  refine g_aload_n O dX16_init_14 rfl ?_
  refine g_aload_n O dX16_init_15 rfl ?_
  refine gj_putRF (b := dx3) O hI hT q1224 dX16_init_16 ?_
  refine g_nP w (fun P3 w _ => ?_)
  exact gm2_vret O hQ (kOk.m hk) w dX16_init_19
-- X17_init
abbrev rFX17_init (U0 : Nat) : Room := { frames := 3, cells := 8 * U0, slots := 32 * U0, locals := 83 }
set_option maxHeartbeats 4000000 in
theorem kFX17_init (l : Launch) (hfl : l.flags = flags0) (E : w_E) (U0 z : Nat) (T L : Nat → Nat) (V : w_V) (P : w_P) (t : Nat) (hT : T t = 14) (x1 : Int32) (x2 : Int32) (dx3 ax3 kx3 nx3 : Nat) (hx3 : hArr T L dx3 ax3 kx3 nx3 0) (gx3 : nx3 < 2147483648) (post : Nat → (Nat → Nat) → (Nat → Nat) → w_V → w_P → Prop) (w : wFX17_init E.2.2.2.2 U0 z T L V P t x1 x2 dx3 ax3 kx3 nx3 post) : Met l yX17_init (ws_ yX17_init cX17_init 4 none) (rFX17_init U0) (va_Pc [.ref t, .int x1, .int x2, .ref dx3] (fun U => kenv E U ∧ wdW E (z, T, L, V, P) U.heap)) (va_Qv (qF0 post) (wdF E) (w_A E)) (8 * U0) (32 * U0) (w_A E) := by
  refine g_startN (w := (z, T, L, V, P)) hfl (by decide +kernel) rfl [some (.ref t), some (.int x1), some (.int x2), some (.ref dx3)] rfl (fun _ h => h) (Nat.le_of_ble_eq_true rfl) (fun X hl hRm hEe O hI hQ => ?_)
  subst hl
  subst hEe
  have hk : kOk (rFX17_init U0) 0 0 U0 := ⟨by show 0 + 8 * U0 ≤ 8 * U0; omega, by show 0 + 32 * U0 ≤ 32 * U0; omega⟩
  unfold wFX17_init at w
  refine g_aload_n O dX17_init_0 rfl ?_
  refine g_iload_n O dX17_init_1 rfl ?_
  refine g_iload_n O dX17_init_2 rfl ?_
  refine g_aload_n O dX17_init_3 rfl ?_
  obtain ⟨c1, U2, e3, w⟩ := w
  have hk9 := kOk.eq hk e3
  refine g_mv (gr_I (nA := 3) (As := [.int x1, .int x2, .ref dx3]) (rest := []) O hRm (kFX16_init _ O.2.2.2.2.2.2.2.2 (cxE X) _ _ _ _ _ _ t (Or.inr (Or.inl hT)) (x1) (x2) (dx3) ax3 kx3 nx3 hx3 gx3 _ w) (lw_meth q1217) q1215 q1216 q143 rfl rfl rfl (by decide +kernel) ⟨Nat.le_of_ble_eq_true rfl, Nat.le_of_ble_eq_true rfl⟩ rfl rfl rfl (Nat.le_of_ble_eq_true rfl) dX17_init_4 (kOk.fa hk9)) (fun z T L V4 P5 w => ?_)
  have hk6 := kOk.sa hk9
  exact gm2_vret O hQ (kOk.m hk6) w dX17_init_7
-- X18_init
abbrev rFX18_init (U0 : Nat) : Room := { frames := 3, cells := 8 * U0, slots := 32 * U0, locals := 83 }
set_option maxHeartbeats 4000000 in
theorem kFX18_init (l : Launch) (hfl : l.flags = flags0) (E : w_E) (U0 z : Nat) (T L : Nat → Nat) (V : w_V) (P : w_P) (t : Nat) (hT : T t = 15) (x1 : Int32) (x2 : Int32) (dx3 ax3 kx3 nx3 : Nat) (hx3 : hArr T L dx3 ax3 kx3 nx3 0) (gx3 : nx3 < 2147483648) (post : Nat → (Nat → Nat) → (Nat → Nat) → w_V → w_P → Prop) (w : wFX18_init E.2.2.2.2 U0 z T L V P t x1 x2 dx3 ax3 kx3 nx3 post) : Met l yX18_init (ws_ yX18_init cX18_init 4 none) (rFX18_init U0) (va_Pc [.ref t, .int x1, .int x2, .ref dx3] (fun U => kenv E U ∧ wdW E (z, T, L, V, P) U.heap)) (va_Qv (qF0 post) (wdF E) (w_A E)) (8 * U0) (32 * U0) (w_A E) := by
  refine g_startN (w := (z, T, L, V, P)) hfl (by decide +kernel) rfl [some (.ref t), some (.int x1), some (.int x2), some (.ref dx3)] rfl (fun _ h => h) (Nat.le_of_ble_eq_true rfl) (fun X hl hRm hEe O hI hQ => ?_)
  subst hl
  subst hEe
  have hk : kOk (rFX18_init U0) 0 0 U0 := ⟨by show 0 + 8 * U0 ≤ 8 * U0; omega, by show 0 + 32 * U0 ≤ 32 * U0; omega⟩
  unfold wFX18_init at w
  refine g_aload_n O dX18_init_0 rfl ?_
  refine g_iload_n O dX18_init_1 rfl ?_
  refine g_iload_n O dX18_init_2 rfl ?_
  refine g_aload_n O dX18_init_3 rfl ?_
  obtain ⟨c1, U2, e3, w⟩ := w
  have hk9 := kOk.eq hk e3
  refine g_mv (gr_I (nA := 3) (As := [.int x1, .int x2, .ref dx3]) (rest := []) O hRm (kFX16_init _ O.2.2.2.2.2.2.2.2 (cxE X) _ _ _ _ _ _ t (Or.inr (Or.inr hT)) (x1) (x2) (dx3) ax3 kx3 nx3 hx3 gx3 _ w) (lw_meth q1217) q1237 q1216 q143 rfl rfl rfl (by decide +kernel) ⟨Nat.le_of_ble_eq_true rfl, Nat.le_of_ble_eq_true rfl⟩ rfl rfl rfl (Nat.le_of_ble_eq_true rfl) dX18_init_4 (kOk.fa hk9)) (fun z T L V4 P5 w => ?_)
  have hk6 := kOk.sa hk9
  exact gm2_vret O hQ (kOk.m hk6) w dX18_init_7
-- X10_init
abbrev rFX10_init (U0 : Nat) : Room := { frames := 5, cells := 8 * U0, slots := 32 * U0, locals := 70 }
set_option maxHeartbeats 4000000 in
theorem kFX10_init (l : Launch) (hfl : l.flags = flags0) (E : w_E) (U0 z : Nat) (T L : Nat → Nat) (V : w_V) (P : w_P) (t : Nat) (hT : T t = 4016) (x1 : Int32) (x2 : Int32) (post : Nat → (Nat → Nat) → (Nat → Nat) → w_V → w_P → Prop) (w : wFX10_init E.2.2.2.2 U0 z T L V P t x1 x2 post) : Met l yX10_init (ws_ yX10_init cX10_init 3 none) (rFX10_init U0) (va_Pc [.ref t, .int x1, .int x2] (fun U => kenv E U ∧ wdW E (z, T, L, V, P) U.heap)) (va_Qv (qF0 post) (wdF E) (w_A E)) (8 * U0) (32 * U0) (w_A E) := by
  refine g_startN (w := (z, T, L, V, P)) hfl (by decide +kernel) rfl [some (.ref t), some (.int x1), some (.int x2)] rfl (fun _ h => h) (Nat.le_of_ble_eq_true rfl) (fun X hl hRm hEe O hI hQ => ?_)
  subst hl
  subst hEe
  have hk : kOk (rFX10_init U0) 0 0 U0 := ⟨by show 0 + 8 * U0 ≤ 8 * U0; omega, by show 0 + 32 * U0 ≤ 32 * U0; omega⟩
  unfold wFX10_init at w
  refine g_aload_n O dX10_init_0 rfl ?_
  refine gc_excInit O hRm hT (Nat.le_of_ble_eq_true rfl) (Nat.le_of_ble_eq_true rfl) rfl dX10_init_1 (fun T V1 hT2 hV3 => ?_)
  replace w := w T V1 hT2 hV3
  refine g_aload_n O dX10_init_4 rfl ?_
  refine g_iload_n O dX10_init_5 rfl ?_
  refine gx_putIF (lay := 16) (j := 0) (ty := .int) (x := x1) O hI ck16 (by decide) rfl rfl (by decide) (by rw [hT2]; exact up1_s) q1045 rfl rfl rfl rfl rfl dX10_init_6 ?_
  refine g_nV w (fun V4 w _ => ?_)
  refine g_aload_n O dX10_init_9 rfl ?_
  refine g_iload_n O dX10_init_10 rfl ?_
  refine gx_putIF (lay := 16) (j := 1) (ty := .int) (x := x2) O hI ck16 (by decide) rfl rfl (by decide) (by rw [hT2]; exact up1_s) q1047 rfl rfl rfl rfl rfl dX10_init_11 ?_
  refine g_nV w (fun V5 w _ => ?_)
  exact gm2_vret O hQ (kOk.m hk) w dX10_init_14
-- X6_init
abbrev rFX6_init (U0 : Nat) : Room := { frames := 2, cells := 8 * U0, slots := 32 * U0, locals := 60 }
set_option maxHeartbeats 4000000 in
theorem kFX6_init (l : Launch) (hfl : l.flags = flags0) (E : w_E) (U0 z : Nat) (T L : Nat → Nat) (V : w_V) (P : w_P) (t : Nat) (hT : T t = 56) (post : Nat → (Nat → Nat) → (Nat → Nat) → w_V → w_P → Prop) (w : wFX6_init E.2.2.2.2 U0 z T L V P t post) : Met l yX6_init (ws_ yX6_init cX6_init 1 none) (rFX6_init U0) (va_Pc [.ref t] (fun U => kenv E U ∧ wdW E (z, T, L, V, P) U.heap)) (va_Qv (qF0 post) (wdF E) (w_A E)) (8 * U0) (32 * U0) (w_A E) := by
  refine g_startN (w := (z, T, L, V, P)) hfl (by decide +kernel) rfl [some (.ref t)] rfl (fun _ h => h) (Nat.le_of_ble_eq_true rfl) (fun X hl hRm hEe O hI hQ => ?_)
  subst hl
  subst hEe
  have hk : kOk (rFX6_init U0) 0 0 U0 := ⟨by show 0 + 8 * U0 ≤ 8 * U0; omega, by show 0 + 32 * U0 ≤ 32 * U0; omega⟩
  unfold wFX6_init at w
  refine g_aload_n O dX6_init_0 rfl ?_
  refine gc_objInit O hRm q582 (Nat.le_of_ble_eq_true rfl) (Nat.le_of_ble_eq_true rfl) rfl dX6_init_1 ?_
  refine g_aload_n O dX6_init_4 rfl ?_
  refine g_iconst (v := 5) O dX6_init_5 (by decide) ?_
  obtain ⟨U6, e7, w⟩ := w
  have hk9 := kOk.eq hk e7
  refine gq_newI (N := 5) (u := 1) O hRm q249 rfl (by decide) hk9 (by decide) (by decide) dX6_init_6 (fun o1 z T L V2 P3 hk4 hn5 => ?_)
  replace w := w o1 z T L V2 P3 hn5
  obtain ⟨h8, w⟩ := w
  refine gx_putRF (lay := 55) (j := 0) (x := (some o1)) O hI ck5 (by decide) rfl rfl (by decide) h8 q583 rfl rfl rfl (by first | exact Or.inl ⟨_, rfl⟩ | exact Or.inr ⟨_, rfl⟩) dX6_init_8 ?_
  refine g_nP w (fun P9 w _ => ?_)
  refine g_aload_n O dX6_init_11 rfl ?_
  refine g_bipush (v := 15) O dX6_init_12 (by decide) ?_
  obtain ⟨U15, e16, w⟩ := w
  have hk9 := kOk.eq hk4 e16
  refine gq_newI (N := 15) (u := 1) O hRm q249 rfl (by decide) hk9 (by decide) (by decide) dX6_init_14 (fun o10 z T L V11 P12 hk13 hn14 => ?_)
  replace w := w o10 z T L V11 P12 hn14
  obtain ⟨h17, w⟩ := w
  refine gx_putRF (lay := 55) (j := 1) (x := (some o10)) O hI ck5 (by decide) rfl rfl (by decide) h17 q586 rfl rfl rfl (by first | exact Or.inl ⟨_, rfl⟩ | exact Or.inr ⟨_, rfl⟩) dX6_init_16 ?_
  refine g_nP w (fun P18 w _ => ?_)
  refine g_aload_n O dX6_init_19 rfl ?_
  refine g_bipush (v := 12) O dX6_init_20 (by decide) ?_
  obtain ⟨U24, e25, w⟩ := w
  have hk9 := kOk.eq hk13 e25
  refine gq_newI (N := 12) (u := 1) O hRm q249 rfl (by decide) hk9 (by decide) (by decide) dX6_init_22 (fun o19 z T L V20 P21 hk22 hn23 => ?_)
  replace w := w o19 z T L V20 P21 hn23
  obtain ⟨h26, w⟩ := w
  refine gx_putRF (lay := 55) (j := 2) (x := (some o19)) O hI ck5 (by decide) rfl rfl (by decide) h26 q589 rfl rfl rfl (by first | exact Or.inl ⟨_, rfl⟩ | exact Or.inr ⟨_, rfl⟩) dX6_init_24 ?_
  refine g_nP w (fun P27 w _ => ?_)
  refine g_aload_n O dX6_init_27 rfl ?_
  refine g_bipush (v := 18) O dX6_init_28 (by decide) ?_
  obtain ⟨U33, e34, w⟩ := w
  have hk9 := kOk.eq hk22 e34
  refine gq_newI (N := 18) (u := 1) O hRm q249 rfl (by decide) hk9 (by decide) (by decide) dX6_init_30 (fun o28 z T L V29 P30 hk31 hn32 => ?_)
  replace w := w o28 z T L V29 P30 hn32
  obtain ⟨h35, w⟩ := w
  refine gx_putRF (lay := 55) (j := 3) (x := (some o28)) O hI ck5 (by decide) rfl rfl (by decide) h35 q590 rfl rfl rfl (by first | exact Or.inl ⟨_, rfl⟩ | exact Or.inr ⟨_, rfl⟩) dX6_init_32 ?_
  refine g_nP w (fun P36 w _ => ?_)
  refine gq_seal (c := 5) (by decide) rfl w (fun T V37 hT38 w => ?_)
  exact gm2_vret O hQ (kOk.m hk31) w dX6_init_35
-- X7_init
abbrev rFX7_init (U0 : Nat) : Room := { frames := 2, cells := 8 * U0, slots := 32 * U0, locals := 60 }
set_option maxHeartbeats 4000000 in
theorem kFX7_init (l : Launch) (hfl : l.flags = flags0) (E : w_E) (U0 z : Nat) (T L : Nat → Nat) (V : w_V) (P : w_P) (t : Nat) (hT : T t = 57) (x1 : Nat) (hx1 : T x1 = 3) (x2 : Nat) (hx2 : T x2 = 6) (post : Nat → (Nat → Nat) → (Nat → Nat) → w_V → w_P → Prop) (w : wFX7_init E.2.2.2.2 U0 z T L V P t x1 x2 post) : Met l yX7_init (ws_ yX7_init cX7_init 3 none) (rFX7_init U0) (va_Pc [.ref t, .ref x1, .ref x2] (fun U => kenv E U ∧ wdW E (z, T, L, V, P) U.heap)) (va_Qv (qF0 post) (wdF E) (w_A E)) (8 * U0) (32 * U0) (w_A E) := by
  refine g_startN (w := (z, T, L, V, P)) hfl (by decide +kernel) rfl [some (.ref t), some (.ref x1), some (.ref x2)] rfl (fun _ h => h) (Nat.le_of_ble_eq_true rfl) (fun X hl hRm hEe O hI hQ => ?_)
  subst hl
  subst hEe
  have hk : kOk (rFX7_init U0) 0 0 U0 := ⟨by show 0 + 8 * U0 ≤ 8 * U0; omega, by show 0 + 32 * U0 ≤ 32 * U0; omega⟩
  unfold wFX7_init at w
  refine g_aload_n O dX7_init_0 rfl ?_
  refine gc_objInit O hRm q738 (Nat.le_of_ble_eq_true rfl) (Nat.le_of_ble_eq_true rfl) rfl dX7_init_1 ?_
  refine g_aload_n O dX7_init_4 rfl ?_
  refine g_bipush (v := 35) O dX7_init_5 (by decide) ?_
  obtain ⟨U6, e7, w⟩ := w
  have hk9 := kOk.eq hk e7
  refine gq_newI (N := 35) (u := 2) O hRm q249 rfl (by decide) hk9 (by decide) (by decide) dX7_init_7 (fun o1 z T L V2 P3 hk4 hn5 => ?_)
  replace w := w o1 z T L V2 P3 hn5
  obtain ⟨h8, h9, h10, w⟩ := w
  refine gx_putRF (lay := 56) (j := 2) (x := (some o1)) O hI ck6 (by decide) rfl rfl (by decide) h8 q741 rfl rfl rfl (by first | exact Or.inl ⟨_, rfl⟩ | exact Or.inr ⟨_, rfl⟩) dX7_init_9 ?_
  refine g_nP w (fun P11 w _ => ?_)
  refine g_aload_n O dX7_init_12 rfl ?_
  refine g_bipush (v := 35) O dX7_init_13 (by decide) ?_
  obtain ⟨U17, e18, w⟩ := w
  have hk9 := kOk.eq hk4 e18
  refine gq_newI (N := 35) (u := 2) O hRm q249 rfl (by decide) hk9 (by decide) (by decide) dX7_init_15 (fun o12 z T L V13 P14 hk15 hn16 => ?_)
  replace w := w o12 z T L V13 P14 hn16
  obtain ⟨h19, h20, h21, w⟩ := w
  refine gx_putRF (lay := 56) (j := 3) (x := (some o12)) O hI ck6 (by decide) rfl rfl (by decide) h19 q743 rfl rfl rfl (by first | exact Or.inl ⟨_, rfl⟩ | exact Or.inr ⟨_, rfl⟩) dX7_init_17 ?_
  refine g_nP w (fun P22 w _ => ?_)
  refine g_aload_n O dX7_init_20 rfl ?_
  refine g_bipush (v := 30) O dX7_init_21 (by decide) ?_
  obtain ⟨U28, e29, w⟩ := w
  have hk9 := kOk.eq hk15 e29
  refine gq_newI (N := 30) (u := 1) O hRm q249 rfl (by decide) hk9 (by decide) (by decide) dX7_init_23 (fun o23 z T L V24 P25 hk26 hn27 => ?_)
  replace w := w o23 z T L V24 P25 hn27
  obtain ⟨h30, h31, h32, w⟩ := w
  refine gx_putRF (lay := 56) (j := 4) (x := (some o23)) O hI ck6 (by decide) rfl rfl (by decide) h30 q745 rfl rfl rfl (by first | exact Or.inl ⟨_, rfl⟩ | exact Or.inr ⟨_, rfl⟩) dX7_init_25 ?_
  refine g_nP w (fun P33 w _ => ?_)
  refine g_aload_n O dX7_init_28 rfl ?_
  refine g_bipush (v := 30) O dX7_init_29 (by decide) ?_
  obtain ⟨U39, e40, w⟩ := w
  have hk9 := kOk.eq hk26 e40
  refine gq_newI (N := 30) (u := 1) O hRm q249 rfl (by decide) hk9 (by decide) (by decide) dX7_init_31 (fun o34 z T L V35 P36 hk37 hn38 => ?_)
  replace w := w o34 z T L V35 P36 hn38
  obtain ⟨h41, h42, h43, w⟩ := w
  refine gx_putRF (lay := 56) (j := 5) (x := (some o34)) O hI ck6 (by decide) rfl rfl (by decide) h41 q747 rfl rfl rfl (by first | exact Or.inl ⟨_, rfl⟩ | exact Or.inr ⟨_, rfl⟩) dX7_init_33 ?_
  refine g_nP w (fun P44 w _ => ?_)
  refine g_aload_n O dX7_init_36 rfl ?_
  refine g_bipush (v := 30) O dX7_init_37 (by decide) ?_
  obtain ⟨U50, e51, w⟩ := w
  have hk9 := kOk.eq hk37 e51
  refine gq_newI (N := 30) (u := 1) O hRm q249 rfl (by decide) hk9 (by decide) (by decide) dX7_init_39 (fun o45 z T L V46 P47 hk48 hn49 => ?_)
  replace w := w o45 z T L V46 P47 hn49
  obtain ⟨h52, h53, h54, w⟩ := w
  refine gx_putRF (lay := 56) (j := 6) (x := (some o45)) O hI ck6 (by decide) rfl rfl (by decide) h52 q749 rfl rfl rfl (by first | exact Or.inl ⟨_, rfl⟩ | exact Or.inr ⟨_, rfl⟩) dX7_init_41 ?_
  refine g_nP w (fun P55 w _ => ?_)
  refine g_aload_n O dX7_init_44 rfl ?_
  refine g_bipush (v := 25) O dX7_init_45 (by decide) ?_
  obtain ⟨U61, e62, w⟩ := w
  have hk9 := kOk.eq hk48 e62
  refine gq_newI (N := 25) (u := 1) O hRm q249 rfl (by decide) hk9 (by decide) (by decide) dX7_init_47 (fun o56 z T L V57 P58 hk59 hn60 => ?_)
  replace w := w o56 z T L V57 P58 hn60
  obtain ⟨h63, h64, h65, w⟩ := w
  refine gx_putRF (lay := 56) (j := 7) (x := (some o56)) O hI ck6 (by decide) rfl rfl (by decide) h63 q751 rfl rfl rfl (by first | exact Or.inl ⟨_, rfl⟩ | exact Or.inr ⟨_, rfl⟩) dX7_init_49 ?_
  refine g_nP w (fun P66 w _ => ?_)
  refine g_aload_n O dX7_init_52 rfl ?_
  refine g_bipush (v := 6) O dX7_init_53 (by decide) ?_
  obtain ⟨U72, e73, w⟩ := w
  have hk9 := kOk.eq hk59 e73
  refine gq_newI (N := 6) (u := 1) O hRm q249 rfl (by decide) hk9 (by decide) (by decide) dX7_init_55 (fun o67 z T L V68 P69 hk70 hn71 => ?_)
  replace w := w o67 z T L V68 P69 hn71
  obtain ⟨h74, h75, h76, w⟩ := w
  refine gx_putRF (lay := 56) (j := 8) (x := (some o67)) O hI ck6 (by decide) rfl rfl (by decide) h74 q753 rfl rfl rfl (by first | exact Or.inl ⟨_, rfl⟩ | exact Or.inr ⟨_, rfl⟩) dX7_init_57 ?_
  refine g_nP w (fun P77 w _ => ?_)
  refine g_aload_n O dX7_init_60 rfl ?_
  refine g_bipush (v := 6) O dX7_init_61 (by decide) ?_
  obtain ⟨U83, e84, w⟩ := w
  have hk9 := kOk.eq hk70 e84
  refine gq_newI (N := 6) (u := 1) O hRm q249 rfl (by decide) hk9 (by decide) (by decide) dX7_init_63 (fun o78 z T L V79 P80 hk81 hn82 => ?_)
  replace w := w o78 z T L V79 P80 hn82
  obtain ⟨h85, h86, h87, w⟩ := w
  refine gx_putRF (lay := 56) (j := 9) (x := (some o78)) O hI ck6 (by decide) rfl rfl (by decide) h85 q755 rfl rfl rfl (by first | exact Or.inl ⟨_, rfl⟩ | exact Or.inr ⟨_, rfl⟩) dX7_init_65 ?_
  refine g_nP w (fun P88 w _ => ?_)
  refine g_aload_n O dX7_init_68 rfl ?_
  refine g_bipush (v := 30) O dX7_init_69 (by decide) ?_
  obtain ⟨U94, e95, w⟩ := w
  have hk9 := kOk.eq hk81 e95
  refine gq_newZ (N := 30) (u := 1) O hRm q730 rfl (by decide) hk9 (by decide) (by decide) dX7_init_71 (fun o89 z T L V90 P91 hk92 hn93 => ?_)
  replace w := w o89 z T L V90 P91 hn93
  obtain ⟨h96, h97, h98, w⟩ := w
  refine gx_putRF (lay := 56) (j := 10) (x := (some o89)) O hI ck6 (by decide) rfl rfl (by decide) h96 q757 rfl rfl rfl (by first | exact Or.inl ⟨_, rfl⟩ | exact Or.inr ⟨_, rfl⟩) dX7_init_73 ?_
  refine g_nP w (fun P99 w _ => ?_)
  refine gq_seal (c := 6) (by decide) rfl w (fun T V100 hT101 w => ?_)
  obtain ⟨h102, h103, w⟩ := w
  refine g_aload_n O dX7_init_76 rfl ?_
  refine g_aload_n O dX7_init_77 rfl ?_
  refine gx_putRF (lay := 6) (j := 0) (x := (some x1)) O hI ck6 (by decide) rfl rfl (by decide) hT101 q739 rfl rfl rfl (by first | exact Or.inl ⟨_, rfl⟩ | exact Or.inr ⟨_, rfl⟩) dX7_init_78 ?_
  refine g_nP w (fun P104 w _ => ?_)
  refine g_aload_n O dX7_init_81 rfl ?_
  refine g_aload_n O dX7_init_82 rfl ?_
  refine gx_putRF (lay := 6) (j := 1) (x := (some x2)) O hI ck6 (by decide) rfl rfl (by decide) hT101 q740 rfl rfl rfl (by first | exact Or.inl ⟨_, rfl⟩ | exact Or.inr ⟨_, rfl⟩) dX7_init_83 ?_
  refine g_nP w (fun P105 w _ => ?_)
  exact gm2_vret O hQ (kOk.m hk92) w dX7_init_86
-- J0_init
abbrev rFJ0_init (U0 : Nat) : Room := { frames := 2, cells := 8 * U0, slots := 32 * U0, locals := 60 }
set_option maxHeartbeats 4000000 in
theorem kFJ0_init (l : Launch) (hfl : l.flags = flags0) (E : w_E) (U0 z : Nat) (T L : Nat → Nat) (V : w_V) (P : w_P) (t : Nat) (hT : T t = 16) (post : Nat → (Nat → Nat) → (Nat → Nat) → w_V → w_P → Prop) (w : wFJ0_init E.2.2.2.2 U0 z T L V P t post) : Met l yJ0_init (ws_ yJ0_init cJ0_init 1 none) (rFJ0_init U0) (va_Pc [.ref t] (fun U => kenv E U ∧ wdW E (z, T, L, V, P) U.heap)) (va_Qv (qF0 post) (wdF E) (w_A E)) (8 * U0) (32 * U0) (w_A E) := by
  refine g_startN (w := (z, T, L, V, P)) hfl (by decide +kernel) rfl [some (.ref t)] rfl (fun _ h => h) (Nat.le_of_ble_eq_true rfl) (fun X hl hRm hEe O hI hQ => ?_)
  subst hl
  subst hEe
  have hk : kOk (rFJ0_init U0) 0 0 U0 := ⟨by show 0 + 8 * U0 ≤ 8 * U0; omega, by show 0 + 32 * U0 ≤ 32 * U0; omega⟩
  unfold wFJ0_init at w
  refine g_aload_n O dJ0_init_0 rfl ?_
  refine gc_objInit O hRm q172 (Nat.le_of_ble_eq_true rfl) (Nat.le_of_ble_eq_true rfl) rfl dJ0_init_1 ?_
  exact gm2_vret O hQ (kOk.m hk) w dJ0_init_4
-- J1_init
abbrev rFJ1_init (U0 : Nat) : Room := { frames := 3, cells := 8 * U0, slots := 32 * U0, locals := 80 }
set_option maxHeartbeats 4000000 in
theorem kFJ1_init (l : Launch) (hfl : l.flags = flags0) (E : w_E) (U0 z : Nat) (T L : Nat → Nat) (V : w_V) (P : w_P) (t : Nat) (hT : T t = 16) (post : Nat → (Nat → Nat) → (Nat → Nat) → w_V → w_P → Prop) (w : wFJ1_init E.2.2.2.2 U0 z T L V P t post) : Met l yJ1_init (ws_ yJ1_init cJ1_init 1 none) (rFJ1_init U0) (va_Pc [.ref t] (fun U => kenv E U ∧ wdW E (z, T, L, V, P) U.heap)) (va_Qv (qF0 post) (wdF E) (w_A E)) (8 * U0) (32 * U0) (w_A E) := by
  refine g_startN (w := (z, T, L, V, P)) hfl (by decide +kernel) rfl [some (.ref t)] rfl (fun _ h => h) (Nat.le_of_ble_eq_true rfl) (fun X hl hRm hEe O hI hQ => ?_)
  subst hl
  subst hEe
  have hk : kOk (rFJ1_init U0) 0 0 U0 := ⟨by show 0 + 8 * U0 ≤ 8 * U0; omega, by show 0 + 32 * U0 ≤ 32 * U0; omega⟩
  unfold wFJ1_init at w
  refine g_aload_n O dJ1_init_0 rfl ?_
  obtain ⟨c1, U2, e3, w⟩ := w
  have hk9 := kOk.eq hk e3
  refine g_mv (gr_I (nA := 0) (As := []) (rest := []) O hRm (kFJ0_init _ O.2.2.2.2.2.2.2.2 (cxE X) _ _ _ _ _ _ t hT _ w) (lw_meth q171) q169 q170 q108 rfl rfl rfl (by decide +kernel) ⟨Nat.le_of_ble_eq_true rfl, Nat.le_of_ble_eq_true rfl⟩ rfl rfl rfl (Nat.le_of_ble_eq_true rfl) dJ1_init_1 (kOk.fa hk9)) (fun z T L V4 P5 w => ?_)
  have hk6 := kOk.sa hk9
  obtain ⟨h8, w⟩ := w
  refine g_aload_n O dJ1_init_4 rfl ?_
  refine g_iconst (v := 0) O dJ1_init_5 (by decide) ?_
  refine gx_putI (lay := 15) (j := 0) (ty := .int) O ck15 (by decide) rfl rfl (by decide) h8 q492 rfl rfl rfl rfl dJ1_init_6 ?_
  refine g_nV w (fun V9 w _ => ?_)
  exact gm2_vret O hQ (kOk.m hk6) w dJ1_init_9
-- J2_init
abbrev rFJ2_init (U0 : Nat) : Room := { frames := 4, cells := 8 * U0, slots := 32 * U0, locals := 100 }
set_option maxHeartbeats 4000000 in
theorem kFJ2_init (l : Launch) (hfl : l.flags = flags0) (E : w_E) (U0 z : Nat) (T L : Nat → Nat) (V : w_V) (P : w_P) (t : Nat) (hT : T t = 16) (x1 : Int32) (post : Nat → (Nat → Nat) → (Nat → Nat) → w_V → w_P → Prop) (w : wFJ2_init E.2.2.2.2 U0 z T L V P t x1 post) : Met l yJ2_init (ws_ yJ2_init cJ2_init 2 none) (rFJ2_init U0) (va_Pc [.ref t, .int x1] (fun U => kenv E U ∧ wdW E (z, T, L, V, P) U.heap)) (va_Qv (qF0 post) (wdF E) (w_A E)) (8 * U0) (32 * U0) (w_A E) := by
  refine g_startN (w := (z, T, L, V, P)) hfl (by decide +kernel) rfl [some (.ref t), some (.int x1)] rfl (fun _ h => h) (Nat.le_of_ble_eq_true rfl) (fun X hl hRm hEe O hI hQ => ?_)
  subst hl
  subst hEe
  have hk : kOk (rFJ2_init U0) 0 0 U0 := ⟨by show 0 + 8 * U0 ≤ 8 * U0; omega, by show 0 + 32 * U0 ≤ 32 * U0; omega⟩
  unfold wFJ2_init at w
  refine g_aload_n O dJ2_init_0 rfl ?_
  obtain ⟨c1, U2, e3, w⟩ := w
  have hk9 := kOk.eq hk e3
  refine g_mv (gr_I (nA := 0) (As := []) (rest := []) O hRm (kFJ1_init _ O.2.2.2.2.2.2.2.2 (cxE X) _ _ _ _ _ _ t hT _ w) (lw_meth q168) q166 q167 q109 rfl rfl rfl (by decide +kernel) ⟨Nat.le_of_ble_eq_true rfl, Nat.le_of_ble_eq_true rfl⟩ rfl rfl rfl (Nat.le_of_ble_eq_true rfl) dJ2_init_1 (kOk.fa hk9)) (fun z T L V4 P5 w => ?_)
  have hk6 := kOk.sa hk9
  obtain ⟨h8, w⟩ := w
  refine g_iload_n O dJ2_init_4 rfl ?_
  refine g_if_le (tgt := 19) O w dJ2_init_5 (by decide) (fun w => ?_) (fun w => ?_)
  · refine g_iload_n O dJ2_init_19 rfl ?_
    refine g_if_ne (tgt := 33) O w dJ2_init_20 (by decide) (fun w => ?_) (fun w => ?_)
    · exact w.elim
    · refine g_aload_n O dJ2_init_23 rfl ?_
      refine gx_getst (i := 11) O rfl q175 dJ2_init_24 ?_
      refine gx_putR (lay := 15) (j := 1) (x := (some ((cxE X).2.2.2.2 11))) O ck15 (by decide) rfl rfl (by decide) h8 q490 rfl rfl rfl rfl dJ2_init_27 ?_
      refine g_nP w (fun P9 w _ => ?_)
      refine g_goto (tgt := 60) O dJ2_init_30 (by decide) ?_
      exact gm2_vret O hQ (kOk.m hk6) w dJ2_init_60
  · refine g_aload_n O dJ2_init_8 rfl ?_
    refine g_iload_n O dJ2_init_9 rfl ?_
    obtain ⟨n10, u20, U16, e21, e22, e23, e24, e17, w⟩ := w
    have hk9 := kOk.eq hk6 e17
    refine gq_anew (ty := 4) O hRm rfl (by decide) q173 q174 e21 e22 hk9 e23 e24 dJ2_init_10 (fun o11 z T L V12 P13 hk14 hn15 => ?_)
    replace w := w o11 z T L V12 P13 hn15
    obtain ⟨h18, w⟩ := w
    refine gx_putR (lay := 15) (j := 1) (x := (some o11)) O ck15 (by decide) rfl rfl (by decide) h18 q490 rfl rfl rfl rfl dJ2_init_13 ?_
    refine g_nP w (fun P19 w _ => ?_)
    refine g_goto (tgt := 60) O dJ2_init_16 (by decide) ?_
    exact gm2_vret O hQ (kOk.m hk14) w dJ2_init_60
-- X9_check
abbrev rFX9_check (U0 : Nat) : Room := { frames := 6, cells := 8 * U0, slots := 32 * U0, locals := 92 }
set_option maxHeartbeats 4000000 in
theorem kFX9_check (l : Launch) (hfl : l.flags = flags0) (E : w_E) (U0 z : Nat) (T L : Nat → Nat) (V : w_V) (P : w_P) (t : Nat) (hT : T t = 8) (x1 : Int32) (x2 : Int32) (post : Nat → (Nat → Nat) → (Nat → Nat) → w_V → w_P → Prop) (xp : w_Xp) (w : wFX9_check E.2.2.2.2 U0 z T L V P t x1 x2 post xp) : vx_Met l yX9_check (ws_ yX9_check cX9_check 3 none) (rFX9_check U0) (va_Pc [.ref t, .int x1, .int x2] (fun U => kenv E U ∧ wdW E (z, T, L, V, P) U.heap)) (va_Qv (qF0 post) (wdF E) (w_A E)) (xcX E (xF xp)) (8 * U0) (32 * U0) (w_A E) := by
  refine g_startF (w := (z, T, L, V, P)) hfl (by decide +kernel) rfl [some (.ref t), some (.int x1), some (.int x2)] rfl (fun _ h => h) (Nat.le_of_ble_eq_true rfl) (fun X hl hRm hEe O hN hI hQ => ?_)
  subst hl
  subst hEe
  have hk : kOk (rFX9_check U0) 0 0 U0 := ⟨by show 0 + 8 * U0 ≤ 8 * U0; omega, by show 0 + 32 * U0 ≤ 32 * U0; omega⟩
  unfold wFX9_check at w
  refine g_iload_n O dX9_check_0 rfl ?_
  refine g_if_ne (tgt := 17) O w dX9_check_1 (by decide) (fun w => ?_) (fun w => ?_)
  · exact gt_vret (f := fun u => u) (u := (z, T, L, V, P)) O hQ (kOk.m hk) rfl w dX9_check_17
  · obtain ⟨U6, e7, w⟩ := w
    have hk9 := kOk.eq hk e7
    refine gq_newF O hRm q1032 hk9 dX9_check_4 (fun o1 z T L V2 P3 hk4 hn5 => ?_)
    replace w := w o1 z T L V2 P3 hn5
    obtain ⟨h8, w⟩ := w
    refine g_dup O dX9_check_7 rfl ?_
    refine g_iload_n O dX9_check_8 rfl ?_
    refine g_aload_n O dX9_check_9 rfl ?_
    refine gx_getI (lay := 7) (j := 3) O ck7 (by decide) rfl rfl (by decide) h8 q985 dX9_check_10 ?_
    obtain ⟨c9, U10, e11, w⟩ := w
    have hk9 := kOk.eq hk4 e11
    refine g_mv (gr_I (nA := 2) (As := [.int x2, .int (V2 t 0 3)]) (rest := [.ref o1]) O hRm (kFX10_init _ O.2.2.2.2.2.2.2.2 (cxE X) _ _ _ _ _ _ o1 hn5.t (x2) ((V2 t 0 3)) _ w) (lw_meth q1043) q1041 q1042 q137 rfl rfl rfl (by decide +kernel) ⟨Nat.le_of_ble_eq_true rfl, Nat.le_of_ble_eq_true rfl⟩ rfl rfl rfl (Nat.le_of_ble_eq_true rfl) dX9_check_13 (kOk.fa hk9)) (fun z T L V12 P13 w => ?_)
    have hk14 := kOk.sa hk9
    obtain ⟨h16, w⟩ := w
    exact gc_athrow (lay := 16) O ck16 (by decide) rfl h16 dX9_check_16 (gf_out (u := (z, T, L, V12, P13)) O hN hQ (kOk.m hk14) w)
-- J13_checkLength
abbrev rFJ13_checkLength (U0 : Nat) : Room := { frames := 2, cells := 8 * U0, slots := 32 * U0, locals := 60 }
set_option maxHeartbeats 4000000 in
theorem kFJ13_checkLength (l : Launch) (hfl : l.flags = flags0) (E : w_E) (U0 z : Nat) (T L : Nat → Nat) (V : w_V) (P : w_P) (x0 : Int32) (x1 : Int32) (post : Nat → (Nat → Nat) → (Nat → Nat) → w_V → w_P → Prop) (w : wFJ13_checkLength E.2.2.2.2 U0 z T L V P x0 x1 post) : Met l yJ13_checkLength (ws_ yJ13_checkLength cJ13_checkLength 2 none) (rFJ13_checkLength U0) (va_Pc [.int x0, .int x1] (fun U => kenv E U ∧ wdW E (z, T, L, V, P) U.heap)) (va_Qv (qF0 post) (wdF E) (w_A E)) (8 * U0) (32 * U0) (w_A E) := by
  refine g_startN (w := (z, T, L, V, P)) hfl (by decide +kernel) rfl [some (.int x0), some (.int x1)] rfl (fun _ h => h) (Nat.le_of_ble_eq_true rfl) (fun X hl hRm hEe O hI hQ => ?_)
  subst hl
  subst hEe
  have hk : kOk (rFJ13_checkLength U0) 0 0 U0 := ⟨by show 0 + 8 * U0 ≤ 8 * U0; omega, by show 0 + 32 * U0 ≤ 32 * U0; omega⟩
  unfold wFJ13_checkLength at w
  refine g_iload_n O dJ13_checkLength_0 rfl ?_
  refine g_iload_n O dJ13_checkLength_1 rfl ?_
  refine g_icmp_ge (tgt := 37) O w dJ13_checkLength_2 (by decide) (fun w => ?_) (fun w => ?_)
  · exact gm2_vret O hQ (kOk.m hk) w dJ13_checkLength_37
  · exact w.elim
-- J13_copyOfRangeByte
abbrev rFJ13_copyOfRangeByte (U0 : Nat) : Room := { frames := 3, cells := 8 * U0, slots := 32 * U0, locals := 81 }
set_option maxHeartbeats 4000000 in
theorem kFJ13_copyOfRangeByte (l : Launch) (hfl : l.flags = flags0) (E : w_E) (U0 z : Nat) (T L : Nat → Nat) (V : w_V) (P : w_P) (dx0 ax0 kx0 nx0 : Nat) (hx0 : hArr T L dx0 ax0 kx0 nx0 1) (gx0 : nx0 < 2147483648) (x1 : Int32) (x2 : Int32) (post : Nat → Nat → (Nat → Nat) → (Nat → Nat) → w_V → w_P → Prop) (w : wFJ13_copyOfRangeByte E.2.2.2.2 U0 z T L V P dx0 ax0 kx0 nx0 x1 x2 post) : Met l yJ13_copyOfRangeByte (ws_ yJ13_copyOfRangeByte cJ13_copyOfRangeByte 5 (some (.array .byte))) (rFJ13_copyOfRangeByte U0) (va_Pc [.ref dx0, .int x1, .int x2] (fun U => kenv E U ∧ wdW E (z, T, L, V, P) U.heap)) (va_Qq (qFn post) (wdF E) (w_A E)) (8 * U0) (32 * U0) (w_A E) := by
  refine g_startN (w := (z, T, L, V, P)) hfl (by decide +kernel) rfl [some (.ref dx0), some (.int x1), some (.int x2), none, none] rfl (fun _ h => h) (Nat.le_of_ble_eq_true rfl) (fun X hl hRm hEe O hI hQ => ?_)
  subst hl
  subst hEe
  have hk : kOk (rFJ13_copyOfRangeByte U0) 0 0 U0 := ⟨by show 0 + 8 * U0 ≤ 8 * U0; omega, by show 0 + 32 * U0 ≤ 32 * U0; omega⟩
  unfold wFJ13_copyOfRangeByte at w
  refine g_iload_n O dJ13_copyOfRangeByte_0 rfl ?_
  refine g_iload_n O dJ13_copyOfRangeByte_1 rfl ?_
  obtain ⟨c1, U2, e3, w⟩ := w
  have hk9 := kOk.eq hk e3
  refine g_mv (gr_S (nA := 2) (As := [.int x1, .int x2]) (rest := []) O hRm (kFJ13_checkLength _ O.2.2.2.2.2.2.2.2 (cxE X) _ _ _ _ _ _ (x1) (x2) _ w) (lw_S q430 q431 q121 q432) rfl rfl (by decide +kernel) ⟨Nat.le_of_ble_eq_true rfl, Nat.le_of_ble_eq_true rfl⟩ rfl rfl rfl (Nat.le_of_ble_eq_true rfl) dJ13_copyOfRangeByte_2 (kOk.fa hk9)) (fun z T L V4 P5 w => ?_)
  have hk6 := kOk.sa hk9
  obtain ⟨h8, w⟩ := w
  refine g_iload_n O dJ13_copyOfRangeByte_5 rfl ?_
  refine g_iload_n O dJ13_copyOfRangeByte_6 rfl ?_
  refine g_isub O dJ13_copyOfRangeByte_7 ?_
  refine g_istore_n O dJ13_copyOfRangeByte_8 (Nat.le_of_ble_eq_true rfl) rfl (lv' := [some (.ref dx0), some (.int x1), some (.int x2), some (.int (x2 - x1)), none]) rfl ?_
  refine g_iload_n O dJ13_copyOfRangeByte_9 rfl ?_
  obtain ⟨n9, u28, U15, e29, e30, e31, e32, e16, w⟩ := w
  have hk9 := kOk.eq hk6 e16
  refine gq_newB O hRm q250 e29 e30 hk9 e31 e32 dJ13_copyOfRangeByte_10 (fun o10 z T L V11 P12 hk13 hn14 => ?_)
  replace w := w o10 z T L V11 P12 hn14
  obtain ⟨h17, w⟩ := w
  refine g_astore O dJ13_copyOfRangeByte_12 (Nat.le_of_ble_eq_true rfl) rfl (lv' := [some (.ref dx0), some (.int x1), some (.int x2), some (.int (x2 - x1)), some (.ref o10)]) rfl ?_
  refine g_aload_n O dJ13_copyOfRangeByte_14 rfl ?_
  refine g_iload_n O dJ13_copyOfRangeByte_15 rfl ?_
  refine g_aload O dJ13_copyOfRangeByte_16 rfl ?_
  refine g_iconst (v := 0) O dJ13_copyOfRangeByte_18 (by decide) ?_
  refine g_aload_n O dJ13_copyOfRangeByte_19 rfl ?_
  refine gx_alen (a := ax0) (kk0 := kx0) (len := nx0) (ty := 1) (fty := .byte) O h17 rfl dJ13_copyOfRangeByte_20 ?_
  refine g_iload_n O dJ13_copyOfRangeByte_21 rfl ?_
  refine g_isub O dJ13_copyOfRangeByte_22 ?_
  refine g_iload_n O dJ13_copyOfRangeByte_23 rfl ?_
  refine g_mmin O q292 hRm (Nat.le_of_ble_eq_true rfl) (Nat.le_of_ble_eq_true rfl) (kOk.m hk13) rfl dJ13_copyOfRangeByte_24 ?_
  obtain ⟨i18, j19, m20, e21, e22, e23, h24, h25, hf26, w⟩ := w
  refine gx_copy (a0 := ax0) (k0 := kx0) (n0 := nx0) (a1 := o10) (k1 := 0) (n1 := n9) (ty := 1) (sp := i18) (dp := j19) (nn := m20) (fty := .byte) O hRm q295 h17 (hn14.a (by decide)) rfl rfl e21 e22 e23 h24 h25 gx0 (by omega) hf26 (Nat.le_of_ble_eq_true rfl) (Nat.le_of_ble_eq_true rfl) rfl dJ13_copyOfRangeByte_27 ?_
  refine g_nV w (fun V27 w _ => ?_)
  refine g_aload O dJ13_copyOfRangeByte_30 rfl ?_
  exact gm2_aret O hQ (kOk.m hk13) (by first | exact Or.inl ⟨_, rfl⟩ | exact Or.inr ⟨_, rfl⟩) w dJ13_copyOfRangeByte_32
-- J13_copyOfRange
abbrev rFJ13_copyOfRange (U0 : Nat) : Room := { frames := 4, cells := 8 * U0, slots := 32 * U0, locals := 105 }
set_option maxHeartbeats 4000000 in
theorem vjFJ13_copyOfRange_10 {X : Cx} {U0 : Nat} (O : Okc X cJ13_copyOfRange RJ13 3 (some (.array .byte))) (hRm : cxR X = (rFJ13_copyOfRange U0)) {kc ks U z : Nat} {T L : Nat → Nat} {V : w_V} {P : w_P} (dx0 ax0 kx0 nx0 : Nat) (hx0 : hArr T L dx0 ax0 kx0 nx0 1) (gx0 : nx0 < 2147483648) (x1 : Int32) (x2 : Int32) (post : Nat → Nat → (Nat → Nat) → (Nat → Nat) → w_V → w_P → Prop) (hk : kOk (rFJ13_copyOfRange U0) kc ks U) (hQ : cxMQ X (va_Qq (qFn post) (wdF (cxE X)) (w_A (cxE X))) (rFJ13_copyOfRange U0).cells (rFJ13_copyOfRange U0).slots) (w : jFJ13_copyOfRange_10 (cxE X).2.2.2.2 U z T L V P dx0 ax0 kx0 nx0 x1 x2 post) : gW X kc ks z T L V P 10 [some (.ref dx0), some (.int x1), some (.int x2)] [] := by
  unfold jFJ13_copyOfRange_10 at w
  refine g_aload_n O dJ13_copyOfRange_10 rfl ?_
  refine g_iload_n O dJ13_copyOfRange_11 rfl ?_
  refine g_iload_n O dJ13_copyOfRange_12 rfl ?_
  obtain ⟨c1, U2, e3, w⟩ := w
  have hk9 := kOk.eq hk e3
  refine g_mq (gr_S (nA := 3) (As := [.ref dx0, .int x1, .int x2]) (rest := []) O hRm (kFJ13_copyOfRangeByte _ O.2.2.2.2.2.2.2.2 (cxE X) _ _ _ _ _ _ (dx0) ax0 kx0 nx0 hx0 gx0 (x1) (x2) _ w) (lw_S q427 q428 q121 q429) rfl rfl (by decide +kernel) ⟨Nat.le_of_ble_eq_true rfl, Nat.le_of_ble_eq_true rfl⟩ rfl rfl rfl (Nat.le_of_ble_eq_true rfl) dJ13_copyOfRange_13 (kOk.fa hk9)) (fun r7 z T L V4 P5 w => ?_)
  have hk6 := kOk.sa hk9
  obtain ⟨a8, k9, n10, h11, g12, w⟩ := w
  exact gm2_aret O hQ (kOk.m hk6) (by first | exact Or.inl ⟨_, rfl⟩ | exact Or.inr ⟨_, rfl⟩) w dJ13_copyOfRange_16
set_option maxHeartbeats 4000000 in
theorem kFJ13_copyOfRange (l : Launch) (hfl : l.flags = flags0) (E : w_E) (U0 z : Nat) (T L : Nat → Nat) (V : w_V) (P : w_P) (dx0 ax0 kx0 nx0 : Nat) (hx0 : hArr T L dx0 ax0 kx0 nx0 1) (gx0 : nx0 < 2147483648) (x1 : Int32) (x2 : Int32) (post : Nat → Nat → (Nat → Nat) → (Nat → Nat) → w_V → w_P → Prop) (w : wFJ13_copyOfRange E.2.2.2.2 U0 z T L V P dx0 ax0 kx0 nx0 x1 x2 post) : Met l yJ13_copyOfRange (ws_ yJ13_copyOfRange cJ13_copyOfRange 3 (some (.array .byte))) (rFJ13_copyOfRange U0) (va_Pc [.ref dx0, .int x1, .int x2] (fun U => kenv E U ∧ wdW E (z, T, L, V, P) U.heap)) (va_Qq (qFn post) (wdF E) (w_A E)) (8 * U0) (32 * U0) (w_A E) := by
  refine g_startN (w := (z, T, L, V, P)) hfl (by decide +kernel) rfl [some (.ref dx0), some (.int x1), some (.int x2)] rfl (fun _ h => h) (Nat.le_of_ble_eq_true rfl) (fun X hl hRm hEe O hI hQ => ?_)
  subst hl
  subst hEe
  have hk : kOk (rFJ13_copyOfRange U0) 0 0 U0 := ⟨by show 0 + 8 * U0 ≤ 8 * U0; omega, by show 0 + 32 * U0 ≤ 32 * U0; omega⟩
  unfold wFJ13_copyOfRange at w
  refine g_iload_n O dJ13_copyOfRange_0 rfl ?_
  refine g_if_ne (tgt := 10) O w dJ13_copyOfRange_1 (by decide) (fun w => ?_) (fun w => ?_)
  · exact vjFJ13_copyOfRange_10 O hRm (dx0) ax0 kx0 nx0 hx0 gx0 (x1) (x2) post hk hQ w
  · refine g_iload_n O dJ13_copyOfRange_4 rfl ?_
    refine g_aload_n O dJ13_copyOfRange_5 rfl ?_
    refine gx_alen (a := ax0) (kk0 := kx0) (len := nx0) (ty := 1) (fty := .byte) O hx0 rfl dJ13_copyOfRange_6 ?_
    refine g_icmp_eq (tgt := 17) O w dJ13_copyOfRange_7 (by decide) (fun w => ?_) (fun w => ?_)
    · refine g_aload_n O dJ13_copyOfRange_17 rfl ?_
      obtain ⟨hf20, u23, U18, e21, e22, e19, w⟩ := w
      have hk9 := kOk.eq hk e19
      refine gq_cloneB O hRm q285 hx0 gx0 (Nat.le_of_ble_eq_true rfl) (Nat.le_of_ble_eq_true rfl) rfl dJ13_copyOfRange_18 hf20 hk9 e21 e22 w (fun o13 z T L V14 P15 hk16 hn17 w => ?_)
      refine gx_castA (fty := .byte) O hn17 rfl (by decide) (fun _ h => by cases h) q291 dJ13_copyOfRange_21 ?_
      exact gm2_aret O hQ (kOk.m hk16) (by first | exact Or.inl ⟨_, rfl⟩ | exact Or.inr ⟨_, rfl⟩) w dJ13_copyOfRange_24
    · exact vjFJ13_copyOfRange_10 O hRm (dx0) ax0 kx0 nx0 hx0 gx0 (x1) (x2) post hk hQ w
-- J13_copyOf_3
abbrev rFJ13_copyOf_3 (U0 : Nat) : Room := { frames := 2, cells := 8 * U0, slots := 32 * U0, locals := 60 }
set_option maxHeartbeats 4000000 in
theorem vjFJ13_copyOf_3_24 {X : Cx} {U0 : Nat} (O : Okc X cJ13_copyOf_3 RJ13 4 (some (.array (.object "java/lang/Object")))) (hRm : cxR X = (rFJ13_copyOf_3 U0)) {kc ks U z : Nat} {T L : Nat → Nat} {V : w_V} {P : w_P} (x0 : Nat) (hx0 : T x0 = 2004) (x1 : Int32) (t0 : Nat) (ht0 : T t0 = 2004) (post : Nat → Nat → (Nat → Nat) → (Nat → Nat) → w_V → w_P → Prop) (hk : kOk (rFJ13_copyOf_3 U0) kc ks U) (hQ : cxMQ X (va_Qq (qFn post) (wdF (cxE X)) (w_A (cxE X))) (rFJ13_copyOf_3 U0).cells (rFJ13_copyOf_3 U0).slots) (w : jFJ13_copyOf_3_24 (cxE X).2.2.2.2 U z T L V P x0 x1 t0 post) : gW X kc ks z T L V P 24 [some (.ref x0), some (.int x1), none, none] [.ref t0] := by
  unfold jFJ13_copyOf_3_24 at w
  refine g_astore_n O dJ13_copyOf_3_24 (Nat.le_of_ble_eq_true rfl) rfl (lv' := [some (.ref x0), some (.int x1), none, some (.ref t0)]) rfl ?_
  refine g_aload_n O dJ13_copyOf_3_25 rfl ?_
  refine g_iconst (v := 0) O dJ13_copyOf_3_26 (by decide) ?_
  refine g_aload_n O dJ13_copyOf_3_27 rfl ?_
  refine g_iconst (v := 0) O dJ13_copyOf_3_28 (by decide) ?_
  refine g_aload_n O dJ13_copyOf_3_29 rfl ?_
  refine gx_alenR (ty := 4) O hx0 (by decide) rfl dJ13_copyOf_3_30 ?_
  refine g_iload_n O dJ13_copyOf_3_31 rfl ?_
  refine g_mmin O q292 hRm (Nat.le_of_ble_eq_true rfl) (Nat.le_of_ble_eq_true rfl) (kOk.m hk) rfl dJ13_copyOf_3_32 ?_
  obtain ⟨i10, j11, m12, e13, e14, e15, h16, h17, h18, h19, hel20, w⟩ := w
  refine gx_copyR (sp := i10) (dp := j11) (nn := m12) O hRm q295 hx0 ht0 e13 e14 e15 h16 h17 h18 h19 hel20 (Nat.le_of_ble_eq_true rfl) (Nat.le_of_ble_eq_true rfl) rfl dJ13_copyOf_3_35 ?_
  refine g_nP w (fun P21 w _ => ?_)
  refine g_aload_n O dJ13_copyOf_3_38 rfl ?_
  exact gm2_aret O hQ (kOk.m hk) (by first | exact Or.inl ⟨_, rfl⟩ | exact Or.inr ⟨_, rfl⟩) w dJ13_copyOf_3_39
set_option maxHeartbeats 4000000 in
theorem kFJ13_copyOf_3 (l : Launch) (hfl : l.flags = flags0) (E : w_E) (U0 z : Nat) (T L : Nat → Nat) (V : w_V) (P : w_P) (x0 : Nat) (hx0 : T x0 = 2004) (x1 : Int32) (x2 : Nat) (post : Nat → Nat → (Nat → Nat) → (Nat → Nat) → w_V → w_P → Prop) (w : wFJ13_copyOf_3 E.2.2.2.2 U0 z T L V P x0 x1 x2 post) : Met l yJ13_copyOf_3 (ws_ yJ13_copyOf_3 cJ13_copyOf_3 4 (some (.array (.object "java/lang/Object")))) (rFJ13_copyOf_3 U0) (va_Pc [.ref x0, .int x1, .ref x2] (fun U => kenv E U ∧ wdW E (z, T, L, V, P) U.heap)) (va_Qq (qFn post) (wdF E) (w_A E)) (8 * U0) (32 * U0) (w_A E) := by
  refine g_startN (w := (z, T, L, V, P)) hfl (by decide +kernel) rfl [some (.ref x0), some (.int x1), some (.ref x2), none] rfl (fun _ h => h) (Nat.le_of_ble_eq_true rfl) (fun X hl hRm hEe O hI hQ => ?_)
  subst hl
  subst hEe
  have hk : kOk (rFJ13_copyOf_3 U0) 0 0 U0 := ⟨by show 0 + 8 * U0 ≤ 8 * U0; omega, by show 0 + 32 * U0 ≤ 32 * U0; omega⟩
  unfold wFJ13_copyOf_3 at w
  refine g_aload_n O dJ13_copyOf_3_0 rfl ?_
  refine gq_ldcM O q694 dJ13_copyOf_3_1 ?_
  refine gx_acmp_ne (tgt := 13) O w dJ13_copyOf_3_3 (by decide) (fun w => ?_) (fun w => ?_)
  · refine g_aload_n O dJ13_copyOf_3_13 rfl ?_
    exact w.elim
  · refine g_iload_n O dJ13_copyOf_3_6 rfl ?_
    obtain ⟨n1, u22, U7, e23, e24, e25, e26, e8, w⟩ := w
    have hk9 := kOk.eq hk e8
    refine gq_anew (ty := 4) O hRm rfl (by decide) q695 q174 e23 e24 hk9 e25 e26 dJ13_copyOf_3_7 (fun o2 z T L V3 P4 hk5 hn6 => ?_)
    replace w := w o2 z T L V3 P4 hn6
    obtain ⟨h9, w⟩ := w
    refine g_goto (tgt := 24) O dJ13_copyOf_3_10 (by decide) ?_
    refine g_drop [2] (lv' := [some (.ref x0), some (.int x1), none, none]) rfl ?_
    exact vjFJ13_copyOf_3_24 O hRm x0 h9 (x1) o2 hn6.t post hk5 hQ w
-- J13_copyOf_2
abbrev rFJ13_copyOf_2 (U0 : Nat) : Room := { frames := 3, cells := 8 * U0, slots := 32 * U0, locals := 83 }
set_option maxHeartbeats 4000000 in
theorem kFJ13_copyOf_2 (l : Launch) (hfl : l.flags = flags0) (E : w_E) (U0 z : Nat) (T L : Nat → Nat) (V : w_V) (P : w_P) (x0 : Nat) (hx0 : T x0 = 2004) (x1 : Int32) (post : Nat → Nat → (Nat → Nat) → (Nat → Nat) → w_V → w_P → Prop) (w : wFJ13_copyOf_2 E.2.2.2.2 U0 z T L V P x0 x1 post) : Met l yJ13_copyOf_2 (ws_ yJ13_copyOf_2 cJ13_copyOf_2 2 (some (.array (.object "java/lang/Object")))) (rFJ13_copyOf_2 U0) (va_Pc [.ref x0, .int x1] (fun U => kenv E U ∧ wdW E (z, T, L, V, P) U.heap)) (va_Qq (qFn post) (wdF E) (w_A E)) (8 * U0) (32 * U0) (w_A E) := by
  refine g_startN (w := (z, T, L, V, P)) hfl (by decide +kernel) rfl [some (.ref x0), some (.int x1)] rfl (fun _ h => h) (Nat.le_of_ble_eq_true rfl) (fun X hl hRm hEe O hI hQ => ?_)
  subst hl
  subst hEe
  have hk : kOk (rFJ13_copyOf_2 U0) 0 0 U0 := ⟨by show 0 + 8 * U0 ≤ 8 * U0; omega, by show 0 + 32 * U0 ≤ 32 * U0; omega⟩
  unfold wFJ13_copyOf_2 at w
  refine g_aload_n O dJ13_copyOf_2_0 rfl ?_
  refine g_iload_n O dJ13_copyOf_2_1 rfl ?_
  refine g_aload_n O dJ13_copyOf_2_2 rfl ?_
  refine gq_getC O hRm hx0 q664 (Nat.le_of_ble_eq_true rfl) (Nat.le_of_ble_eq_true rfl) rfl dJ13_copyOf_2_3 ?_
  obtain ⟨c1, U2, e3, w⟩ := w
  have hk9 := kOk.eq hk e3
  refine g_mq (gr_S (nA := 3) (As := [.ref x0, .int x1, .ref ((cxE X).2.2.2.2 20)]) (rest := []) O hRm (kFJ13_copyOf_3 _ O.2.2.2.2.2.2.2.2 (cxE X) _ _ _ _ _ _ x0 hx0 (x1) ((cxE X).2.2.2.2 20) _ w) (lw_S q691 q692 q121 q693) rfl rfl (by decide +kernel) ⟨Nat.le_of_ble_eq_true rfl, Nat.le_of_ble_eq_true rfl⟩ rfl rfl rfl (Nat.le_of_ble_eq_true rfl) dJ13_copyOf_2_6 (kOk.fa hk9)) (fun r7 z T L V4 P5 w => ?_)
  have hk6 := kOk.sa hk9
  obtain ⟨hr8, w⟩ := w
  exact gm2_aret O hQ (kOk.m hk6) (by first | exact Or.inl ⟨_, rfl⟩ | exact Or.inr ⟨_, rfl⟩) w dJ13_copyOf_2_9
-- J11_newLength
abbrev rFJ11_newLength (U0 : Nat) : Room := { frames := 2, cells := 8 * U0, slots := 32 * U0, locals := 60 }
set_option maxHeartbeats 4000000 in
theorem vjFJ11_newLength_21 {X : Cx} {U0 : Nat} (O : Okc X cJ11_newLength RJ11 4 (some .int)) (hRm : cxR X = (rFJ11_newLength U0)) {kc ks U z : Nat} {T L : Nat → Nat} {V : w_V} {P : w_P} (x0 : Int32) (x1 : Int32) (post : Int32 → Nat → (Nat → Nat) → (Nat → Nat) → w_V → w_P → Prop) (hk : kOk (rFJ11_newLength U0) kc ks U) (hQ : cxMQ X (va_Qi (qF1 post) (wdF (cxE X)) (w_A (cxE X))) (rFJ11_newLength U0).cells (rFJ11_newLength U0).slots) (w : jFJ11_newLength_21 (cxE X).2.2.2.2 U z T L V P x0 x1 post) : gW X kc ks z T L V P 21 [some (.int x0), some (.int x1), none, none] [] := by
  unfold jFJ11_newLength_21 at w
  refine g_iload_n O dJ11_newLength_21 rfl ?_
  refine g_iload_n O dJ11_newLength_22 rfl ?_
  exact w.elim
set_option maxHeartbeats 4000000 in
theorem kFJ11_newLength (l : Launch) (hfl : l.flags = flags0) (E : w_E) (U0 z : Nat) (T L : Nat → Nat) (V : w_V) (P : w_P) (x0 : Int32) (x1 : Int32) (x2 : Int32) (post : Int32 → Nat → (Nat → Nat) → (Nat → Nat) → w_V → w_P → Prop) (w : wFJ11_newLength E.2.2.2.2 U0 z T L V P x0 x1 x2 post) : Met l yJ11_newLength (ws_ yJ11_newLength cJ11_newLength 4 (some .int)) (rFJ11_newLength U0) (va_Pc [.int x0, .int x1, .int x2] (fun U => kenv E U ∧ wdW E (z, T, L, V, P) U.heap)) (va_Qi (qF1 post) (wdF E) (w_A E)) (8 * U0) (32 * U0) (w_A E) := by
  refine g_startN (w := (z, T, L, V, P)) hfl (by decide +kernel) rfl [some (.int x0), some (.int x1), some (.int x2), none] rfl (fun _ h => h) (Nat.le_of_ble_eq_true rfl) (fun X hl hRm hEe O hI hQ => ?_)
  subst hl
  subst hEe
  have hk : kOk (rFJ11_newLength U0) 0 0 U0 := ⟨by show 0 + 8 * U0 ≤ 8 * U0; omega, by show 0 + 32 * U0 ≤ 32 * U0; omega⟩
  unfold wFJ11_newLength at w
  refine g_iload_n O dJ11_newLength_0 rfl ?_
  refine g_iload_n O dJ11_newLength_1 rfl ?_
  refine g_iload_n O dJ11_newLength_2 rfl ?_
  refine g_mmax O q274 hRm (Nat.le_of_ble_eq_true rfl) (Nat.le_of_ble_eq_true rfl) (kOk.m hk) rfl dJ11_newLength_3 ?_
  refine g_iadd O dJ11_newLength_6 ?_
  refine g_istore_n O dJ11_newLength_7 (Nat.le_of_ble_eq_true rfl) rfl (lv' := [some (.int x0), some (.int x1), some (.int x2), some (.int (x0 + (if x1 < x2 then x2 else x1)))]) rfl ?_
  refine g_iconst (v := 0) O dJ11_newLength_8 (by decide) ?_
  refine g_iload_n O dJ11_newLength_9 rfl ?_
  refine g_icmp_ge (tgt := 21) O w dJ11_newLength_10 (by decide) (fun w => ?_) (fun w => ?_)
  · refine g_drop [2, 3] (lv' := [some (.int x0), some (.int x1), none, none]) rfl ?_
    exact vjFJ11_newLength_21 O hRm (x0) (x1) post hk hQ w
  · refine g_iload_n O dJ11_newLength_13 rfl ?_
    refine g_ldc O q277 dJ11_newLength_14 ?_
    refine g_icmp_gt (tgt := 21) O w dJ11_newLength_16 (by decide) (fun w => ?_) (fun w => ?_)
    · refine g_drop [2, 3] (lv' := [some (.int x0), some (.int x1), none, none]) rfl ?_
      exact vjFJ11_newLength_21 O hRm (x0) (x1) post hk hQ w
    · refine g_iload_n O dJ11_newLength_19 rfl ?_
      exact gm2_iret O hQ (kOk.m hk) rfl w dJ11_newLength_20
-- J2_grow_2
abbrev rFJ2_grow_2 (U0 : Nat) : Room := { frames := 4, cells := 8 * U0, slots := 32 * U0, locals := 104 }
set_option maxHeartbeats 4000000 in
theorem vjFJ2_grow_2_20 {X : Cx} {U0 : Nat} (O : Okc X cJ2_grow_2 RJ2 4 (some (.array (.object "java/lang/Object")))) (hRm : cxR X = (rFJ2_grow_2 U0)) {kc ks U z : Nat} {T L : Nat → Nat} {V : w_V} {P : w_P} (x0 : Nat) (hx0 : T x0 = 16) (x1 : Int32) (x2 : Int32) (post : Nat → Nat → (Nat → Nat) → (Nat → Nat) → w_V → w_P → Prop) (hk : kOk (rFJ2_grow_2 U0) kc ks U) (hQ : cxMQ X (va_Qq (qFn post) (wdF (cxE X)) (w_A (cxE X))) (rFJ2_grow_2 U0).cells (rFJ2_grow_2 U0).slots) (w : jFJ2_grow_2_20 (cxE X).2.2.2.2 U z T L V P x0 x1 x2 post) : gW X kc ks z T L V P 20 [some (.ref x0), some (.int x1), some (.int x2), none] [] := by
  unfold jFJ2_grow_2_20 at w
  refine g_iload_n O dJ2_grow_2_20 rfl ?_
  refine g_iload_n O dJ2_grow_2_21 rfl ?_
  refine g_iload_n O dJ2_grow_2_22 rfl ?_
  refine g_isub O dJ2_grow_2_23 ?_
  refine g_iload_n O dJ2_grow_2_24 rfl ?_
  refine g_iconst (v := 1) O dJ2_grow_2_25 (by decide) ?_
  refine g_ishr O dJ2_grow_2_26 ?_
  obtain ⟨c4, U5, e6, w⟩ := w
  have hk9 := kOk.eq hk e6
  refine g_mi (gr_S (nA := 3) (As := [.int x2, .int (x1 - x2), .int ((x2 : Int32) >>> ((1 : Int32) &&& 31))]) (rest := []) O hRm (kFJ11_newLength _ O.2.2.2.2.2.2.2.2 (cxE X) _ _ _ _ _ _ (x2) ((x1 - x2)) (((x2 : Int32) >>> ((1 : Int32) &&& 31))) _ w) (lw_S q660 q272 q119 q273) rfl rfl (by decide +kernel) ⟨Nat.le_of_ble_eq_true rfl, Nat.le_of_ble_eq_true rfl⟩ rfl rfl rfl (Nat.le_of_ble_eq_true rfl) dJ2_grow_2_27 (kOk.fa hk9)) (fun r10 z T L V7 P8 w => ?_)
  have hk9 := kOk.sa hk9
  obtain ⟨h11, w⟩ := w
  refine g_istore_n O dJ2_grow_2_30 (Nat.le_of_ble_eq_true rfl) rfl (lv' := [some (.ref x0), some (.int x1), some (.int x2), some (.int r10)]) rfl ?_
  refine g_aload_n O dJ2_grow_2_31 rfl ?_
  refine g_aload_n O dJ2_grow_2_32 rfl ?_
  obtain ⟨b12, hp13, ht14, w⟩ := w
  refine gx_getR (lay := 15) (j := 1) O ck15 (by decide) rfl rfl hp13 (by decide) h11 q490 dJ2_grow_2_33 ?_
  refine g_iload_n O dJ2_grow_2_36 rfl ?_
  obtain ⟨c15, U16, e17, w⟩ := w
  have hk9 := kOk.eq hk9 e17
  refine g_mq (gr_S (nA := 2) (As := [.ref b12, .int r10]) (rest := [.ref x0]) O hRm (kFJ13_copyOf_2 _ O.2.2.2.2.2.2.2.2 (cxE X) _ _ _ _ _ _ b12 ht14 (r10) _ w) (lw_S q661 q662 q121 q663) rfl rfl (by decide +kernel) ⟨Nat.le_of_ble_eq_true rfl, Nat.le_of_ble_eq_true rfl⟩ rfl rfl rfl (Nat.le_of_ble_eq_true rfl) dJ2_grow_2_37 (kOk.fa hk9)) (fun r21 z T L V18 P19 w => ?_)
  have hk20 := kOk.sa hk9
  obtain ⟨h22, hr23, w⟩ := w
  refine g_dup_x1 O dJ2_grow_2_40 rfl rfl ?_
  refine gx_putR (lay := 15) (j := 1) (x := (some r21)) O ck15 (by decide) rfl rfl (by decide) h22 q490 rfl rfl rfl rfl dJ2_grow_2_41 ?_
  refine g_nP w (fun P24 w _ => ?_)
  exact gm2_aret O hQ (kOk.m hk20) (by first | exact Or.inl ⟨_, rfl⟩ | exact Or.inr ⟨_, rfl⟩) w dJ2_grow_2_44
set_option maxHeartbeats 4000000 in
theorem kFJ2_grow_2 (l : Launch) (hfl : l.flags = flags0) (E : w_E) (U0 z : Nat) (T L : Nat → Nat) (V : w_V) (P : w_P) (t : Nat) (hT : T t = 16) (x1 : Int32) (post : Nat → Nat → (Nat → Nat) → (Nat → Nat) → w_V → w_P → Prop) (w : wFJ2_grow_2 E.2.2.2.2 U0 z T L V P t x1 post) : Met l yJ2_grow_2 (ws_ yJ2_grow_2 cJ2_grow_2 4 (some (.array (.object "java/lang/Object")))) (rFJ2_grow_2 U0) (va_Pc [.ref t, .int x1] (fun U => kenv E U ∧ wdW E (z, T, L, V, P) U.heap)) (va_Qq (qFn post) (wdF E) (w_A E)) (8 * U0) (32 * U0) (w_A E) := by
  refine g_startN (w := (z, T, L, V, P)) hfl (by decide +kernel) rfl [some (.ref t), some (.int x1), none, none] rfl (fun _ h => h) (Nat.le_of_ble_eq_true rfl) (fun X hl hRm hEe O hI hQ => ?_)
  subst hl
  subst hEe
  have hk : kOk (rFJ2_grow_2 U0) 0 0 U0 := ⟨by show 0 + 8 * U0 ≤ 8 * U0; omega, by show 0 + 32 * U0 ≤ 32 * U0; omega⟩
  unfold wFJ2_grow_2 at w
  refine g_aload_n O dJ2_grow_2_0 rfl ?_
  obtain ⟨b1, hp2, ht3, w⟩ := w
  refine gx_getR (lay := 15) (j := 1) O ck15 (by decide) rfl rfl hp2 (by decide) hT q490 dJ2_grow_2_1 ?_
  refine gx_alenR (ty := 4) O ht3 (by decide) rfl dJ2_grow_2_4 ?_
  refine g_istore_n O dJ2_grow_2_5 (Nat.le_of_ble_eq_true rfl) rfl (lv' := [some (.ref t), some (.int x1), some (.int (nI (L b1))), none]) rfl ?_
  refine g_iload_n O dJ2_grow_2_6 rfl ?_
  refine g_if_gt (tgt := 20) O w dJ2_grow_2_7 (by decide) (fun w => ?_) (fun w => ?_)
  · exact vjFJ2_grow_2_20 O hRm t hT (x1) ((nI (L b1))) post hk hQ w
  · refine g_aload_n O dJ2_grow_2_10 rfl ?_
    obtain ⟨b25, hp26, ht27, w⟩ := w
    refine gx_getR (lay := 15) (j := 1) O ck15 (by decide) rfl rfl hp26 (by decide) hT q490 dJ2_grow_2_11 ?_
    refine gx_getst (i := 12) O rfl q658 dJ2_grow_2_14 ?_
    refine gx_acmp_eq (tgt := 45) O w dJ2_grow_2_17 (by decide) (fun w => ?_) (fun w => ?_)
    · refine g_aload_n O dJ2_grow_2_45 rfl ?_
      refine g_bipush (v := 10) O dJ2_grow_2_46 (by decide) ?_
      refine g_iload_n O dJ2_grow_2_48 rfl ?_
      refine g_mmax O q696 hRm (Nat.le_of_ble_eq_true rfl) (Nat.le_of_ble_eq_true rfl) (kOk.m hk) rfl dJ2_grow_2_49 ?_
      obtain ⟨n28, u38, U34, e39, e40, e41, e42, e35, w⟩ := w
      have hk9 := kOk.eq hk e35
      refine gq_anew (ty := 4) O hRm rfl (by decide) q173 q174 e39 e40 hk9 e41 e42 dJ2_grow_2_52 (fun o29 z T L V30 P31 hk32 hn33 => ?_)
      replace w := w o29 z T L V30 P31 hn33
      obtain ⟨h36, w⟩ := w
      refine g_dup_x1 O dJ2_grow_2_55 rfl rfl ?_
      refine gx_putR (lay := 15) (j := 1) (x := (some o29)) O ck15 (by decide) rfl rfl (by decide) h36 q490 rfl rfl rfl rfl dJ2_grow_2_56 ?_
      refine g_nP w (fun P37 w _ => ?_)
      exact gm2_aret O hQ (kOk.m hk32) (by first | exact Or.inl ⟨_, rfl⟩ | exact Or.inr ⟨_, rfl⟩) w dJ2_grow_2_59
    · exact vjFJ2_grow_2_20 O hRm t hT (x1) ((nI (L b1))) post hk hQ w
-- J2_grow
abbrev rFJ2_grow (U0 : Nat) : Room := { frames := 5, cells := 8 * U0, slots := 32 * U0, locals := 127 }
set_option maxHeartbeats 4000000 in
theorem kFJ2_grow (l : Launch) (hfl : l.flags = flags0) (E : w_E) (U0 z : Nat) (T L : Nat → Nat) (V : w_V) (P : w_P) (t : Nat) (hT : T t = 16) (post : Nat → Nat → (Nat → Nat) → (Nat → Nat) → w_V → w_P → Prop) (w : wFJ2_grow E.2.2.2.2 U0 z T L V P t post) : Met l yJ2_grow (ws_ yJ2_grow cJ2_grow 1 (some (.array (.object "java/lang/Object")))) (rFJ2_grow U0) (va_Pc [.ref t] (fun U => kenv E U ∧ wdW E (z, T, L, V, P) U.heap)) (va_Qq (qFn post) (wdF E) (w_A E)) (8 * U0) (32 * U0) (w_A E) := by
  refine g_startN (w := (z, T, L, V, P)) hfl (by decide +kernel) rfl [some (.ref t)] rfl (fun _ h => h) (Nat.le_of_ble_eq_true rfl) (fun X hl hRm hEe O hI hQ => ?_)
  subst hl
  subst hEe
  have hk : kOk (rFJ2_grow U0) 0 0 U0 := ⟨by show 0 + 8 * U0 ≤ 8 * U0; omega, by show 0 + 32 * U0 ≤ 32 * U0; omega⟩
  unfold wFJ2_grow at w
  refine g_aload_n O dJ2_grow_0 rfl ?_
  refine g_aload_n O dJ2_grow_1 rfl ?_
  refine gx_getI (lay := 15) (j := 2) O ck15 (by decide) rfl rfl (by decide) hT q491 dJ2_grow_2 ?_
  refine g_iconst (v := 1) O dJ2_grow_5 (by decide) ?_
  refine g_iadd O dJ2_grow_6 ?_
  obtain ⟨c1, U2, e3, w⟩ := w
  have hk9 := kOk.eq hk e3
  refine g_mq (gr_V (lay := 15) (nA := 1) (As := [.int ((V t 0 2) + 1)]) (rest := []) O hRm (kFJ2_grow_2 _ O.2.2.2.2.2.2.2.2 (cxE X) _ _ _ _ _ _ t hT (((V t 0 2) + 1)) _ w) (lw_V q654 q656 qs3 q110 q657) rfl rfl (by decide +kernel) ⟨Nat.le_of_ble_eq_true rfl, Nat.le_of_ble_eq_true rfl⟩ ck15 (by decide) rfl hT rfl rfl rfl (Nat.le_of_ble_eq_true rfl) dJ2_grow_7 (kOk.fa hk9)) (fun r7 z T L V4 P5 w => ?_)
  have hk6 := kOk.sa hk9
  obtain ⟨hr8, w⟩ := w
  exact gm2_aret O hQ (kOk.m hk6) (by first | exact Or.inl ⟨_, rfl⟩ | exact Or.inr ⟨_, rfl⟩) w dJ2_grow_10
-- J2_add_2
abbrev rFJ2_add_2 (U0 : Nat) : Room := { frames := 6, cells := 8 * U0, slots := 32 * U0, locals := 147 }
set_option maxHeartbeats 4000000 in
theorem vjFJ2_add_2_11 {X : Cx} {U0 : Nat} (O : Okc X cJ2_add_2 RJ2 4 none) (hRm : cxR X = (rFJ2_add_2 U0)) {kc ks U z : Nat} {T L : Nat → Nat} {V : w_V} {P : w_P} (x0 : Nat) (hx0 : T x0 = 16) (x1 : Nat) (x2 : Nat) (hx2 : T x2 = 2004) (x3 : Int32) (post : Nat → (Nat → Nat) → (Nat → Nat) → w_V → w_P → Prop) (hk : kOk (rFJ2_add_2 U0) kc ks U) (hQ : cxMQ X (va_Qv (qF0 post) (wdF (cxE X)) (w_A (cxE X))) (rFJ2_add_2 U0).cells (rFJ2_add_2 U0).slots) (w : jFJ2_add_2_11 (cxE X).2.2.2.2 U z T L V P x0 x1 x2 x3 post) : gW X kc ks z T L V P 11 [some (.ref x0), some (.ref x1), some (.ref x2), some (.int x3)] [] := by
  unfold jFJ2_add_2_11 at w
  refine g_aload_n O dJ2_add_2_11 rfl ?_
  refine g_iload_n O dJ2_add_2_12 rfl ?_
  refine g_aload_n O dJ2_add_2_13 rfl ?_
  obtain ⟨i1, hi2, g3, e4, hv5, w⟩ := w
  refine gx_aast (nn := i1) O hx2 hi2 g3 e4 hv5 dJ2_add_2_14 ?_
  refine g_nP w (fun P6 w _ => ?_)
  refine g_aload_n O dJ2_add_2_15 rfl ?_
  refine g_iload_n O dJ2_add_2_16 rfl ?_
  refine g_iconst (v := 1) O dJ2_add_2_17 (by decide) ?_
  refine g_iadd O dJ2_add_2_18 ?_
  refine gx_putI (lay := 15) (j := 2) (ty := .int) O ck15 (by decide) rfl rfl (by decide) hx0 q491 rfl rfl rfl rfl dJ2_add_2_19 ?_
  refine g_nV w (fun V7 w _ => ?_)
  exact gm2_vret O hQ (kOk.m hk) w dJ2_add_2_22
set_option maxHeartbeats 4000000 in
theorem kFJ2_add_2 (l : Launch) (hfl : l.flags = flags0) (E : w_E) (U0 z : Nat) (T L : Nat → Nat) (V : w_V) (P : w_P) (t : Nat) (hT : T t = 16) (x1 : Nat) (x2 : Nat) (hx2 : T x2 = 2004) (x3 : Int32) (post : Nat → (Nat → Nat) → (Nat → Nat) → w_V → w_P → Prop) (w : wFJ2_add_2 E.2.2.2.2 U0 z T L V P t x1 x2 x3 post) : Met l yJ2_add_2 (ws_ yJ2_add_2 cJ2_add_2 4 none) (rFJ2_add_2 U0) (va_Pc [.ref t, .ref x1, .ref x2, .int x3] (fun U => kenv E U ∧ wdW E (z, T, L, V, P) U.heap)) (va_Qv (qF0 post) (wdF E) (w_A E)) (8 * U0) (32 * U0) (w_A E) := by
  refine g_startN (w := (z, T, L, V, P)) hfl (by decide +kernel) rfl [some (.ref t), some (.ref x1), some (.ref x2), some (.int x3)] rfl (fun _ h => h) (Nat.le_of_ble_eq_true rfl) (fun X hl hRm hEe O hI hQ => ?_)
  subst hl
  subst hEe
  have hk : kOk (rFJ2_add_2 U0) 0 0 U0 := ⟨by show 0 + 8 * U0 ≤ 8 * U0; omega, by show 0 + 32 * U0 ≤ 32 * U0; omega⟩
  unfold wFJ2_add_2 at w
  refine g_iload_n O dJ2_add_2_0 rfl ?_
  refine g_aload_n O dJ2_add_2_1 rfl ?_
  refine gx_alenR (ty := 4) O hx2 (by decide) rfl dJ2_add_2_2 ?_
  refine g_icmp_ne (tgt := 11) O w dJ2_add_2_3 (by decide) (fun w => ?_) (fun w => ?_)
  · exact vjFJ2_add_2_11 O hRm t hT x1 x2 hx2 (x3) post hk hQ w
  · refine g_aload_n O dJ2_add_2_6 rfl ?_
    obtain ⟨c8, U9, e10, w⟩ := w
    have hk9 := kOk.eq hk e10
    refine g_mq (gr_V (lay := 15) (nA := 0) (As := []) (rest := []) O hRm (kFJ2_grow _ O.2.2.2.2.2.2.2.2 (cxE X) _ _ _ _ _ _ t hT _ w) (lw_V q650 q652 qs2 q110 q653) rfl rfl (by decide +kernel) ⟨Nat.le_of_ble_eq_true rfl, Nat.le_of_ble_eq_true rfl⟩ ck15 (by decide) rfl hT rfl rfl rfl (Nat.le_of_ble_eq_true rfl) dJ2_add_2_7 (kOk.fa hk9)) (fun r14 z T L V11 P12 w => ?_)
    have hk13 := kOk.sa hk9
    obtain ⟨h15, hr16, w⟩ := w
    refine g_astore_n O dJ2_add_2_10 (Nat.le_of_ble_eq_true rfl) rfl (lv' := [some (.ref t), some (.ref x1), some (.ref r14), some (.int x3)]) rfl ?_
    exact vjFJ2_add_2_11 O hRm t h15 x1 r14 hr16 (x3) post hk13 hQ w
-- J2_add
abbrev rFJ2_add (U0 : Nat) : Room := { frames := 7, cells := 8 * U0, slots := 32 * U0, locals := 170 }
set_option maxHeartbeats 4000000 in
theorem kFJ2_add (l : Launch) (hfl : l.flags = flags0) (E : w_E) (U0 z : Nat) (T L : Nat → Nat) (V : w_V) (P : w_P) (t : Nat) (hT : T t = 16) (x1 : Nat) (post : Int32 → Nat → (Nat → Nat) → (Nat → Nat) → w_V → w_P → Prop) (w : wFJ2_add E.2.2.2.2 U0 z T L V P t x1 post) : Met l yJ2_add (ws_ yJ2_add cJ2_add 2 (some .boolean)) (rFJ2_add U0) (va_Pc [.ref t, .ref x1] (fun U => kenv E U ∧ wdW E (z, T, L, V, P) U.heap)) (va_Qi (qF1 post) (wdF E) (w_A E)) (8 * U0) (32 * U0) (w_A E) := by
  refine g_startN (w := (z, T, L, V, P)) hfl (by decide +kernel) rfl [some (.ref t), some (.ref x1)] rfl (fun _ h => h) (Nat.le_of_ble_eq_true rfl) (fun X hl hRm hEe O hI hQ => ?_)
  subst hl
  subst hEe
  have hk : kOk (rFJ2_add U0) 0 0 U0 := ⟨by show 0 + 8 * U0 ≤ 8 * U0; omega, by show 0 + 32 * U0 ≤ 32 * U0; omega⟩
  unfold wFJ2_add at w
  refine g_aload_n O dJ2_add_0 rfl ?_
  refine g_dup O dJ2_add_1 rfl ?_
  refine gx_getIs (ref := "java/util/ArrayList") (lay := 15) (j := 0) O ck15 (by decide) rfl rfl (by decide) hT q493 q494 dJ2_add_2 ?_
  refine g_iconst (v := 1) O dJ2_add_5 (by decide) ?_
  refine g_iadd O dJ2_add_6 ?_
  refine gx_putIs (ref := "java/util/ArrayList") (lay := 15) (j := 0) (ty := .int) O ck15 (by decide) rfl rfl (by decide) hT q493 q494 rfl rfl rfl rfl dJ2_add_7 ?_
  refine g_nV w (fun V1 w _ => ?_)
  refine g_aload_n O dJ2_add_10 rfl ?_
  refine g_aload_n O dJ2_add_11 rfl ?_
  refine g_aload_n O dJ2_add_12 rfl ?_
  obtain ⟨b2, hp3, ht4, w⟩ := w
  refine gx_getR (lay := 15) (j := 1) O ck15 (by decide) rfl rfl hp3 (by decide) hT q490 dJ2_add_13 ?_
  refine g_aload_n O dJ2_add_16 rfl ?_
  refine gx_getI (lay := 15) (j := 2) O ck15 (by decide) rfl rfl (by decide) hT q491 dJ2_add_17 ?_
  obtain ⟨c5, U6, e7, w⟩ := w
  have hk9 := kOk.eq hk e7
  refine g_mv (gr_V (lay := 15) (nA := 3) (As := [.ref x1, .ref b2, .int (V1 t 0 2)]) (rest := []) O hRm (kFJ2_add_2 _ O.2.2.2.2.2.2.2.2 (cxE X) _ _ _ _ _ _ t hT x1 b2 ht4 ((V1 t 0 2)) _ w) (lw_V q646 q648 qs1 q110 q649) rfl rfl (by decide +kernel) ⟨Nat.le_of_ble_eq_true rfl, Nat.le_of_ble_eq_true rfl⟩ ck15 (by decide) rfl hT rfl rfl rfl (Nat.le_of_ble_eq_true rfl) dJ2_add_20 (kOk.fa hk9)) (fun z T L V8 P9 w => ?_)
  have hk10 := kOk.sa hk9
  refine g_iconst (v := 1) O dJ2_add_23 (by decide) ?_
  exact gm2_iret O hQ (kOk.m hk10) rfl w dJ2_add_24
-- J15_toBytes
abbrev rFJ15_toBytes (U0 : Nat) : Room := { frames := 2, cells := 8 * U0, slots := 32 * U0, locals := 60 }
set_option maxHeartbeats 4000000 in
theorem kFJ15_toBytes (l : Launch) (hfl : l.flags = flags0) (E : w_E) (U0 z : Nat) (T L : Nat → Nat) (V : w_V) (P : w_P) (x0 : Int32) (post : Nat → Nat → (Nat → Nat) → (Nat → Nat) → w_V → w_P → Prop) (w : wFJ15_toBytes E.2.2.2.2 U0 z T L V P x0 post) : Met l yJ15_toBytes (ws_ yJ15_toBytes cJ15_toBytes 1 (some (.array .byte))) (rFJ15_toBytes U0) (va_Pc [.int x0] (fun U => kenv E U ∧ wdW E (z, T, L, V, P) U.heap)) (va_Qq (qFn post) (wdF E) (w_A E)) (8 * U0) (32 * U0) (w_A E) := by
  refine g_startN (w := (z, T, L, V, P)) hfl (by decide +kernel) rfl [some (.int x0)] rfl (fun _ h => h) (Nat.le_of_ble_eq_true rfl) (fun X hl hRm hEe O hI hQ => ?_)
  subst hl
  subst hEe
  have hk : kOk (rFJ15_toBytes U0) 0 0 U0 := ⟨by show 0 + 8 * U0 ≤ 8 * U0; omega, by show 0 + 32 * U0 ≤ 32 * U0; omega⟩
  unfold wFJ15_toBytes at w
  refine g_iconst (v := 1) O dJ15_toBytes_0 (by decide) ?_
  obtain ⟨U6, e7, w⟩ := w
  have hk9 := kOk.eq hk e7
  refine gq_newB (N := 1) (u := 1) O hRm q250 rfl (by decide) hk9 (by decide) (by decide) dJ15_toBytes_1 (fun o1 z T L V2 P3 hk4 hn5 => ?_)
  replace w := w o1 z T L V2 P3 hn5
  refine g_dup O dJ15_toBytes_3 rfl ?_
  refine g_iconst (v := 0) O dJ15_toBytes_4 (by decide) ?_
  refine g_iload_n O dJ15_toBytes_5 rfl ?_
  refine g_i2b O dJ15_toBytes_6 ?_
  refine gx_bast (a := o1) (kk0 := 0) (len := 1) (nn := 0) O (hn5.a (by decide)) (by decide) (by omega) rfl dJ15_toBytes_7 ?_
  refine g_nV w (fun V8 w _ => ?_)
  exact gm2_aret O hQ (kOk.m hk4) (by first | exact Or.inl ⟨_, rfl⟩ | exact Or.inr ⟨_, rfl⟩) w dJ15_toBytes_8
-- J9_init_2
abbrev rFJ9_init_2 (U0 : Nat) : Room := { frames := 5, cells := 8 * U0, slots := 32 * U0, locals := 127 }
set_option maxHeartbeats 4000000 in
theorem vjFJ9_init_2_79 {X : Cx} {U0 : Nat} (O : Okc X cJ9_init_2 RJ9 5 none) (hRm : cxR X = (rFJ9_init_2 U0)) (hI : (cxM X).name = "<init>") {kc ks U z : Nat} {T L : Nat → Nat} {V : w_V} {P : w_P} (x0 : Nat) (hx0 : T x0 = 18) (dx3 ax3 kx3 nx3 : Nat) (hx3 : hArr T L dx3 ax3 kx3 nx3 1) (gx3 : nx3 < 2147483648) (x4 : Int32) (post : Nat → (Nat → Nat) → (Nat → Nat) → w_V → w_P → Prop) (hk : kOk (rFJ9_init_2 U0) kc ks U) (hQ : cxMQ X (va_Qv (qF0 post) (wdF (cxE X)) (w_A (cxE X))) (rFJ9_init_2 U0).cells (rFJ9_init_2 U0).slots) (w : jFJ9_init_2_79 (cxE X).2.2.2.2 U z T L V P x0 dx3 ax3 kx3 nx3 x4 post) : gW X kc ks z T L V P 79 [some (.ref x0), none, none, some (.ref dx3), some (.int x4)] [] := by
  unfold jFJ9_init_2_79 at w
  refine g_aload_n O dJ9_init_2_79 rfl ?_
  refine g_iconst (v := 1) O dJ9_init_2_80 (by decide) ?_
  refine gx_putIF (lay := 17) (j := 1) (ty := .byte) (x := 1) O hI ck17 (by decide) rfl rfl (by decide) hx0 q479 rfl rfl rfl rfl rfl dJ9_init_2_81 ?_
  refine g_nV w (fun V15 w _ => ?_)
  refine g_aload_n O dJ9_init_2_84 rfl ?_
  refine g_aload_n O dJ9_init_2_85 rfl ?_
  refine g_iconst (v := 0) O dJ9_init_2_86 (by decide) ?_
  refine g_iload O dJ9_init_2_87 rfl ?_
  refine g_iconst (v := 1) O dJ9_init_2_89 (by decide) ?_
  refine g_ishl O dJ9_init_2_90 ?_
  obtain ⟨c16, U17, e18, w⟩ := w
  have hk9 := kOk.eq hk e18
  refine g_mq (gr_S (nA := 3) (As := [.ref dx3, .int 0, .int ((x4 : Int32) <<< ((1 : Int32) &&& 31))]) (rest := [.ref x0]) O hRm (kFJ13_copyOfRange _ O.2.2.2.2.2.2.2.2 (cxE X) _ _ _ _ _ _ (dx3) ax3 kx3 nx3 hx3 gx3 (0) (((x4 : Int32) <<< ((1 : Int32) &&& 31))) _ w) (lw_S q424 q425 q121 q426) rfl rfl (by decide +kernel) ⟨Nat.le_of_ble_eq_true rfl, Nat.le_of_ble_eq_true rfl⟩ rfl rfl rfl (Nat.le_of_ble_eq_true rfl) dJ9_init_2_91 (kOk.fa hk9)) (fun r22 z T L V19 P20 w => ?_)
  have hk21 := kOk.sa hk9
  obtain ⟨h23, w⟩ := w
  obtain ⟨a24, k25, n26, h27, g28, w⟩ := w
  refine gx_putRF (lay := 17) (j := 0) (x := (some r22)) O hI ck17 (by decide) rfl rfl (by decide) h23 q478 rfl rfl rfl (by first | exact Or.inl ⟨_, rfl⟩ | exact Or.inr ⟨_, rfl⟩) dJ9_init_2_94 ?_
  refine g_nP w (fun P29 w _ => ?_)
  exact gm2_vret O hQ (kOk.m hk21) w dJ9_init_2_97
set_option maxHeartbeats 4000000 in
theorem kFJ9_init_2 (l : Launch) (hfl : l.flags = flags0) (E : w_E) (U0 z : Nat) (T L : Nat → Nat) (V : w_V) (P : w_P) (t : Nat) (hT : T t = 18) (x1 : Nat) (hx1 : T x1 = 19) (post : Nat → (Nat → Nat) → (Nat → Nat) → w_V → w_P → Prop) (w : wFJ9_init_2 E.2.2.2.2 U0 z T L V P t x1 post) : Met l yJ9_init_2 (ws_ yJ9_init_2 cJ9_init_2 5 none) (rFJ9_init_2 U0) (va_Pc [.ref t, .ref x1, .null] (fun U => kenv E U ∧ wdW E (z, T, L, V, P) U.heap)) (va_Qv (qF0 post) (wdF E) (w_A E)) (8 * U0) (32 * U0) (w_A E) := by
  refine g_startN (w := (z, T, L, V, P)) hfl (by decide +kernel) rfl [some (.ref t), some (.ref x1), some (.null), none, none] rfl (fun _ h => h) (Nat.le_of_ble_eq_true rfl) (fun X hl hRm hEe O hI hQ => ?_)
  subst hl
  subst hEe
  have hk : kOk (rFJ9_init_2 U0) 0 0 U0 := ⟨by show 0 + 8 * U0 ≤ 8 * U0; omega, by show 0 + 32 * U0 ≤ 32 * U0; omega⟩
  unfold wFJ9_init_2 at w
  refine g_aload_n O dJ9_init_2_0 rfl ?_
  refine gc_objInit O hRm q409 (Nat.le_of_ble_eq_true rfl) (Nat.le_of_ble_eq_true rfl) rfl dJ9_init_2_1 ?_
  refine g_aload_n O dJ9_init_2_4 rfl ?_
  refine g_rq0 (gr_U (owner := "java/lang/AbstractStringBuilder") (lay := 18) (nA := 0) (As := []) (rest := []) O hRm (kJ7_getValue _ O.2.2.2.2.2.2.2.2 _ _ _ _ _ _ x1 hx1 _ w) (lw_U q410 q412 q413 q411 q115 q414) rfl rfl rfl (by decide +kernel) ⟨Nat.le_of_ble_eq_true rfl, Nat.le_of_ble_eq_true rfl⟩ ck18 (by decide) rfl hx1 rfl rfl rfl (Nat.le_of_ble_eq_true rfl) dJ9_init_2_5 (kOk.f0 hk)) (fun r1 w => ?_)
  have hk := kOk.s0 hk
  obtain ⟨a4, k5, n6, h7, g8, w⟩ := w
  refine g_astore_n O dJ9_init_2_8 (Nat.le_of_ble_eq_true rfl) rfl (lv' := [some (.ref t), some (.ref x1), some (.null), some (.ref r1), none]) rfl ?_
  refine g_aload_n O dJ9_init_2_9 rfl ?_
  refine g_ri0 (gr_O (owner := "java/lang/AbstractStringBuilder") (lay := 18) (nA := 0) (As := []) (rest := []) O hRm (kJ8_length _ O.2.2.2.2.2.2.2.2 _ _ _ _ _ _ x1 hx1 _ w) (lw_O q415 q417 q416 q418 q419 q116 q420) rfl rfl q422 (by decide +kernel) ⟨Nat.le_of_ble_eq_true rfl, Nat.le_of_ble_eq_true rfl⟩ ck18 (by decide) rfl hx1 rfl rfl rfl (Nat.le_of_ble_eq_true rfl) dJ9_init_2_10 (kOk.f0 hk)) (fun r9 w => ?_)
  have hk := kOk.s0 hk
  refine g_istore O dJ9_init_2_13 (Nat.le_of_ble_eq_true rfl) rfl (lv' := [some (.ref t), some (.ref x1), some (.null), some (.ref r1), some (.int r9)]) rfl ?_
  refine g_aload_n O dJ9_init_2_15 rfl ?_
  refine g_ri0 (gr_U (owner := "java/lang/AbstractStringBuilder") (lay := 18) (nA := 0) (As := []) (rest := []) O hRm (kJ7_isLatin1 _ O.2.2.2.2.2.2.2.2 _ _ _ _ _ _ x1 hx1 _ w) (lw_U q423 q300 q301 q299 q115 q302) rfl rfl rfl (by decide +kernel) ⟨Nat.le_of_ble_eq_true rfl, Nat.le_of_ble_eq_true rfl⟩ ck18 (by decide) rfl hx1 rfl rfl rfl (Nat.le_of_ble_eq_true rfl) dJ9_init_2_16 (kOk.f0 hk)) (fun r12 w => ?_)
  have hk := kOk.s0 hk
  refine g_if_eq (tgt := 41) O w dJ9_init_2_19 (by decide) (fun w => ?_) (fun w => ?_)
  · refine gs_compact O q337 dJ9_init_2_41 ?_
    refine g_if_eq_f O (by decide) dJ9_init_2_44 79 (by decide) ?_
    refine g_aload_n O dJ9_init_2_47 rfl ?_
    refine gx_getI (lay := 18) (j := 2) O ck18 (by decide) rfl rfl (by decide) hx1 q238 dJ9_init_2_48 ?_
    refine g_if_eq (tgt := 79) O w dJ9_init_2_51 (by decide) (fun w => ?_) (fun w => ?_)
    · refine g_drop [1, 2] (lv' := [some (.ref t), none, none, some (.ref r1), some (.int r9)]) rfl ?_
      exact vjFJ9_init_2_79 O hRm hI t hT (r1) a4 k5 n6 h7 g8 (r9) post hk hQ w
    · refine g_aload_n O dJ9_init_2_54 rfl ?_
      refine g_aload_n O dJ9_init_2_55 rfl ?_
      refine g_iconst (v := 0) O dJ9_init_2_56 (by decide) ?_
      refine g_iload O dJ9_init_2_57 rfl ?_
      exact w.elim
  · refine g_aload_n O dJ9_init_2_22 rfl ?_
    refine g_iconst (v := 0) O dJ9_init_2_23 (by decide) ?_
    refine gx_putIF (lay := 17) (j := 1) (ty := .byte) (x := 0) O hI ck17 (by decide) rfl rfl (by decide) hT q479 rfl rfl rfl rfl rfl dJ9_init_2_24 ?_
    refine g_nV w (fun V30 w _ => ?_)
    refine g_aload_n O dJ9_init_2_27 rfl ?_
    refine g_aload_n O dJ9_init_2_28 rfl ?_
    refine g_iconst (v := 0) O dJ9_init_2_29 (by decide) ?_
    refine g_iload O dJ9_init_2_30 rfl ?_
    obtain ⟨c31, U32, e33, w⟩ := w
    have hk9 := kOk.eq hk e33
    refine g_mq (gr_S (nA := 3) (As := [.ref r1, .int 0, .int r9]) (rest := [.ref t]) O hRm (kFJ13_copyOfRange _ O.2.2.2.2.2.2.2.2 (cxE X) _ _ _ _ _ _ (r1) a4 k5 n6 h7 g8 (0) (r9) _ w) (lw_S q424 q425 q121 q426) rfl rfl (by decide +kernel) ⟨Nat.le_of_ble_eq_true rfl, Nat.le_of_ble_eq_true rfl⟩ rfl rfl rfl (Nat.le_of_ble_eq_true rfl) dJ9_init_2_32 (kOk.fa hk9)) (fun r37 z T L V34 P35 w => ?_)
    have hk36 := kOk.sa hk9
    obtain ⟨h38, w⟩ := w
    obtain ⟨a39, k40, n41, h42, g43, w⟩ := w
    refine gx_putRF (lay := 17) (j := 0) (x := (some r37)) O hI ck17 (by decide) rfl rfl (by decide) h38 q478 rfl rfl rfl (by first | exact Or.inl ⟨_, rfl⟩ | exact Or.inr ⟨_, rfl⟩) dJ9_init_2_35 ?_
    refine g_nP w (fun P44 w _ => ?_)
    refine g_goto (tgt := 97) O dJ9_init_2_38 (by decide) ?_
    exact gm2_vret O hQ (kOk.m hk36) w dJ9_init_2_97
-- J9_init
abbrev rFJ9_init (U0 : Nat) : Room := { frames := 6, cells := 8 * U0, slots := 32 * U0, locals := 151 }
set_option maxHeartbeats 4000000 in
theorem kFJ9_init (l : Launch) (hfl : l.flags = flags0) (E : w_E) (U0 z : Nat) (T L : Nat → Nat) (V : w_V) (P : w_P) (t : Nat) (hT : T t = 18) (x1 : Nat) (hx1 : T x1 = 19) (post : Nat → (Nat → Nat) → (Nat → Nat) → w_V → w_P → Prop) (w : wFJ9_init E.2.2.2.2 U0 z T L V P t x1 post) : Met l yJ9_init (ws_ yJ9_init cJ9_init 2 none) (rFJ9_init U0) (va_Pc [.ref t, .ref x1] (fun U => kenv E U ∧ wdW E (z, T, L, V, P) U.heap)) (va_Qv (qF0 post) (wdF E) (w_A E)) (8 * U0) (32 * U0) (w_A E) := by
  refine g_startN (w := (z, T, L, V, P)) hfl (by decide +kernel) rfl [some (.ref t), some (.ref x1)] rfl (fun _ h => h) (Nat.le_of_ble_eq_true rfl) (fun X hl hRm hEe O hI hQ => ?_)
  subst hl
  subst hEe
  have hk : kOk (rFJ9_init U0) 0 0 U0 := ⟨by show 0 + 8 * U0 ≤ 8 * U0; omega, by show 0 + 32 * U0 ≤ 32 * U0; omega⟩
  unfold wFJ9_init at w
  refine g_aload_n O dJ9_init_0 rfl ?_
  refine g_aload_n O dJ9_init_1 rfl ?_
  refine g_null O dJ9_init_2 ?_
  obtain ⟨c1, U2, e3, w⟩ := w
  have hk9 := kOk.eq hk e3
  refine g_mv (gr_I (nA := 2) (As := [.ref x1, .null]) (rest := []) O hRm (kFJ9_init_2 _ O.2.2.2.2.2.2.2.2 (cxE X) _ _ _ _ _ _ t hT x1 hx1 _ w) (lw_meth q408) q406 q407 q117 rfl rfl rfl (by decide +kernel) ⟨Nat.le_of_ble_eq_true rfl, Nat.le_of_ble_eq_true rfl⟩ rfl rfl rfl (Nat.le_of_ble_eq_true rfl) dJ9_init_3 (kOk.fa hk9)) (fun z T L V4 P5 w => ?_)
  have hk6 := kOk.sa hk9
  exact gm2_vret O hQ (kOk.m hk6) w dJ9_init_6
-- J9_init_3
abbrev rFJ9_init_3 (U0 : Nat) : Room := { frames := 2, cells := 8 * U0, slots := 32 * U0, locals := 60 }
set_option maxHeartbeats 4000000 in
theorem kFJ9_init_3 (l : Launch) (hfl : l.flags = flags0) (E : w_E) (U0 z : Nat) (T L : Nat → Nat) (V : w_V) (P : w_P) (t : Nat) (hT : T t = 18) (dx1 ax1 kx1 nx1 : Nat) (hx1 : hArr T L dx1 ax1 kx1 nx1 1) (gx1 : nx1 < 2147483648) (x2 : Int32) (post : Nat → (Nat → Nat) → (Nat → Nat) → w_V → w_P → Prop) (w : wFJ9_init_3 E.2.2.2.2 U0 z T L V P t dx1 ax1 kx1 nx1 x2 post) : Met l yJ9_init_3 (ws_ yJ9_init_3 cJ9_init_3 3 none) (rFJ9_init_3 U0) (va_Pc [.ref t, .ref dx1, .int x2] (fun U => kenv E U ∧ wdW E (z, T, L, V, P) U.heap)) (va_Qv (qF0 post) (wdF E) (w_A E)) (8 * U0) (32 * U0) (w_A E) := by
  refine g_startN (w := (z, T, L, V, P)) hfl (by decide +kernel) rfl [some (.ref t), some (.ref dx1), some (.int x2)] rfl (fun _ h => h) (Nat.le_of_ble_eq_true rfl) (fun X hl hRm hEe O hI hQ => ?_)
  subst hl
  subst hEe
  have hk : kOk (rFJ9_init_3 U0) 0 0 U0 := ⟨by show 0 + 8 * U0 ≤ 8 * U0; omega, by show 0 + 32 * U0 ≤ 32 * U0; omega⟩
  unfold wFJ9_init_3 at w
  refine g_aload_n O dJ9_init_3_0 rfl ?_
  refine gc_objInit O hRm q409 (Nat.le_of_ble_eq_true rfl) (Nat.le_of_ble_eq_true rfl) rfl dJ9_init_3_1 ?_
  refine g_aload_n O dJ9_init_3_4 rfl ?_
  refine g_aload_n O dJ9_init_3_5 rfl ?_
  refine gx_putRF (lay := 17) (j := 0) (x := (some dx1)) O hI ck17 (by decide) rfl rfl (by decide) hT q478 rfl rfl rfl (by first | exact Or.inl ⟨_, rfl⟩ | exact Or.inr ⟨_, rfl⟩) dJ9_init_3_6 ?_
  refine g_nP w (fun P1 w _ => ?_)
  refine g_aload_n O dJ9_init_3_9 rfl ?_
  refine g_iload_n O dJ9_init_3_10 rfl ?_
  obtain ⟨hz3, hf2, w⟩ := w
  refine gx_putIF (lay := 17) (j := 1) (ty := .byte) (x := x2) O hI ck17 (by decide) rfl rfl (by decide) hT q479 rfl rfl rfl hz3 hf2 dJ9_init_3_11 ?_
  refine g_nV w (fun V4 w _ => ?_)
  exact gm2_vret O hQ (kOk.m hk) w dJ9_init_3_14
-- J9_valueOf
abbrev rFJ9_valueOf (U0 : Nat) : Room := { frames := 3, cells := 8 * U0, slots := 32 * U0, locals := 82 }
set_option maxHeartbeats 4000000 in
theorem vjFJ9_valueOf_26 {X : Cx} {U0 : Nat} (O : Okc X cJ9_valueOf RJ9 1 (some (.object "java/lang/String"))) (hRm : cxR X = (rFJ9_valueOf U0)) {kc ks U z : Nat} {T L : Nat → Nat} {V : w_V} {P : w_P} (x0 : Int32) (post : Nat → Nat → (Nat → Nat) → (Nat → Nat) → w_V → w_P → Prop) (hk : kOk (rFJ9_valueOf U0) kc ks U) (hQ : cxMQ X (va_Qq (qFn post) (wdF (cxE X)) (w_A (cxE X))) (rFJ9_valueOf U0).cells (rFJ9_valueOf U0).slots) (w : jFJ9_valueOf_26 (cxE X).2.2.2.2 U z T L V P x0 post) : gW X kc ks z T L V P 26 [some (.int x0)] [] := by
  unfold jFJ9_valueOf_26 at w
  obtain ⟨U9, e10, w⟩ := w
  have hk9 := kOk.eq hk e10
  refine gq_new (lay := 17) (u := 1) O hRm ck17 (by decide) rfl (by decide +kernel) q972 q402 q117 hk9 (by decide) (by decide) dJ9_valueOf_26 (fun o4 z T L V5 P6 hk7 hn8 => ?_)
  replace w := w o4 z T L V5 P6 hn8
  refine g_dup O dJ9_valueOf_29 rfl ?_
  refine g_iload_n O dJ9_valueOf_30 rfl ?_
  exact w.elim
set_option maxHeartbeats 4000000 in
theorem kFJ9_valueOf (l : Launch) (hfl : l.flags = flags0) (E : w_E) (U0 z : Nat) (T L : Nat → Nat) (V : w_V) (P : w_P) (x0 : Int32) (post : Nat → Nat → (Nat → Nat) → (Nat → Nat) → w_V → w_P → Prop) (w : wFJ9_valueOf E.2.2.2.2 U0 z T L V P x0 post) : Met l yJ9_valueOf (ws_ yJ9_valueOf cJ9_valueOf 1 (some (.object "java/lang/String"))) (rFJ9_valueOf U0) (va_Pc [.int x0] (fun U => kenv E U ∧ wdW E (z, T, L, V, P) U.heap)) (va_Qq (qFn post) (wdF E) (w_A E)) (8 * U0) (32 * U0) (w_A E) := by
  refine g_startN (w := (z, T, L, V, P)) hfl (by decide +kernel) rfl [some (.int x0)] rfl (fun _ h => h) (Nat.le_of_ble_eq_true rfl) (fun X hl hRm hEe O hI hQ => ?_)
  subst hl
  subst hEe
  have hk : kOk (rFJ9_valueOf U0) 0 0 U0 := ⟨by show 0 + 8 * U0 ≤ 8 * U0; omega, by show 0 + 32 * U0 ≤ 32 * U0; omega⟩
  unfold wFJ9_valueOf at w
  refine gs_compact O q337 dJ9_valueOf_0 ?_
  refine g_if_eq_f O (by decide) dJ9_valueOf_3 26 (by decide) ?_
  refine g_iload_n O dJ9_valueOf_6 rfl ?_
  refine g_ri0 (gr_S (nA := 1) (As := [.int x0]) (rest := []) O hRm (kJ15_canEncode _ O.2.2.2.2.2.2.2.2 _ _ _ _ _ _ (x0) _ w) (lw_S q971 q941 q124 q942) rfl rfl (by decide +kernel) ⟨Nat.le_of_ble_eq_true rfl, Nat.le_of_ble_eq_true rfl⟩ rfl rfl rfl (Nat.le_of_ble_eq_true rfl) dJ9_valueOf_7 (kOk.f0 hk)) (fun r1 w => ?_)
  have hk := kOk.s0 hk
  refine g_if_eq (tgt := 26) O w dJ9_valueOf_10 (by decide) (fun w => ?_) (fun w => ?_)
  · exact vjFJ9_valueOf_26 O hRm (x0) post hk hQ w
  · obtain ⟨U16, e17, w⟩ := w
    have hk9 := kOk.eq hk e17
    refine gq_new (lay := 17) (u := 1) O hRm ck17 (by decide) rfl (by decide +kernel) q972 q402 q117 hk9 (by decide) (by decide) dJ9_valueOf_13 (fun o11 z T L V12 P13 hk14 hn15 => ?_)
    replace w := w o11 z T L V12 P13 hn15
    refine g_dup O dJ9_valueOf_16 rfl ?_
    refine g_iload_n O dJ9_valueOf_17 rfl ?_
    obtain ⟨c18, U19, e20, w⟩ := w
    have hk9 := kOk.eq hk14 e20
    refine g_mq (gr_S (nA := 1) (As := [.int x0]) (rest := [.ref o11, .ref o11]) O hRm (kFJ15_toBytes _ O.2.2.2.2.2.2.2.2 (cxE X) _ _ _ _ _ _ (x0) _ w) (lw_S q973 q974 q124 q975) rfl rfl (by decide +kernel) ⟨Nat.le_of_ble_eq_true rfl, Nat.le_of_ble_eq_true rfl⟩ rfl rfl rfl (Nat.le_of_ble_eq_true rfl) dJ9_valueOf_18 (kOk.fa hk9)) (fun r24 z T L V21 P22 w => ?_)
    have hk23 := kOk.sa hk9
    obtain ⟨h25, w⟩ := w
    obtain ⟨a26, k27, n28, h29, g30, w⟩ := w
    refine g_iconst (v := 0) O dJ9_valueOf_21 (by decide) ?_
    obtain ⟨c31, U32, e33, w⟩ := w
    have hk9 := kOk.eq hk23 e33
    refine g_mv (gr_I (nA := 2) (As := [.ref r24, .int 0]) (rest := [.ref o11]) O hRm (kFJ9_init_3 _ O.2.2.2.2.2.2.2.2 (cxE X) _ _ _ _ _ _ o11 h25 (r24) a26 k27 n28 h29 g30 (0) _ w) (lw_meth q978) q976 q977 q117 rfl rfl rfl (by decide +kernel) ⟨Nat.le_of_ble_eq_true rfl, Nat.le_of_ble_eq_true rfl⟩ rfl rfl rfl (Nat.le_of_ble_eq_true rfl) dJ9_valueOf_22 (kOk.fa hk9)) (fun z T L V34 P35 w => ?_)
    have hk36 := kOk.sa hk9
    obtain ⟨h38, w⟩ := w
    exact gm2_aret O hQ (kOk.m hk36) (by first | exact Or.inl ⟨_, rfl⟩ | exact Or.inr ⟨_, rfl⟩) w dJ9_valueOf_25
-- J7_init
abbrev rFJ7_init (U0 : Nat) : Room := { frames := 2, cells := 8 * U0, slots := 32 * U0, locals := 60 }
set_option maxHeartbeats 4000000 in
theorem kFJ7_init (l : Launch) (hfl : l.flags = flags0) (E : w_E) (U0 z : Nat) (T L : Nat → Nat) (V : w_V) (P : w_P) (t : Nat) (hT : T t = 19) (x1 : Int32) (post : Nat → (Nat → Nat) → (Nat → Nat) → w_V → w_P → Prop) (w : wFJ7_init E.2.2.2.2 U0 z T L V P t x1 post) : Met l yJ7_init (ws_ yJ7_init cJ7_init 2 none) (rFJ7_init U0) (va_Pc [.ref t, .int x1] (fun U => kenv E U ∧ wdW E (z, T, L, V, P) U.heap)) (va_Qv (qF0 post) (wdF E) (w_A E)) (8 * U0) (32 * U0) (w_A E) := by
  refine g_startN (w := (z, T, L, V, P)) hfl (by decide +kernel) rfl [some (.ref t), some (.int x1)] rfl (fun _ h => h) (Nat.le_of_ble_eq_true rfl) (fun X hl hRm hEe O hI hQ => ?_)
  subst hl
  subst hEe
  have hk : kOk (rFJ7_init U0) 0 0 U0 := ⟨by show 0 + 8 * U0 ≤ 8 * U0; omega, by show 0 + 32 * U0 ≤ 32 * U0; omega⟩
  unfold wFJ7_init at w
  refine g_aload_n O dJ7_init_0 rfl ?_
  refine gc_objInit O hRm q226 (Nat.le_of_ble_eq_true rfl) (Nat.le_of_ble_eq_true rfl) rfl dJ7_init_1 ?_
  refine gs_compact O q227 dJ7_init_4 ?_
  refine g_if_eq_f O (by decide) dJ7_init_7 25 (by decide) ?_
  refine g_aload_n O dJ7_init_10 rfl ?_
  refine g_iload_n O dJ7_init_11 rfl ?_
  obtain ⟨n1, u12, U7, e13, e14, e15, e16, e8, w⟩ := w
  have hk9 := kOk.eq hk e8
  refine gq_newB O hRm q250 e13 e14 hk9 e15 e16 dJ7_init_12 (fun o2 z T L V3 P4 hk5 hn6 => ?_)
  replace w := w o2 z T L V3 P4 hn6
  obtain ⟨h9, w⟩ := w
  refine gx_putR (lay := 18) (j := 0) (x := (some o2)) O ck18 (by decide) rfl rfl (by decide) h9 q236 rfl rfl rfl rfl dJ7_init_14 ?_
  refine g_nP w (fun P10 w _ => ?_)
  refine g_aload_n O dJ7_init_17 rfl ?_
  refine g_iconst (v := 0) O dJ7_init_18 (by decide) ?_
  refine gx_putI (lay := 18) (j := 1) (ty := .byte) O ck18 (by decide) rfl rfl (by decide) h9 q237 rfl rfl rfl rfl dJ7_init_19 ?_
  refine g_nV w (fun V11 w _ => ?_)
  refine g_goto (tgt := 38) O dJ7_init_22 (by decide) ?_
  exact gm2_vret O hQ (kOk.m hk5) w dJ7_init_38
-- J8_init_2
abbrev rFJ8_init_2 (U0 : Nat) : Room := { frames := 3, cells := 8 * U0, slots := 32 * U0, locals := 81 }
set_option maxHeartbeats 4000000 in
theorem kFJ8_init_2 (l : Launch) (hfl : l.flags = flags0) (E : w_E) (U0 z : Nat) (T L : Nat → Nat) (V : w_V) (P : w_P) (t : Nat) (hT : T t = 19) (x1 : Int32) (post : Nat → (Nat → Nat) → (Nat → Nat) → w_V → w_P → Prop) (w : wFJ8_init_2 E.2.2.2.2 U0 z T L V P t x1 post) : Met l yJ8_init_2 (ws_ yJ8_init_2 cJ8_init_2 2 none) (rFJ8_init_2 U0) (va_Pc [.ref t, .int x1] (fun U => kenv E U ∧ wdW E (z, T, L, V, P) U.heap)) (va_Qv (qF0 post) (wdF E) (w_A E)) (8 * U0) (32 * U0) (w_A E) := by
  refine g_startN (w := (z, T, L, V, P)) hfl (by decide +kernel) rfl [some (.ref t), some (.int x1)] rfl (fun _ h => h) (Nat.le_of_ble_eq_true rfl) (fun X hl hRm hEe O hI hQ => ?_)
  subst hl
  subst hEe
  have hk : kOk (rFJ8_init_2 U0) 0 0 U0 := ⟨by show 0 + 8 * U0 ≤ 8 * U0; omega, by show 0 + 32 * U0 ≤ 32 * U0; omega⟩
  unfold wFJ8_init_2 at w
  refine g_aload_n O dJ8_init_2_0 rfl ?_
  refine g_iload_n O dJ8_init_2_1 rfl ?_
  obtain ⟨c1, U2, e3, w⟩ := w
  have hk9 := kOk.eq hk e3
  refine g_mv (gr_I (nA := 1) (As := [.int x1]) (rest := []) O hRm (kFJ7_init _ O.2.2.2.2.2.2.2.2 (cxE X) _ _ _ _ _ _ t hT (x1) _ w) (lw_meth q225) q223 q224 q115 rfl rfl rfl (by decide +kernel) ⟨Nat.le_of_ble_eq_true rfl, Nat.le_of_ble_eq_true rfl⟩ rfl rfl rfl (Nat.le_of_ble_eq_true rfl) dJ8_init_2_2 (kOk.fa hk9)) (fun z T L V4 P5 w => ?_)
  have hk6 := kOk.sa hk9
  exact gm2_vret O hQ (kOk.m hk6) w dJ8_init_2_5
-- J8_toString
abbrev rFJ8_toString (U0 : Nat) : Room := { frames := 7, cells := 8 * U0, slots := 32 * U0, locals := 172 }
set_option maxHeartbeats 4000000 in
theorem kFJ8_toString (l : Launch) (hfl : l.flags = flags0) (E : w_E) (U0 z : Nat) (T L : Nat → Nat) (V : w_V) (P : w_P) (t : Nat) (hT : T t = 19) (post : Nat → Nat → (Nat → Nat) → (Nat → Nat) → w_V → w_P → Prop) (w : wFJ8_toString E.2.2.2.2 U0 z T L V P t post) : Met l yJ8_toString (ws_ yJ8_toString cJ8_toString 1 (some (.object "java/lang/String"))) (rFJ8_toString U0) (va_Pc [.ref t] (fun U => kenv E U ∧ wdW E (z, T, L, V, P) U.heap)) (va_Qq (qFn post) (wdF E) (w_A E)) (8 * U0) (32 * U0) (w_A E) := by
  refine g_startN (w := (z, T, L, V, P)) hfl (by decide +kernel) rfl [some (.ref t)] rfl (fun _ h => h) (Nat.le_of_ble_eq_true rfl) (fun X hl hRm hEe O hI hQ => ?_)
  subst hl
  subst hEe
  have hk : kOk (rFJ8_toString U0) 0 0 U0 := ⟨by show 0 + 8 * U0 ≤ 8 * U0; omega, by show 0 + 32 * U0 ≤ 32 * U0; omega⟩
  unfold wFJ8_toString at w
  obtain ⟨U6, e7, w⟩ := w
  have hk9 := kOk.eq hk e7
  refine gq_new (lay := 17) (u := 1) O hRm ck17 (by decide) rfl (by decide +kernel) q401 q402 q117 hk9 (by decide) (by decide) dJ8_toString_0 (fun o1 z T L V2 P3 hk4 hn5 => ?_)
  replace w := w o1 z T L V2 P3 hn5
  obtain ⟨h8, w⟩ := w
  refine g_dup O dJ8_toString_3 rfl ?_
  refine g_aload_n O dJ8_toString_4 rfl ?_
  obtain ⟨c9, U10, e11, w⟩ := w
  have hk9 := kOk.eq hk4 e11
  refine g_mv (gr_I (nA := 1) (As := [.ref t]) (rest := [.ref o1]) O hRm (kFJ9_init _ O.2.2.2.2.2.2.2.2 (cxE X) _ _ _ _ _ _ o1 hn5.t t h8 _ w) (lw_meth q405) q403 q404 q117 rfl rfl rfl (by decide +kernel) ⟨Nat.le_of_ble_eq_true rfl, Nat.le_of_ble_eq_true rfl⟩ rfl rfl rfl (Nat.le_of_ble_eq_true rfl) dJ8_toString_5 (kOk.fa hk9)) (fun z T L V12 P13 w => ?_)
  have hk14 := kOk.sa hk9
  obtain ⟨h16, w⟩ := w
  exact gm2_aret O hQ (kOk.m hk14) (by first | exact Or.inl ⟨_, rfl⟩ | exact Or.inr ⟨_, rfl⟩) w dJ8_toString_8
-- X4_values
abbrev rFX4_values (U0 : Nat) : Room := { frames := 2, cells := 8 * U0, slots := 32 * U0, locals := 60 }
set_option maxHeartbeats 4000000 in
theorem kFX4_values (l : Launch) (hfl : l.flags = flags0) (E : w_E) (U0 z : Nat) (T L : Nat → Nat) (V : w_V) (P : w_P) (post : Nat → Nat → (Nat → Nat) → (Nat → Nat) → w_V → w_P → Prop) (w : wFX4_values E.2.2.2.2 U0 z T L V P  post) : Met l yX4_values (ws_ yX4_values cX4_values 0 (some (.array (.object "ApartBench$Value")))) (rFX4_values U0) (va_Pc [] (fun U => kenv E U ∧ wdW E (z, T, L, V, P) U.heap)) (va_Qq (qFn post) (wdF E) (w_A E)) (8 * U0) (32 * U0) (w_A E) := by
  refine g_startN (w := (z, T, L, V, P)) hfl (by decide +kernel) rfl [] rfl (fun _ h => h) (Nat.le_of_ble_eq_true rfl) (fun X hl hRm hEe O hI hQ => ?_)
  subst hl
  subst hEe
  have hk : kOk (rFX4_values U0) 0 0 U0 := ⟨by show 0 + 8 * U0 ≤ 8 * U0; omega, by show 0 + 32 * U0 ≤ 32 * U0; omega⟩
  unfold wFX4_values at w
  refine gx_getst (i := 10) O rfl q511 dX4_values_0 ?_
  obtain ⟨U6, e7, w⟩ := w
  have hk9 := kOk.eq hk e7
  refine gq_cloneV O hRm q513 (Nat.le_of_ble_eq_true rfl) (Nat.le_of_ble_eq_true rfl) rfl dX4_values_3 hk9 w (fun o1 z T L V2 P3 hk4 hn5 w => ?_)
  refine gq_cast (ty := 6) O rfl (by decide) hn5 (by decide +kernel) q518 dX4_values_6 ?_
  exact gm2_aret O hQ (kOk.m hk4) (by first | exact Or.inl ⟨_, rfl⟩ | exact Or.inr ⟨_, rfl⟩) w dX4_values_9
-- X3_init
abbrev rFX3_init (U0 : Nat) : Room := { frames := 3, cells := 8 * U0, slots := 32 * U0, locals := 79 }
set_option maxHeartbeats 4000000 in
theorem kFX3_init (l : Launch) (hfl : l.flags = flags0) (E : w_E) (U0 z : Nat) (T L : Nat → Nat) (V : w_V) (P : w_P) (t : Nat) (hT : T t = 54) (post : Nat → (Nat → Nat) → (Nat → Nat) → w_V → w_P → Prop) (w : wFX3_init E.2.2.2.2 U0 z T L V P t post) : Met l yX3_init (ws_ yX3_init cX3_init 1 none) (rFX3_init U0) (va_Pc [.ref t] (fun U => kenv E U ∧ wdW E (z, T, L, V, P) U.heap)) (va_Qv (qF0 post) (wdF E) (w_A E)) (8 * U0) (32 * U0) (w_A E) := by
  refine g_startN (w := (z, T, L, V, P)) hfl (by decide +kernel) rfl [some (.ref t)] rfl (fun _ h => h) (Nat.le_of_ble_eq_true rfl) (fun X hl hRm hEe O hI hQ => ?_)
  subst hl
  subst hEe
  have hk : kOk (rFX3_init U0) 0 0 U0 := ⟨by show 0 + 8 * U0 ≤ 8 * U0; omega, by show 0 + 32 * U0 ≤ 32 * U0; omega⟩
  unfold wFX3_init at w
  refine g_aload_n O dX3_init_0 rfl ?_
  refine gc_objInit O hRm q507 (Nat.le_of_ble_eq_true rfl) (Nat.le_of_ble_eq_true rfl) rfl dX3_init_1 ?_
  refine g_aload_n O dX3_init_4 rfl ?_
  obtain ⟨c1, U2, e3, w⟩ := w
  have hk9 := kOk.eq hk e3
  refine g_mq (gr_S (nA := 0) (As := []) (rest := [.ref t]) O hRm (kFX4_values _ O.2.2.2.2.2.2.2.2 (cxE X) _ _ _ _ _ _ _ w) (lw_S q508 q509 q129 q510) rfl rfl (by decide +kernel) ⟨Nat.le_of_ble_eq_true rfl, Nat.le_of_ble_eq_true rfl⟩ rfl rfl rfl (Nat.le_of_ble_eq_true rfl) dX3_init_5 (kOk.fa hk9)) (fun r7 z T L V4 P5 w => ?_)
  have hk6 := kOk.sa hk9
  obtain ⟨h8, hr9, w⟩ := w
  refine gx_alenR (ty := 6) O hr9 (by decide) rfl dX3_init_8 ?_
  obtain ⟨n10, u22, U16, e23, e24, e25, e26, e17, w⟩ := w
  have hk9 := kOk.eq hk6 e17
  refine gq_newI O hRm q249 e23 e24 hk9 e25 e26 dX3_init_9 (fun o11 z T L V12 P13 hk14 hn15 => ?_)
  replace w := w o11 z T L V12 P13 hn15
  obtain ⟨h18, w⟩ := w
  refine gx_putRF (lay := 53) (j := 0) (x := (some o11)) O hI ck3 (by decide) rfl rfl (by decide) h18 q519 rfl rfl rfl (by first | exact Or.inl ⟨_, rfl⟩ | exact Or.inr ⟨_, rfl⟩) dX3_init_11 ?_
  refine g_nP w (fun P19 w _ => ?_)
  refine gq_seal (c := 3) (by decide) rfl w (fun T V20 hT21 w => ?_)
  exact gm2_vret O hQ (kOk.m hk14) w dX3_init_14
-- X2_init
abbrev rFX2_init (U0 : Nat) : Room := { frames := 5, cells := 8 * U0, slots := 32 * U0, locals := 121 }
set_option maxHeartbeats 4000000 in
theorem kFX2_init (l : Launch) (hfl : l.flags = flags0) (E : w_E) (U0 z : Nat) (T L : Nat → Nat) (V : w_V) (P : w_P) (t : Nat) (hT : T t = 53) (post : Nat → (Nat → Nat) → (Nat → Nat) → w_V → w_P → Prop) (w : wFX2_init E.2.2.2.2 U0 z T L V P t post) : Met l yX2_init (ws_ yX2_init cX2_init 1 none) (rFX2_init U0) (va_Pc [.ref t] (fun U => kenv E U ∧ wdW E (z, T, L, V, P) U.heap)) (va_Qv (qF0 post) (wdF E) (w_A E)) (8 * U0) (32 * U0) (w_A E) := by
  refine g_startN (w := (z, T, L, V, P)) hfl (by decide +kernel) rfl [some (.ref t)] rfl (fun _ h => h) (Nat.le_of_ble_eq_true rfl) (fun X hl hRm hEe O hI hQ => ?_)
  subst hl
  subst hEe
  have hk : kOk (rFX2_init U0) 0 0 U0 := ⟨by show 0 + 8 * U0 ≤ 8 * U0; omega, by show 0 + 32 * U0 ≤ 32 * U0; omega⟩
  unfold wFX2_init at w
  refine g_aload_n O dX2_init_0 rfl ?_
  refine gc_objInit O hRm q160 (Nat.le_of_ble_eq_true rfl) (Nat.le_of_ble_eq_true rfl) rfl dX2_init_1 ?_
  refine g_aload_n O dX2_init_4 rfl ?_
  refine g_bipush (v := 10) O dX2_init_5 (by decide) ?_
  refine gx_putI (lay := 52) (j := 2) (ty := .int) O ck2 (by decide) rfl rfl (by decide) hT q529 rfl rfl rfl rfl dX2_init_7 ?_
  refine g_nV w (fun V1 w _ => ?_)
  refine g_aload_n O dX2_init_10 rfl ?_
  refine g_bipush (v := 81) O dX2_init_11 (by decide) ?_
  obtain ⟨U7, e8, w⟩ := w
  have hk9 := kOk.eq hk e8
  refine gq_newI (N := 81) (u := 3) O hRm q249 rfl (by decide) hk9 (by decide) (by decide) dX2_init_13 (fun o2 z T L V3 P4 hk5 hn6 => ?_)
  replace w := w o2 z T L V3 P4 hn6
  obtain ⟨h9, w⟩ := w
  refine gx_putRF (lay := 52) (j := 4) (x := (some o2)) O hI ck2 (by decide) rfl rfl (by decide) h9 q534 rfl rfl rfl (by first | exact Or.inl ⟨_, rfl⟩ | exact Or.inr ⟨_, rfl⟩) dX2_init_15 ?_
  refine g_nP w (fun P10 w _ => ?_)
  refine g_aload_n O dX2_init_18 rfl ?_
  refine g_bipush (v := 81) O dX2_init_19 (by decide) ?_
  obtain ⟨U16, e17, w⟩ := w
  have hk9 := kOk.eq hk5 e17
  refine gq_newI (N := 81) (u := 3) O hRm q249 rfl (by decide) hk9 (by decide) (by decide) dX2_init_21 (fun o11 z T L V12 P13 hk14 hn15 => ?_)
  replace w := w o11 z T L V12 P13 hn15
  obtain ⟨h18, w⟩ := w
  refine gx_putRF (lay := 52) (j := 5) (x := (some o11)) O hI ck2 (by decide) rfl rfl (by decide) h18 q537 rfl rfl rfl (by first | exact Or.inl ⟨_, rfl⟩ | exact Or.inr ⟨_, rfl⟩) dX2_init_23 ?_
  refine g_nP w (fun P19 w _ => ?_)
  refine gq_seal (c := 2) (by decide) rfl w (fun T V20 hT21 w => ?_)
  refine g_aload_n O dX2_init_26 rfl ?_
  obtain ⟨U27, e28, w⟩ := w
  have hk9 := kOk.eq hk14 e28
  refine gq_new (lay := 15) (u := 1) O hRm ck15 (by decide) rfl (by decide +kernel) q161 q162 q110 hk9 (by decide) (by decide) dX2_init_27 (fun o22 z T L V23 P24 hk25 hn26 => ?_)
  replace w := w o22 z T L V23 P24 hn26
  obtain ⟨h29, w⟩ := w
  refine g_dup O dX2_init_30 rfl ?_
  refine g_iconst (v := 1) O dX2_init_31 (by decide) ?_
  obtain ⟨c30, U31, e32, w⟩ := w
  have hk9 := kOk.eq hk25 e32
  refine g_mv (gr_I (nA := 1) (As := [.int 1]) (rest := [.ref o22, .ref t]) O hRm (kFJ2_init _ O.2.2.2.2.2.2.2.2 (cxE X) _ _ _ _ _ _ o22 hn26.t (1) _ w) (lw_meth q165) q163 q164 q110 rfl rfl rfl (by decide +kernel) ⟨Nat.le_of_ble_eq_true rfl, Nat.le_of_ble_eq_true rfl⟩ rfl rfl rfl (Nat.le_of_ble_eq_true rfl) dX2_init_32 (kOk.fa hk9)) (fun z T L V33 P34 w => ?_)
  have hk35 := kOk.sa hk9
  obtain ⟨h37, h38, w⟩ := w
  refine gx_putRF (lay := 2) (j := 6) (x := (some o22)) O hI ck2 (by decide) rfl rfl (by decide) h38 q538 rfl rfl rfl (by first | exact Or.inl ⟨_, rfl⟩ | exact Or.inr ⟨_, rfl⟩) dX2_init_35 ?_
  refine g_nP w (fun P39 w _ => ?_)
  refine g_aload_n O dX2_init_38 rfl ?_
  obtain ⟨U45, e46, w⟩ := w
  have hk9 := kOk.eq hk35 e46
  refine gq_new (lay := 15) (u := 1) O hRm ck15 (by decide) rfl (by decide +kernel) q161 q162 q110 hk9 (by decide) (by decide) dX2_init_39 (fun o40 z T L V41 P42 hk43 hn44 => ?_)
  replace w := w o40 z T L V41 P42 hn44
  obtain ⟨h47, w⟩ := w
  refine g_dup O dX2_init_42 rfl ?_
  refine g_iconst (v := 1) O dX2_init_43 (by decide) ?_
  obtain ⟨c48, U49, e50, w⟩ := w
  have hk9 := kOk.eq hk43 e50
  refine g_mv (gr_I (nA := 1) (As := [.int 1]) (rest := [.ref o40, .ref t]) O hRm (kFJ2_init _ O.2.2.2.2.2.2.2.2 (cxE X) _ _ _ _ _ _ o40 hn44.t (1) _ w) (lw_meth q165) q163 q164 q110 rfl rfl rfl (by decide +kernel) ⟨Nat.le_of_ble_eq_true rfl, Nat.le_of_ble_eq_true rfl⟩ rfl rfl rfl (Nat.le_of_ble_eq_true rfl) dX2_init_44 (kOk.fa hk9)) (fun z T L V51 P52 w => ?_)
  have hk53 := kOk.sa hk9
  obtain ⟨h55, h56, w⟩ := w
  refine gx_putRF (lay := 2) (j := 7) (x := (some o40)) O hI ck2 (by decide) rfl rfl (by decide) h56 q543 rfl rfl rfl (by first | exact Or.inl ⟨_, rfl⟩ | exact Or.inr ⟨_, rfl⟩) dX2_init_47 ?_
  refine g_nP w (fun P57 w _ => ?_)
  refine g_aload_n O dX2_init_50 rfl ?_
  obtain ⟨U63, e64, w⟩ := w
  have hk9 := kOk.eq hk53 e64
  refine gq_new (lay := 53) (u := 1) O hRm ck3 (by decide) rfl (by decide +kernel) q502 q503 q127 hk9 (by decide) (by decide) dX2_init_51 (fun o58 z T L V59 P60 hk61 hn62 => ?_)
  replace w := w o58 z T L V59 P60 hn62
  obtain ⟨h65, w⟩ := w
  refine g_dup O dX2_init_54 rfl ?_
  obtain ⟨c66, U67, e68, w⟩ := w
  have hk9 := kOk.eq hk61 e68
  refine g_mv (gr_IN (nA := 0) (As := []) (rest := [.ref o58, .ref t]) O hRm (kFX3_init _ O.2.2.2.2.2.2.2.2 (cxE X) _ _ _ _ _ _ o58 hn62.t _ w) (lw_meth q506) q504 q505 q127 rfl rfl rfl (by decide +kernel) ⟨Nat.le_of_ble_eq_true rfl, Nat.le_of_ble_eq_true rfl⟩ rfl rfl rfl (Nat.le_of_ble_eq_true rfl) dX2_init_55 (kOk.fa hk9)) (fun z T L V69 P70 w => ?_)
  have hk71 := kOk.sa hk9
  obtain ⟨h73, h74, w⟩ := w
  refine gx_putRF (lay := 2) (j := 9) (x := (some o58)) O hI ck2 (by decide) rfl rfl (by decide) h74 q549 rfl rfl rfl (by first | exact Or.inl ⟨_, rfl⟩ | exact Or.inr ⟨_, rfl⟩) dX2_init_58 ?_
  refine g_nP w (fun P75 w _ => ?_)
  exact gm2_vret O hQ (kOk.m hk71) w dX2_init_61
-- X5_init
abbrev rFX5_init (U0 : Nat) : Room := { frames := 8, cells := 8 * U0, slots := 32 * U0, locals := 191 }
set_option maxHeartbeats 4000000 in
theorem vlFX5_init_61 {X : Cx} {U0 : Nat} (O : Okc X cX5_init RX5 2 none) (hRm : cxR X = (rFX5_init U0)) (hI : (cxM X).name = "<init>") (x0 : Nat) (post : Nat → (Nat → Nat) → (Nat → Nat) → w_V → w_P → Prop) (hQ : cxMQ X (va_Qv (qF0 post) (wdF (cxE X)) (w_A (cxE X))) (rFX5_init U0).cells (rFX5_init U0).slots) : ∀ (n kc ks U z : Nat) (T L : Nat → Nat) (V : w_V) (P : w_P) (x1 : Int32) (hx0 : T x0 = 5), kOk (rFX5_init U0) kc ks U → lFX5_init_61 (cxE X).2.2.2.2 x0 post n U z T L V P x1 → gW X kc ks z T L V P 61 [some (.ref x0), some (.int x1)] [] := by
  intro n
  induction n with
  | zero =>
    intro kc ks U z T L V P x1 hx0 hk w
    exact w.elim
  | succ n ih =>
    intro kc ks U z T L V P x1 hx0 hk w
    unfold lFX5_init_61 at w
    refine g_iload_n O dX5_init_61 rfl ?_
    refine g_bipush (v := 40) O dX5_init_62 (by decide) ?_
    refine g_icmp_ge (tgt := 88) O w dX5_init_64 (by decide) (fun w => ?_) (fun w => ?_)
    · exact gm2_vret O hQ (kOk.m hk) w dX5_init_88
    · refine g_aload_n O dX5_init_67 rfl ?_
      obtain ⟨b75, hp76, ht77, w⟩ := w
      refine gx_getR (lay := 4) (j := 1) O ck4 (by decide) rfl rfl hp76 (by decide) hx0 q699 dX5_init_68 ?_
      obtain ⟨U83, e84, w⟩ := w
      have hk9 := kOk.eq hk e84
      refine gq_new (lay := 55) (u := 1) O hRm ck5 (by decide) rfl (by decide +kernel) q577 q578 q131 hk9 (by decide) (by decide) dX5_init_71 (fun o78 z T L V79 P80 hk81 hn82 => ?_)
      replace w := w o78 z T L V79 P80 hn82
      obtain ⟨h85, h86, w⟩ := w
      refine g_dup O dX5_init_74 rfl ?_
      obtain ⟨c87, U88, e89, w⟩ := w
      have hk9 := kOk.eq hk81 e89
      refine g_mv (gr_IN (nA := 0) (As := []) (rest := [.ref o78, .ref b75]) O hRm (kFX6_init _ O.2.2.2.2.2.2.2.2 (cxE X) _ _ _ _ _ _ o78 hn82.t _ w) (lw_meth q581) q579 q580 q131 rfl rfl rfl (by decide +kernel) ⟨Nat.le_of_ble_eq_true rfl, Nat.le_of_ble_eq_true rfl⟩ rfl rfl rfl (Nat.le_of_ble_eq_true rfl) dX5_init_75 (kOk.fa hk9)) (fun z T L V90 P91 w => ?_)
      have hk92 := kOk.sa hk9
      obtain ⟨h94, h95, h96, w⟩ := w
      obtain ⟨c97, U98, e99, w⟩ := w
      have hk9 := kOk.eq hk92 e99
      refine g_mi (gr_V (lay := 15) (nA := 1) (As := [.ref o78]) (rest := []) O hRm (kFJ2_add _ O.2.2.2.2.2.2.2.2 (cxE X) _ _ _ _ _ _ b75 h95 o78 _ w) (lw_V q642 q643 q644 q110 q645) rfl rfl (by decide +kernel) ⟨Nat.le_of_ble_eq_true rfl, Nat.le_of_ble_eq_true rfl⟩ ck15 (by decide) rfl h95 rfl rfl rfl (Nat.le_of_ble_eq_true rfl) dX5_init_78 (kOk.fa hk9)) (fun r103 z T L V100 P101 w => ?_)
      have hk102 := kOk.sa hk9
      obtain ⟨h104, w⟩ := w
      refine g_pop O dX5_init_81 rfl ?_
      refine g_iinc (v := (x1 + 1)) O dX5_init_82 rfl rfl rfl (lv' := [some (.ref x0), some (.int (x1 + 1))]) rfl ?_
      refine g_goto (tgt := 61) O dX5_init_85 (by decide) ?_
      exact ih _ _ _ _ _ _ _ _ ((x1 + 1)) h104 hk102 w
set_option maxHeartbeats 4000000 in
theorem kFX5_init (l : Launch) (hfl : l.flags = flags0) (E : w_E) (U0 z : Nat) (T L : Nat → Nat) (V : w_V) (P : w_P) (t : Nat) (hT : T t = 55) (post : Nat → (Nat → Nat) → (Nat → Nat) → w_V → w_P → Prop) (w : wFX5_init E.2.2.2.2 U0 z T L V P t post) : Met l yX5_init (ws_ yX5_init cX5_init 2 none) (rFX5_init U0) (va_Pc [.ref t] (fun U => kenv E U ∧ wdW E (z, T, L, V, P) U.heap)) (va_Qv (qF0 post) (wdF E) (w_A E)) (8 * U0) (32 * U0) (w_A E) := by
  refine g_startN (w := (z, T, L, V, P)) hfl (by decide +kernel) rfl [some (.ref t), none] rfl (fun _ h => h) (Nat.le_of_ble_eq_true rfl) (fun X hl hRm hEe O hI hQ => ?_)
  subst hl
  subst hEe
  have hk : kOk (rFX5_init U0) 0 0 U0 := ⟨by show 0 + 8 * U0 ≤ 8 * U0; omega, by show 0 + 32 * U0 ≤ 32 * U0; omega⟩
  unfold wFX5_init at w
  refine g_aload_n O dX5_init_0 rfl ?_
  refine gc_objInit O hRm q576 (Nat.le_of_ble_eq_true rfl) (Nat.le_of_ble_eq_true rfl) rfl dX5_init_1 ?_
  refine g_aload_n O dX5_init_4 rfl ?_
  obtain ⟨U6, e7, w⟩ := w
  have hk9 := kOk.eq hk e7
  refine gq_new (lay := 55) (u := 1) O hRm ck5 (by decide) rfl (by decide +kernel) q577 q578 q131 hk9 (by decide) (by decide) dX5_init_5 (fun o1 z T L V2 P3 hk4 hn5 => ?_)
  replace w := w o1 z T L V2 P3 hn5
  obtain ⟨h8, w⟩ := w
  refine g_dup O dX5_init_8 rfl ?_
  obtain ⟨c9, U10, e11, w⟩ := w
  have hk9 := kOk.eq hk4 e11
  refine g_mv (gr_IN (nA := 0) (As := []) (rest := [.ref o1, .ref t]) O hRm (kFX6_init _ O.2.2.2.2.2.2.2.2 (cxE X) _ _ _ _ _ _ o1 hn5.t _ w) (lw_meth q581) q579 q580 q131 rfl rfl rfl (by decide +kernel) ⟨Nat.le_of_ble_eq_true rfl, Nat.le_of_ble_eq_true rfl⟩ rfl rfl rfl (Nat.le_of_ble_eq_true rfl) dX5_init_9 (kOk.fa hk9)) (fun z T L V12 P13 w => ?_)
  have hk14 := kOk.sa hk9
  obtain ⟨h16, h17, w⟩ := w
  refine gx_putRF (lay := 54) (j := 0) (x := (some o1)) O hI ck4 (by decide) rfl rfl (by decide) h17 q697 rfl rfl rfl (by first | exact Or.inl ⟨_, rfl⟩ | exact Or.inr ⟨_, rfl⟩) dX5_init_12 ?_
  refine g_nP w (fun P18 w _ => ?_)
  refine g_aload_n O dX5_init_15 rfl ?_
  obtain ⟨U24, e25, w⟩ := w
  have hk9 := kOk.eq hk14 e25
  refine gq_new (lay := 15) (u := 1) O hRm ck15 (by decide) rfl (by decide +kernel) q640 q162 q110 hk9 (by decide) (by decide) dX5_init_16 (fun o19 z T L V20 P21 hk22 hn23 => ?_)
  replace w := w o19 z T L V20 P21 hn23
  obtain ⟨h26, w⟩ := w
  refine g_dup O dX5_init_19 rfl ?_
  refine g_bipush (v := 40) O dX5_init_20 (by decide) ?_
  obtain ⟨c27, U28, e29, w⟩ := w
  have hk9 := kOk.eq hk22 e29
  refine g_mv (gr_I (nA := 1) (As := [.int 40]) (rest := [.ref o19, .ref t]) O hRm (kFJ2_init _ O.2.2.2.2.2.2.2.2 (cxE X) _ _ _ _ _ _ o19 hn23.t (40) _ w) (lw_meth q165) q641 q164 q110 rfl rfl rfl (by decide +kernel) ⟨Nat.le_of_ble_eq_true rfl, Nat.le_of_ble_eq_true rfl⟩ rfl rfl rfl (Nat.le_of_ble_eq_true rfl) dX5_init_22 (kOk.fa hk9)) (fun z T L V30 P31 w => ?_)
  have hk32 := kOk.sa hk9
  obtain ⟨h34, h35, w⟩ := w
  refine gx_putRF (lay := 54) (j := 1) (x := (some o19)) O hI ck4 (by decide) rfl rfl (by decide) h35 q699 rfl rfl rfl (by first | exact Or.inl ⟨_, rfl⟩ | exact Or.inr ⟨_, rfl⟩) dX5_init_25 ?_
  refine g_nP w (fun P36 w _ => ?_)
  refine g_aload_n O dX5_init_28 rfl ?_
  refine g_bipush (v := 8) O dX5_init_29 (by decide) ?_
  obtain ⟨U42, e43, w⟩ := w
  have hk9 := kOk.eq hk32 e43
  refine gq_newI (N := 8) (u := 1) O hRm q249 rfl (by decide) hk9 (by decide) (by decide) dX5_init_31 (fun o37 z T L V38 P39 hk40 hn41 => ?_)
  replace w := w o37 z T L V38 P39 hn41
  obtain ⟨h44, w⟩ := w
  refine gx_putRF (lay := 54) (j := 2) (x := (some o37)) O hI ck4 (by decide) rfl rfl (by decide) h44 q701 rfl rfl rfl (by first | exact Or.inl ⟨_, rfl⟩ | exact Or.inr ⟨_, rfl⟩) dX5_init_33 ?_
  refine g_nP w (fun P45 w _ => ?_)
  refine g_aload_n O dX5_init_36 rfl ?_
  refine g_bipush (v := 8) O dX5_init_37 (by decide) ?_
  obtain ⟨U51, e52, w⟩ := w
  have hk9 := kOk.eq hk40 e52
  refine gq_newI (N := 8) (u := 1) O hRm q249 rfl (by decide) hk9 (by decide) (by decide) dX5_init_39 (fun o46 z T L V47 P48 hk49 hn50 => ?_)
  replace w := w o46 z T L V47 P48 hn50
  obtain ⟨h53, w⟩ := w
  refine gx_putRF (lay := 54) (j := 3) (x := (some o46)) O hI ck4 (by decide) rfl rfl (by decide) h53 q703 rfl rfl rfl (by first | exact Or.inl ⟨_, rfl⟩ | exact Or.inr ⟨_, rfl⟩) dX5_init_41 ?_
  refine g_nP w (fun P54 w _ => ?_)
  refine g_aload_n O dX5_init_44 rfl ?_
  refine g_iconst (v := 3) O dX5_init_45 (by decide) ?_
  obtain ⟨U60, e61, w⟩ := w
  have hk9 := kOk.eq hk49 e61
  refine gq_newI (N := 3) (u := 1) O hRm q249 rfl (by decide) hk9 (by decide) (by decide) dX5_init_46 (fun o55 z T L V56 P57 hk58 hn59 => ?_)
  replace w := w o55 z T L V56 P57 hn59
  obtain ⟨h62, w⟩ := w
  refine gx_putRF (lay := 54) (j := 4) (x := (some o55)) O hI ck4 (by decide) rfl rfl (by decide) h62 q705 rfl rfl rfl (by first | exact Or.inl ⟨_, rfl⟩ | exact Or.inr ⟨_, rfl⟩) dX5_init_48 ?_
  refine g_nP w (fun P63 w _ => ?_)
  refine g_aload_n O dX5_init_51 rfl ?_
  refine g_bipush (v := 8) O dX5_init_52 (by decide) ?_
  obtain ⟨U69, e70, w⟩ := w
  have hk9 := kOk.eq hk58 e70
  refine gq_newZ (N := 8) (u := 1) O hRm q730 rfl (by decide) hk9 (by decide) (by decide) dX5_init_54 (fun o64 z T L V65 P66 hk67 hn68 => ?_)
  replace w := w o64 z T L V65 P66 hn68
  obtain ⟨h71, w⟩ := w
  refine gx_putRF (lay := 54) (j := 5) (x := (some o64)) O hI ck4 (by decide) rfl rfl (by decide) h71 q707 rfl rfl rfl (by first | exact Or.inl ⟨_, rfl⟩ | exact Or.inr ⟨_, rfl⟩) dX5_init_56 ?_
  refine g_nP w (fun P72 w _ => ?_)
  refine gq_seal (c := 4) (by decide) rfl w (fun T V73 hT74 w => ?_)
  refine g_iconst (v := 0) O dX5_init_59 (by decide) ?_
  refine g_istore_n O dX5_init_60 (Nat.le_of_ble_eq_true rfl) rfl (lv' := [some (.ref t), some (.int 0)]) rfl ?_
  obtain ⟨n105, w⟩ := w
  exact vlFX5_init_61 O hRm hI t post hQ n105 _ _ _ _ _ _ _ _ (0) hT74 hk67 w
-- X9_go
abbrev rFX9_go (U0 : Nat) : Room := { frames := 8, cells := 8 * U0, slots := 32 * U0, locals := 192 }
set_option maxHeartbeats 4000000 in
theorem vjFX9_go_37 {X : Cx} {U0 : Nat} (O : Okc X cX9_go RX9 3 none) (hRm : cxR X = (rFX9_go U0)) {kc ks U z : Nat} {T L : Nat → Nat} {V : w_V} {P : w_P} (x0 : Nat) (hx0 : T x0 = 8) (post : Nat → (Nat → Nat) → (Nat → Nat) → w_V → w_P → Prop) (hk : kOk (rFX9_go U0) kc ks U) (hQ : cxMQ X (va_Qv (qF0 post) (wdF (cxE X)) (w_A (cxE X))) (rFX9_go U0).cells (rFX9_go U0).slots) (kb : Nat → Nat → (Nat → Nat) → (Nat → Nat) → w_V → w_P → Prop) (hkb : ∀ (kc ks U z : Nat) (T L : Nat → Nat) (V : w_V) (P : w_P) (_hx0 : T x0 = 8), kOk (rFX9_go U0) kc ks U → kb U z T L V P → gW X kc ks z T L V P 0 [some (.ref x0), none, none] []) (w : jFX9_go_37 (cxE X).2.2.2.2 U z T L V P x0 post kb) : gW X kc ks z T L V P 37 [some (.ref x0), none, none] [] := by
  unfold jFX9_go_37 at w
  refine g_aload_n O dX9_go_37 rfl ?_
  refine g_dup O dX9_go_38 rfl ?_
  refine gx_getI (lay := 7) (j := 2) O ck7 (by decide) rfl rfl (by decide) hx0 q984 dX9_go_39 ?_
  refine g_iconst (v := 1) O dX9_go_42 (by decide) ?_
  refine g_iadd O dX9_go_43 ?_
  refine gx_putI (lay := 7) (j := 2) (ty := .int) O ck7 (by decide) rfl rfl (by decide) hx0 q984 rfl rfl rfl rfl dX9_go_44 ?_
  refine g_nV w (fun V4 w _ => ?_)
  refine g_goto (tgt := 0) O dX9_go_47 (by decide) ?_
  exact hkb _ _ _ _ _ _ _ _ hx0 hk w
set_option maxHeartbeats 4000000 in
theorem vlFX9_go_0 {X : Cx} {U0 : Nat} (O : Okc X cX9_go RX9 3 none) (hRm : cxR X = (rFX9_go U0)) (x0 : Nat) (post : Nat → (Nat → Nat) → (Nat → Nat) → w_V → w_P → Prop) (hQ : cxMQ X (va_Qv (qF0 post) (wdF (cxE X)) (w_A (cxE X))) (rFX9_go U0).cells (rFX9_go U0).slots) (ke_50 : Nat → Nat → (Nat → Nat) → (Nat → Nat) → w_V → w_P → Prop) (hke_50 : ∀ (kc ks U z : Nat) (T L : Nat → Nat) (V : w_V) (P : w_P) (_hx0 : T x0 = 8), kOk (rFX9_go U0) kc ks U → ke_50 U z T L V P → gW X kc ks z T L V P 50 [some (.ref x0), none, none] []) : ∀ (n kc ks U z : Nat) (T L : Nat → Nat) (V : w_V) (P : w_P) (hx0 : T x0 = 8), kOk (rFX9_go U0) kc ks U → lFX9_go_0 (cxE X).2.2.2.2 x0 post ke_50 n U z T L V P → gW X kc ks z T L V P 0 [some (.ref x0), none, none] [] := by
  intro n
  induction n with
  | zero =>
    intro kc ks U z T L V P hx0 hk w
    exact w.elim
  | succ n ih =>
    intro kc ks U z T L V P hx0 hk w
    unfold lFX9_go_0 at w
    refine g_aload_n O dX9_go_0 rfl ?_
    refine gx_getI (lay := 7) (j := 2) O ck7 (by decide) rfl rfl (by decide) hx0 q984 dX9_go_1 ?_
    refine g_aload_n O dX9_go_4 rfl ?_
    refine gx_getI (lay := 7) (j := 1) O ck7 (by decide) rfl rfl (by decide) hx0 q983 dX9_go_5 ?_
    refine g_icmp_ge (tgt := 50) O w dX9_go_8 (by decide) (fun w => ?_) (fun w => ?_)
    · exact hke_50 _ _ _ _ _ _ _ _ hx0 hk w
    · refine g_aload_n O dX9_go_11 rfl ?_
      refine g_aload_n O dX9_go_12 rfl ?_
      refine gx_getI (lay := 7) (j := 2) O ck7 (by decide) rfl rfl (by decide) hx0 q984 dX9_go_13 ?_
      refine g_ri0 (gr_V (lay := 7) (nA := 1) (As := [.int (V x0 0 2)]) (rest := []) O hRm (kX9_byteAt _ O.2.2.2.2.2.2.2.2 _ _ _ _ _ _ x0 hx0 ((V x0 0 2)) _ w) (lw_V q919 q921 qs6 q135 q922) rfl rfl (by decide +kernel) ⟨Nat.le_of_ble_eq_true rfl, Nat.le_of_ble_eq_true rfl⟩ ck7 (by decide) rfl hx0 rfl rfl rfl (Nat.le_of_ble_eq_true rfl) dX9_go_16 (kOk.f0 hk)) (fun r1 w => ?_)
      have hk := kOk.s0 hk
      refine g_bipush (v := 32) O dX9_go_19 (by decide) ?_
      refine g_icmp_eq (tgt := 37) O w dX9_go_21 (by decide) (fun w => ?_) (fun w => ?_)
      · exact vjFX9_go_37 O hRm x0 hx0 post hk hQ (lFX9_go_0 (cxE X).2.2.2.2 x0 post ke_50 n) ih w
      · refine g_aload_n O dX9_go_24 rfl ?_
        refine g_aload_n O dX9_go_25 rfl ?_
        refine gx_getI (lay := 7) (j := 2) O ck7 (by decide) rfl rfl (by decide) hx0 q984 dX9_go_26 ?_
        refine g_ri0 (gr_V (lay := 7) (nA := 1) (As := [.int (V x0 0 2)]) (rest := []) O hRm (kX9_byteAt _ O.2.2.2.2.2.2.2.2 _ _ _ _ _ _ x0 hx0 ((V x0 0 2)) _ w) (lw_V q919 q921 qs6 q135 q922) rfl rfl (by decide +kernel) ⟨Nat.le_of_ble_eq_true rfl, Nat.le_of_ble_eq_true rfl⟩ ck7 (by decide) rfl hx0 rfl rfl rfl (Nat.le_of_ble_eq_true rfl) dX9_go_29 (kOk.f0 hk)) (fun r5 w => ?_)
        have hk := kOk.s0 hk
        refine g_bipush (v := 10) O dX9_go_32 (by decide) ?_
        refine g_icmp_ne (tgt := 50) O w dX9_go_34 (by decide) (fun w => ?_) (fun w => ?_)
        · exact hke_50 _ _ _ _ _ _ _ _ hx0 hk w
        · exact vjFX9_go_37 O hRm x0 hx0 post hk hQ (lFX9_go_0 (cxE X).2.2.2.2 x0 post ke_50 n) ih w
set_option maxHeartbeats 4000000 in
theorem vjFX9_go_330 {X : Cx} {U0 : Nat} (O : Okc X cX9_go RX9 3 none) (hRm : cxR X = (rFX9_go U0)) {kc ks U z : Nat} {T L : Nat → Nat} {V : w_V} {P : w_P} (x0 : Nat) (hx0 : T x0 = 8) (post : Nat → (Nat → Nat) → (Nat → Nat) → w_V → w_P → Prop) (hk : kOk (rFX9_go U0) kc ks U) (hQ : cxMQ X (va_Qv (qF0 post) (wdF (cxE X)) (w_A (cxE X))) (rFX9_go U0).cells (rFX9_go U0).slots) (w : jFX9_go_330 (cxE X).2.2.2.2 U z T L V P x0 post) : gW X kc ks z T L V P 330 [some (.ref x0), none, none] [] := by
  unfold jFX9_go_330 at w
  refine g_aload_n O dX9_go_330 rfl ?_
  refine g_dup O dX9_go_331 rfl ?_
  refine gx_getI (lay := 7) (j := 2) O ck7 (by decide) rfl rfl (by decide) hx0 q984 dX9_go_332 ?_
  refine g_iconst (v := 1) O dX9_go_335 (by decide) ?_
  refine g_iadd O dX9_go_336 ?_
  refine gx_putI (lay := 7) (j := 2) (ty := .int) O ck7 (by decide) rfl rfl (by decide) hx0 q984 rfl rfl rfl rfl dX9_go_337 ?_
  refine g_nV w (fun V34 w _ => ?_)
  exact gm2_vret O hQ (kOk.m hk) w dX9_go_340
set_option maxHeartbeats 4000000 in
theorem vjFX9_go_308 {X : Cx} {U0 : Nat} (O : Okc X cX9_go RX9 3 none) (hRm : cxR X = (rFX9_go U0)) {kc ks U z : Nat} {T L : Nat → Nat} {V : w_V} {P : w_P} (x0 : Nat) (hx0 : T x0 = 8) (x1 : Int32) (t0 : Nat) (t1 : Nat) (ht1 : T t1 = 8) (post : Nat → (Nat → Nat) → (Nat → Nat) → w_V → w_P → Prop) (hk : kOk (rFX9_go U0) kc ks U) (hQ : cxMQ X (va_Qv (qF0 post) (wdF (cxE X)) (w_A (cxE X))) (rFX9_go U0).cells (rFX9_go U0).slots) (w : jFX9_go_308 (cxE X).2.2.2.2 U z T L V P x0 x1 t0 t1 post) : gW X kc ks z T L V P 308 [some (.ref x0), some (.int x1), none] [.ref t0, .ref t1] := by
  unfold jFX9_go_308 at w
  refine gx_putR (lay := 7) (j := 6) (x := (some t0)) O ck7 (by decide) rfl rfl (by decide) ht1 q988 rfl rfl rfl rfl dX9_go_308 ?_
  refine g_nP w (fun P30 w _ => ?_)
  refine g_aload_n O dX9_go_311 rfl ?_
  obtain ⟨b31, hp32, w⟩ := w
  refine gx_getR (lay := 7) (j := 6) O ck7 (by decide) rfl rfl hp32 (by decide) hx0 q988 dX9_go_312 ?_
  refine gx_getst (i := 7) O rfl q964 dX9_go_315 ?_
  refine gx_acmp_ne (tgt := 330) O w dX9_go_318 (by decide) (fun w => ?_) (fun w => ?_)
  · refine g_drop [1] (lv' := [some (.ref x0), none, none]) rfl ?_
    exact vjFX9_go_330 O hRm x0 hx0 post hk hQ w
  · refine g_aload_n O dX9_go_321 rfl ?_
    refine g_iload_n O dX9_go_322 rfl ?_
    refine g_i2c O dX9_go_323 ?_
    obtain ⟨c35, U36, e37, w⟩ := w
    have hk9 := kOk.eq hk e37
    refine g_mq (gr_S (nA := 1) (As := [.int ((x1 : Int32).toUInt32 % 65536).toInt32]) (rest := [.ref x0]) O hRm (kFJ9_valueOf _ O.2.2.2.2.2.2.2.2 (cxE X) _ _ _ _ _ _ (((x1 : Int32).toUInt32 % 65536).toInt32) _ w) (lw_S q968 q969 q117 q970) rfl rfl (by decide +kernel) ⟨Nat.le_of_ble_eq_true rfl, Nat.le_of_ble_eq_true rfl⟩ rfl rfl rfl (Nat.le_of_ble_eq_true rfl) dX9_go_324 (kOk.fa hk9)) (fun r41 z T L V38 P39 w => ?_)
    have hk40 := kOk.sa hk9
    obtain ⟨h42, hr43, w⟩ := w
    refine gx_putR (lay := 7) (j := 7) (x := (some r41)) O ck7 (by decide) rfl rfl (by decide) h42 q989 rfl rfl rfl rfl dX9_go_327 ?_
    refine g_nP w (fun P44 w _ => ?_)
    refine g_drop [1] (lv' := [some (.ref x0), none, none]) rfl ?_
    exact vjFX9_go_330 O hRm x0 h42 post hk40 hQ w
set_option maxHeartbeats 4000000 in
theorem vjFX9_go_246 {X : Cx} {U0 : Nat} (O : Okc X cX9_go RX9 3 none) (hRm : cxR X = (rFX9_go U0)) {kc ks U z : Nat} {T L : Nat → Nat} {V : w_V} {P : w_P} (x0 : Nat) (hx0 : T x0 = 8) (post : Nat → (Nat → Nat) → (Nat → Nat) → w_V → w_P → Prop) (hk : kOk (rFX9_go U0) kc ks U) (hQ : cxMQ X (va_Qv (qF0 post) (wdF (cxE X)) (w_A (cxE X))) (rFX9_go U0).cells (rFX9_go U0).slots) (kb : Nat → Nat → (Nat → Nat) → (Nat → Nat) → w_V → w_P → Prop) (hkb : ∀ (kc ks U z : Nat) (T L : Nat → Nat) (V : w_V) (P : w_P) (_hx0 : T x0 = 8), kOk (rFX9_go U0) kc ks U → kb U z T L V P → gW X kc ks z T L V P 196 [some (.ref x0), none, none] []) (w : jFX9_go_246 (cxE X).2.2.2.2 U z T L V P x0 post kb) : gW X kc ks z T L V P 246 [some (.ref x0), none, none] [] := by
  unfold jFX9_go_246 at w
  refine g_aload_n O dX9_go_246 rfl ?_
  refine g_dup O dX9_go_247 rfl ?_
  refine gx_getI (lay := 7) (j := 2) O ck7 (by decide) rfl rfl (by decide) hx0 q984 dX9_go_248 ?_
  refine g_iconst (v := 1) O dX9_go_251 (by decide) ?_
  refine g_iadd O dX9_go_252 ?_
  refine gx_putI (lay := 7) (j := 2) (ty := .int) O ck7 (by decide) rfl rfl (by decide) hx0 q984 rfl rfl rfl rfl dX9_go_253 ?_
  refine g_nV w (fun V52 w _ => ?_)
  refine g_goto (tgt := 196) O dX9_go_256 (by decide) ?_
  exact hkb _ _ _ _ _ _ _ _ hx0 hk w
set_option maxHeartbeats 4000000 in
theorem vlFX9_go_196 {X : Cx} {U0 : Nat} (O : Okc X cX9_go RX9 3 none) (hRm : cxR X = (rFX9_go U0)) (x0 : Nat) (post : Nat → (Nat → Nat) → (Nat → Nat) → w_V → w_P → Prop) (hQ : cxMQ X (va_Qv (qF0 post) (wdF (cxE X)) (w_A (cxE X))) (rFX9_go U0).cells (rFX9_go U0).slots) (ke_259 : Nat → Nat → (Nat → Nat) → (Nat → Nat) → w_V → w_P → Prop) (hke_259 : ∀ (kc ks U z : Nat) (T L : Nat → Nat) (V : w_V) (P : w_P) (_hx0 : T x0 = 8), kOk (rFX9_go U0) kc ks U → ke_259 U z T L V P → gW X kc ks z T L V P 259 [some (.ref x0), none, none] []) : ∀ (n kc ks U z : Nat) (T L : Nat → Nat) (V : w_V) (P : w_P) (hx0 : T x0 = 8), kOk (rFX9_go U0) kc ks U → lFX9_go_196 (cxE X).2.2.2.2 x0 post ke_259 n U z T L V P → gW X kc ks z T L V P 196 [some (.ref x0), none, none] [] := by
  intro n
  induction n with
  | zero =>
    intro kc ks U z T L V P hx0 hk w
    exact w.elim
  | succ n ih =>
    intro kc ks U z T L V P hx0 hk w
    unfold lFX9_go_196 at w
    refine g_aload_n O dX9_go_196 rfl ?_
    refine g_aload_n O dX9_go_197 rfl ?_
    refine gx_getI (lay := 7) (j := 2) O ck7 (by decide) rfl rfl (by decide) hx0 q984 dX9_go_198 ?_
    refine g_ri0 (gr_V (lay := 7) (nA := 1) (As := [.int (V x0 0 2)]) (rest := []) O hRm (kX9_byteAt _ O.2.2.2.2.2.2.2.2 _ _ _ _ _ _ x0 hx0 ((V x0 0 2)) _ w) (lw_V q919 q921 qs6 q135 q922) rfl rfl (by decide +kernel) ⟨Nat.le_of_ble_eq_true rfl, Nat.le_of_ble_eq_true rfl⟩ ck7 (by decide) rfl hx0 rfl rfl rfl (Nat.le_of_ble_eq_true rfl) dX9_go_201 (kOk.f0 hk)) (fun r46 w => ?_)
    have hk := kOk.s0 hk
    refine g_ri0 (gr_S (nA := 1) (As := [.int r46]) (rest := []) O hRm (kX9_isDigit _ O.2.2.2.2.2.2.2.2 _ _ _ _ _ _ (r46) _ w) (lw_S q956 q957 q135 q958) rfl rfl (by decide +kernel) ⟨Nat.le_of_ble_eq_true rfl, Nat.le_of_ble_eq_true rfl⟩ rfl rfl rfl (Nat.le_of_ble_eq_true rfl) dX9_go_204 (kOk.f0 hk)) (fun r49 w => ?_)
    have hk := kOk.s0 hk
    refine g_if_eq (tgt := 259) O w dX9_go_207 (by decide) (fun w => ?_) (fun w => ?_)
    · exact hke_259 _ _ _ _ _ _ _ _ hx0 hk w
    · refine g_aload_n O dX9_go_210 rfl ?_
      refine gx_getI (lay := 7) (j := 2) O ck7 (by decide) rfl rfl (by decide) hx0 q984 dX9_go_211 ?_
      refine g_aload_n O dX9_go_214 rfl ?_
      refine gx_getI (lay := 7) (j := 3) O ck7 (by decide) rfl rfl (by decide) hx0 q985 dX9_go_215 ?_
      refine g_isub O dX9_go_218 ?_
      refine g_iconst (v := 4) O dX9_go_219 (by decide) ?_
      refine g_icmp_ge (tgt := 246) O w dX9_go_220 (by decide) (fun w => ?_) (fun w => ?_)
      · exact vjFX9_go_246 O hRm x0 hx0 post hk hQ (lFX9_go_196 (cxE X).2.2.2.2 x0 post ke_259 n) ih w
      · refine g_aload_n O dX9_go_223 rfl ?_
        refine g_bipush (v := 10) O dX9_go_224 (by decide) ?_
        refine g_aload_n O dX9_go_226 rfl ?_
        refine gx_getI (lay := 7) (j := 4) O ck7 (by decide) rfl rfl (by decide) hx0 q986 dX9_go_227 ?_
        refine g_imul O dX9_go_230 ?_
        refine g_aload_n O dX9_go_231 rfl ?_
        refine g_aload_n O dX9_go_232 rfl ?_
        refine gx_getI (lay := 7) (j := 2) O ck7 (by decide) rfl rfl (by decide) hx0 q984 dX9_go_233 ?_
        refine g_ri0 (gr_V (lay := 7) (nA := 1) (As := [.int (V x0 0 2)]) (rest := [.int (10 * (V x0 0 4)), .ref x0]) O hRm (kX9_byteAt _ O.2.2.2.2.2.2.2.2 _ _ _ _ _ _ x0 hx0 ((V x0 0 2)) _ w) (lw_V q919 q921 qs6 q135 q922) rfl rfl (by decide +kernel) ⟨Nat.le_of_ble_eq_true rfl, Nat.le_of_ble_eq_true rfl⟩ ck7 (by decide) rfl hx0 rfl rfl rfl (Nat.le_of_ble_eq_true rfl) dX9_go_236 (kOk.f0 hk)) (fun r53 w => ?_)
        have hk := kOk.s0 hk
        refine g_iadd O dX9_go_239 ?_
        refine g_bipush (v := 48) O dX9_go_240 (by decide) ?_
        refine g_isub O dX9_go_242 ?_
        refine gx_putI (lay := 7) (j := 4) (ty := .int) O ck7 (by decide) rfl rfl (by decide) hx0 q986 rfl rfl rfl rfl dX9_go_243 ?_
        refine g_nV w (fun V56 w _ => ?_)
        exact vjFX9_go_246 O hRm x0 hx0 post hk hQ (lFX9_go_196 (cxE X).2.2.2.2 x0 post ke_259 n) ih w
set_option maxHeartbeats 4000000 in
theorem vjFX9_go_278 {X : Cx} {U0 : Nat} (O : Okc X cX9_go RX9 3 none) (hRm : cxR X = (rFX9_go U0)) {kc ks U z : Nat} {T L : Nat → Nat} {V : w_V} {P : w_P} (x0 : Nat) (hx0 : T x0 = 8) (t0 : Int32) (t1 : Nat) (ht1 : T t1 = 8) (post : Nat → (Nat → Nat) → (Nat → Nat) → w_V → w_P → Prop) (hk : kOk (rFX9_go U0) kc ks U) (hQ : cxMQ X (va_Qv (qF0 post) (wdF (cxE X)) (w_A (cxE X))) (rFX9_go U0).cells (rFX9_go U0).slots) (w : jFX9_go_278 (cxE X).2.2.2.2 U z T L V P x0 t0 t1 post) : gW X kc ks z T L V P 278 [some (.ref x0), none, none] [.int t0, .ref t1] := by
  unfold jFX9_go_278 at w
  obtain ⟨hz62, hf63, w⟩ := w
  refine gx_putI (lay := 7) (j := 5) (ty := .boolean) O ck7 (by decide) rfl rfl (by decide) ht1 q987 rfl rfl hz62 hf63 dX9_go_278 ?_
  refine g_nV w (fun V64 w _ => ?_)
  refine g_aload_n O dX9_go_281 rfl ?_
  refine gx_getst (i := 6) O rfl q959 dX9_go_282 ?_
  refine gx_putR (lay := 7) (j := 6) (x := (some ((cxE X).2.2.2.2 6))) O ck7 (by decide) rfl rfl (by decide) hx0 q988 rfl rfl rfl rfl dX9_go_285 ?_
  refine g_nP w (fun P65 w _ => ?_)
  refine g_goto (tgt := 340) O dX9_go_288 (by decide) ?_
  exact gm2_vret O hQ (kOk.m hk) w dX9_go_340
set_option maxHeartbeats 4000000 in
theorem vjFX9_go_153 {X : Cx} {U0 : Nat} (O : Okc X cX9_go RX9 3 none) (hRm : cxR X = (rFX9_go U0)) {kc ks U z : Nat} {T L : Nat → Nat} {V : w_V} {P : w_P} (x0 : Nat) (hx0 : T x0 = 8) (x2 : Nat) (hx2 : T x2 = 19) (post : Nat → (Nat → Nat) → (Nat → Nat) → w_V → w_P → Prop) (hk : kOk (rFX9_go U0) kc ks U) (hQ : cxMQ X (va_Qv (qF0 post) (wdF (cxE X)) (w_A (cxE X))) (rFX9_go U0).cells (rFX9_go U0).slots) (kb : Nat → Nat → (Nat → Nat) → (Nat → Nat) → w_V → w_P → Prop) (hkb : ∀ (kc ks U z : Nat) (T L : Nat → Nat) (V : w_V) (P : w_P) (_hx0 : T x0 = 8) (_hx2 : T x2 = 19), kOk (rFX9_go U0) kc ks U → kb U z T L V P → gW X kc ks z T L V P 116 [some (.ref x0), none, some (.ref x2)] []) (w : jFX9_go_153 (cxE X).2.2.2.2 U z T L V P x0 x2 post kb) : gW X kc ks z T L V P 153 [some (.ref x0), none, some (.ref x2)] [] := by
  unfold jFX9_go_153 at w
  refine g_aload_n O dX9_go_153 rfl ?_
  refine g_dup O dX9_go_154 rfl ?_
  refine gx_getI (lay := 7) (j := 2) O ck7 (by decide) rfl rfl (by decide) hx0 q984 dX9_go_155 ?_
  refine g_iconst (v := 1) O dX9_go_158 (by decide) ?_
  refine g_iadd O dX9_go_159 ?_
  refine gx_putI (lay := 7) (j := 2) (ty := .int) O ck7 (by decide) rfl rfl (by decide) hx0 q984 rfl rfl rfl rfl dX9_go_160 ?_
  refine g_nV w (fun V93 w _ => ?_)
  refine g_goto (tgt := 116) O dX9_go_163 (by decide) ?_
  exact hkb _ _ _ _ _ _ _ _ hx0 hx2 hk w
set_option maxHeartbeats 4000000 in
theorem vlFX9_go_116 {X : Cx} {U0 : Nat} (O : Okc X cX9_go RX9 3 none) (hRm : cxR X = (rFX9_go U0)) (x0 : Nat) (x2 : Nat) (post : Nat → (Nat → Nat) → (Nat → Nat) → w_V → w_P → Prop) (hQ : cxMQ X (va_Qv (qF0 post) (wdF (cxE X)) (w_A (cxE X))) (rFX9_go U0).cells (rFX9_go U0).slots) (ke_166 : Nat → Nat → (Nat → Nat) → (Nat → Nat) → w_V → w_P → Prop) (hke_166 : ∀ (kc ks U z : Nat) (T L : Nat → Nat) (V : w_V) (P : w_P) (_hx0 : T x0 = 8) (_hx2 : T x2 = 19), kOk (rFX9_go U0) kc ks U → ke_166 U z T L V P → gW X kc ks z T L V P 166 [some (.ref x0), none, some (.ref x2)] []) : ∀ (n kc ks U z : Nat) (T L : Nat → Nat) (V : w_V) (P : w_P) (hx0 : T x0 = 8) (hx2 : T x2 = 19), kOk (rFX9_go U0) kc ks U → lFX9_go_116 (cxE X).2.2.2.2 x0 x2 post ke_166 n U z T L V P → gW X kc ks z T L V P 116 [some (.ref x0), none, some (.ref x2)] [] := by
  intro n
  induction n with
  | zero =>
    intro kc ks U z T L V P hx0 hx2 hk w
    exact w.elim
  | succ n ih =>
    intro kc ks U z T L V P hx0 hx2 hk w
    unfold lFX9_go_116 at w
    refine g_aload_n O dX9_go_116 rfl ?_
    refine g_aload_n O dX9_go_117 rfl ?_
    refine gx_getI (lay := 7) (j := 2) O ck7 (by decide) rfl rfl (by decide) hx0 q984 dX9_go_118 ?_
    refine g_ri0 (gr_V (lay := 7) (nA := 1) (As := [.int (V x0 0 2)]) (rest := []) O hRm (kX9_byteAt _ O.2.2.2.2.2.2.2.2 _ _ _ _ _ _ x0 hx0 ((V x0 0 2)) _ w) (lw_V q919 q921 qs6 q135 q922) rfl rfl (by decide +kernel) ⟨Nat.le_of_ble_eq_true rfl, Nat.le_of_ble_eq_true rfl⟩ ck7 (by decide) rfl hx0 rfl rfl rfl (Nat.le_of_ble_eq_true rfl) dX9_go_121 (kOk.f0 hk)) (fun r84 w => ?_)
    have hk := kOk.s0 hk
    refine g_ri0 (gr_S (nA := 1) (As := [.int r84]) (rest := []) O hRm (kX9_isLetter _ O.2.2.2.2.2.2.2.2 _ _ _ _ _ _ (r84) _ w) (lw_S q925 q926 q135 q927) rfl rfl (by decide +kernel) ⟨Nat.le_of_ble_eq_true rfl, Nat.le_of_ble_eq_true rfl⟩ rfl rfl rfl (Nat.le_of_ble_eq_true rfl) dX9_go_124 (kOk.f0 hk)) (fun r87 w => ?_)
    have hk := kOk.s0 hk
    refine g_if_eq (tgt := 166) O w dX9_go_127 (by decide) (fun w => ?_) (fun w => ?_)
    · exact hke_166 _ _ _ _ _ _ _ _ hx0 hx2 hk w
    · refine g_aload_n O dX9_go_130 rfl ?_
      refine g_ri0 (gr_V (lay := 18) (nA := 0) (As := []) (rest := []) O hRm (kJ8_length _ O.2.2.2.2.2.2.2.2 _ _ _ _ _ _ x2 hx2 _ w) (lw_V q932 q419 q2342 q116 q420) rfl rfl (by decide +kernel) ⟨Nat.le_of_ble_eq_true rfl, Nat.le_of_ble_eq_true rfl⟩ ck18 (by decide) rfl hx2 rfl rfl rfl (Nat.le_of_ble_eq_true rfl) dX9_go_131 (kOk.f0 hk)) (fun r90 w => ?_)
      have hk := kOk.s0 hk
      refine g_bipush (v := 7) O dX9_go_134 (by decide) ?_
      refine g_icmp_ge (tgt := 153) O w dX9_go_136 (by decide) (fun w => ?_) (fun w => ?_)
      · exact vjFX9_go_153 O hRm x0 hx0 x2 hx2 post hk hQ (lFX9_go_116 (cxE X).2.2.2.2 x0 x2 post ke_166 n) ih w
      · refine g_aload_n O dX9_go_139 rfl ?_
        refine g_aload_n O dX9_go_140 rfl ?_
        refine g_aload_n O dX9_go_141 rfl ?_
        refine gx_getI (lay := 7) (j := 2) O ck7 (by decide) rfl rfl (by decide) hx0 q984 dX9_go_142 ?_
        refine g_ri0 (gr_V (lay := 7) (nA := 1) (As := [.int (V x0 0 2)]) (rest := [.ref x2]) O hRm (kX9_byteAt _ O.2.2.2.2.2.2.2.2 _ _ _ _ _ _ x0 hx0 ((V x0 0 2)) _ w) (lw_V q919 q921 qs6 q135 q922) rfl rfl (by decide +kernel) ⟨Nat.le_of_ble_eq_true rfl, Nat.le_of_ble_eq_true rfl⟩ ck7 (by decide) rfl hx0 rfl rfl rfl (Nat.le_of_ble_eq_true rfl) dX9_go_145 (kOk.f0 hk)) (fun r94 w => ?_)
        have hk := kOk.s0 hk
        refine g_i2c O dX9_go_148 ?_
        refine g_rq2 (gr_V (lay := 18) (nA := 1) (As := [.int ((r94 : Int32).toUInt32 % 65536).toInt32]) (rest := []) O hRm (kJ8_append_3 _ O.2.2.2.2.2.2.2.2 _ _ _ _ _ _ x2 hx2 (((r94 : Int32).toUInt32 % 65536).toInt32) _ w) (lw_V q933 q934 q935 q116 q936) rfl rfl (by decide +kernel) ⟨Nat.le_of_ble_eq_true rfl, Nat.le_of_ble_eq_true rfl⟩ ck18 (by decide) rfl hx2 rfl rfl rfl (Nat.le_of_ble_eq_true rfl) dX9_go_149 (kOk.f0 hk)) (fun r97 V98 P99 w => ?_)
        have hk := kOk.s0 hk
        obtain ⟨hr100, w⟩ := w
        refine g_pop O dX9_go_152 rfl ?_
        exact vjFX9_go_153 O hRm x0 hx0 x2 hx2 post hk hQ (lFX9_go_116 (cxE X).2.2.2.2 x0 x2 post ke_166 n) ih w
set_option maxHeartbeats 4000000 in
theorem vjFX9_go_50 {X : Cx} {U0 : Nat} (O : Okc X cX9_go RX9 3 none) (hRm : cxR X = (rFX9_go U0)) {kc ks U z : Nat} {T L : Nat → Nat} {V : w_V} {P : w_P} (x0 : Nat) (hx0 : T x0 = 8) (post : Nat → (Nat → Nat) → (Nat → Nat) → w_V → w_P → Prop) (hk : kOk (rFX9_go U0) kc ks U) (hQ : cxMQ X (va_Qv (qF0 post) (wdF (cxE X)) (w_A (cxE X))) (rFX9_go U0).cells (rFX9_go U0).slots) (w : jFX9_go_50 (cxE X).2.2.2.2 U z T L V P x0 post) : gW X kc ks z T L V P 50 [some (.ref x0), none, none] [] := by
  unfold jFX9_go_50 at w
  refine g_aload_n O dX9_go_50 rfl ?_
  refine g_aload_n O dX9_go_51 rfl ?_
  refine gx_getI (lay := 7) (j := 2) O ck7 (by decide) rfl rfl (by decide) hx0 q984 dX9_go_52 ?_
  refine gx_putI (lay := 7) (j := 3) (ty := .int) O ck7 (by decide) rfl rfl (by decide) hx0 q985 rfl rfl rfl rfl dX9_go_55 ?_
  refine g_nV w (fun V13 w _ => ?_)
  refine g_aload_n O dX9_go_58 rfl ?_
  refine gx_ldc (i := 16) (tx := []) O rfl rfl dX9_go_59 (fun s14 hs15 hz => ?_)
  replace w := w s14 hz
  refine gx_putR (lay := 7) (j := 7) (x := (some s14)) O ck7 (by decide) rfl rfl (by decide) hx0 q989 rfl rfl rfl rfl dX9_go_61 ?_
  refine g_nP w (fun P16 w _ => ?_)
  refine g_aload_n O dX9_go_64 rfl ?_
  refine g_iconst (v := 0) O dX9_go_65 (by decide) ?_
  refine gx_putI (lay := 7) (j := 5) (ty := .boolean) O ck7 (by decide) rfl rfl (by decide) hx0 q987 rfl rfl rfl rfl dX9_go_66 ?_
  refine g_nV w (fun V17 w _ => ?_)
  refine g_aload_n O dX9_go_69 rfl ?_
  refine g_aload_n O dX9_go_70 rfl ?_
  refine gx_getI (lay := 7) (j := 2) O ck7 (by decide) rfl rfl (by decide) hx0 q984 dX9_go_71 ?_
  refine g_ri0 (gr_V (lay := 7) (nA := 1) (As := [.int (V17 x0 0 2)]) (rest := []) O hRm (kX9_byteAt _ O.2.2.2.2.2.2.2.2 _ _ _ _ _ _ x0 hx0 ((V17 x0 0 2)) _ w) (lw_V q919 q921 qs6 q135 q922) rfl rfl (by decide +kernel) ⟨Nat.le_of_ble_eq_true rfl, Nat.le_of_ble_eq_true rfl⟩ ck7 (by decide) rfl hx0 rfl rfl rfl (Nat.le_of_ble_eq_true rfl) dX9_go_74 (kOk.f0 hk)) (fun r18 w => ?_)
  have hk := kOk.s0 hk
  refine g_istore_n O dX9_go_77 (Nat.le_of_ble_eq_true rfl) rfl (lv' := [some (.ref x0), some (.int r18), none]) rfl ?_
  refine g_aload_n O dX9_go_78 rfl ?_
  refine gx_getI (lay := 7) (j := 2) O ck7 (by decide) rfl rfl (by decide) hx0 q984 dX9_go_79 ?_
  refine g_aload_n O dX9_go_82 rfl ?_
  refine gx_getI (lay := 7) (j := 1) O ck7 (by decide) rfl rfl (by decide) hx0 q983 dX9_go_83 ?_
  refine g_icmp_lt (tgt := 99) O w dX9_go_86 (by decide) (fun w => ?_) (fun w => ?_)
  · refine g_iload_n O dX9_go_99 rfl ?_
    refine g_ri0 (gr_S (nA := 1) (As := [.int r18]) (rest := []) O hRm (kX9_isLetter _ O.2.2.2.2.2.2.2.2 _ _ _ _ _ _ (r18) _ w) (lw_S q925 q926 q135 q927) rfl rfl (by decide +kernel) ⟨Nat.le_of_ble_eq_true rfl, Nat.le_of_ble_eq_true rfl⟩ rfl rfl rfl (Nat.le_of_ble_eq_true rfl) dX9_go_100 (kOk.f0 hk)) (fun r21 w => ?_)
    have hk := kOk.s0 hk
    refine g_if_eq (tgt := 184) O w dX9_go_103 (by decide) (fun w => ?_) (fun w => ?_)
    · refine g_iload_n O dX9_go_184 rfl ?_
      refine g_ri0 (gr_S (nA := 1) (As := [.int r18]) (rest := []) O hRm (kX9_isDigit _ O.2.2.2.2.2.2.2.2 _ _ _ _ _ _ (r18) _ w) (lw_S q956 q957 q135 q958) rfl rfl (by decide +kernel) ⟨Nat.le_of_ble_eq_true rfl, Nat.le_of_ble_eq_true rfl⟩ rfl rfl rfl (Nat.le_of_ble_eq_true rfl) dX9_go_185 (kOk.f0 hk)) (fun r24 w => ?_)
      have hk := kOk.s0 hk
      refine g_if_eq (tgt := 291) O w dX9_go_188 (by decide) (fun w => ?_) (fun w => ?_)
      · refine g_aload_n O dX9_go_291 rfl ?_
        refine g_iload_n O dX9_go_292 rfl ?_
        refine g_ri0 (gr_S (nA := 1) (As := [.int r18]) (rest := [.ref x0]) O hRm (kX9_isSign _ O.2.2.2.2.2.2.2.2 _ _ _ _ _ _ (r18) _ w) (lw_S q961 q962 q135 q963) rfl rfl (by decide +kernel) ⟨Nat.le_of_ble_eq_true rfl, Nat.le_of_ble_eq_true rfl⟩ rfl rfl rfl (Nat.le_of_ble_eq_true rfl) dX9_go_293 (kOk.f0 hk)) (fun r27 w => ?_)
        have hk := kOk.s0 hk
        refine g_if_eq (tgt := 305) O w dX9_go_296 (by decide) (fun w => ?_) (fun w => ?_)
        · refine gx_getst (i := 8) O rfl q966 dX9_go_305 ?_
          exact vjFX9_go_308 O hRm x0 hx0 (r18) ((cxE X).2.2.2.2 8) x0 hx0 post hk hQ w
        · refine gx_getst (i := 7) O rfl q964 dX9_go_299 ?_
          refine g_goto (tgt := 308) O dX9_go_302 (by decide) ?_
          exact vjFX9_go_308 O hRm x0 hx0 (r18) ((cxE X).2.2.2.2 7) x0 hx0 post hk hQ w
      · refine g_aload_n O dX9_go_191 rfl ?_
        refine g_iconst (v := 0) O dX9_go_192 (by decide) ?_
        refine gx_putI (lay := 7) (j := 4) (ty := .int) O ck7 (by decide) rfl rfl (by decide) hx0 q986 rfl rfl rfl rfl dX9_go_193 ?_
        refine g_nV w (fun V45 w _ => ?_)
        obtain ⟨n66, w⟩ := w
        refine g_drop [1] (lv' := [some (.ref x0), none, none]) rfl ?_
        refine vlFX9_go_196 O hRm x0 post hQ _ (fun kc ks U59 z T L V57 P58 h61 hk60 w => ?_) n66 _ _ _ _ _ _ _ _ hx0 hk w
        refine g_aload_n O dX9_go_259 rfl ?_
        refine g_aload_n O dX9_go_260 rfl ?_
        refine gx_getI (lay := 7) (j := 2) O ck7 (by decide) rfl rfl (by decide) h61 q984 dX9_go_261 ?_
        refine g_aload_n O dX9_go_264 rfl ?_
        refine gx_getI (lay := 7) (j := 3) O ck7 (by decide) rfl rfl (by decide) h61 q985 dX9_go_265 ?_
        refine g_isub O dX9_go_268 ?_
        refine g_iconst (v := 4) O dX9_go_269 (by decide) ?_
        refine g_icmp_le (tgt := 277) O w dX9_go_270 (by decide) (fun w => ?_) (fun w => ?_)
        · refine g_iconst (v := 0) O dX9_go_277 (by decide) ?_
          exact vjFX9_go_278 O hRm x0 h61 (0) x0 h61 post hk60 hQ w
        · refine g_iconst (v := 1) O dX9_go_273 (by decide) ?_
          refine g_goto (tgt := 278) O dX9_go_274 (by decide) ?_
          exact vjFX9_go_278 O hRm x0 h61 (1) x0 h61 post hk60 hQ w
    · obtain ⟨U72, e73, w⟩ := w
      have hk9 := kOk.eq hk e73
      refine gq_new (lay := 18) (u := 1) O hRm ck18 (by decide) rfl (by decide +kernel) q928 q219 q116 hk9 (by decide) (by decide) dX9_go_106 (fun o67 z T L V68 P69 hk70 hn71 => ?_)
      replace w := w o67 z T L V68 P69 hn71
      obtain ⟨h74, w⟩ := w
      refine g_dup O dX9_go_109 rfl ?_
      refine g_bipush (v := 7) O dX9_go_110 (by decide) ?_
      obtain ⟨c75, U76, e77, w⟩ := w
      have hk9 := kOk.eq hk70 e77
      refine g_mv (gr_I (nA := 1) (As := [.int 7]) (rest := [.ref o67]) O hRm (kFJ8_init_2 _ O.2.2.2.2.2.2.2.2 (cxE X) _ _ _ _ _ _ o67 hn71.t (7) _ w) (lw_meth q931) q929 q930 q116 rfl rfl rfl (by decide +kernel) ⟨Nat.le_of_ble_eq_true rfl, Nat.le_of_ble_eq_true rfl⟩ rfl rfl rfl (Nat.le_of_ble_eq_true rfl) dX9_go_112 (kOk.fa hk9)) (fun z T L V78 P79 w => ?_)
      have hk80 := kOk.sa hk9
      obtain ⟨h82, h83, w⟩ := w
      refine g_astore_n O dX9_go_115 (Nat.le_of_ble_eq_true rfl) rfl (lv' := [some (.ref x0), some (.int r18), some (.ref o67)]) rfl ?_
      obtain ⟨n118, w⟩ := w
      refine g_drop [1] (lv' := [some (.ref x0), none, some (.ref o67)]) rfl ?_
      refine vlFX9_go_116 O hRm x0 o67 post hQ _ (fun kc ks U103 z T L V101 P102 h105 h106 hk104 w => ?_) n118 _ _ _ _ _ _ _ _ h83 h82 hk80 w
      refine g_aload_n O dX9_go_166 rfl ?_
      refine g_aload_n O dX9_go_167 rfl ?_
      obtain ⟨c107, U108, e109, w⟩ := w
      have hk9 := kOk.eq hk104 e109
      refine g_mq (gr_V (lay := 18) (nA := 0) (As := []) (rest := [.ref x0]) O hRm (kFJ8_toString _ O.2.2.2.2.2.2.2.2 (cxE X) _ _ _ _ _ _ o67 h106 _ w) (lw_V q953 q398 q399 q116 q400) rfl rfl (by decide +kernel) ⟨Nat.le_of_ble_eq_true rfl, Nat.le_of_ble_eq_true rfl⟩ ck18 (by decide) rfl h106 rfl rfl rfl (Nat.le_of_ble_eq_true rfl) dX9_go_168 (kOk.fa hk9)) (fun r113 z T L V110 P111 w => ?_)
      have hk112 := kOk.sa hk9
      obtain ⟨h114, hr115, w⟩ := w
      refine gx_putR (lay := 7) (j := 7) (x := (some r113)) O ck7 (by decide) rfl rfl (by decide) h114 q989 rfl rfl rfl rfl dX9_go_171 ?_
      refine g_nP w (fun P116 w _ => ?_)
      refine g_aload_n O dX9_go_174 rfl ?_
      refine gx_getst (i := 5) O rfl q954 dX9_go_175 ?_
      refine gx_putR (lay := 7) (j := 6) (x := (some ((cxE X).2.2.2.2 5))) O ck7 (by decide) rfl rfl (by decide) h114 q988 rfl rfl rfl rfl dX9_go_178 ?_
      refine g_nP w (fun P117 w _ => ?_)
      refine g_goto (tgt := 340) O dX9_go_181 (by decide) ?_
      exact gm2_vret O hQ (kOk.m hk112) w dX9_go_340
  · refine g_aload_n O dX9_go_89 rfl ?_
    refine gx_getst (i := 9) O rfl q923 dX9_go_90 ?_
    refine gx_putR (lay := 7) (j := 6) (x := (some ((cxE X).2.2.2.2 9))) O ck7 (by decide) rfl rfl (by decide) hx0 q988 rfl rfl rfl rfl dX9_go_93 ?_
    refine g_nP w (fun P119 w _ => ?_)
    refine g_goto (tgt := 340) O dX9_go_96 (by decide) ?_
    exact gm2_vret O hQ (kOk.m hk) w dX9_go_340
set_option maxHeartbeats 4000000 in
theorem kFX9_go (l : Launch) (hfl : l.flags = flags0) (E : w_E) (U0 z : Nat) (T L : Nat → Nat) (V : w_V) (P : w_P) (t : Nat) (hT : T t = 8) (post : Nat → (Nat → Nat) → (Nat → Nat) → w_V → w_P → Prop) (w : wFX9_go E.2.2.2.2 U0 z T L V P t post) : Met l yX9_go (ws_ yX9_go cX9_go 3 none) (rFX9_go U0) (va_Pc [.ref t] (fun U => kenv E U ∧ wdW E (z, T, L, V, P) U.heap)) (va_Qv (qF0 post) (wdF E) (w_A E)) (8 * U0) (32 * U0) (w_A E) := by
  refine g_startN (w := (z, T, L, V, P)) hfl (by decide +kernel) rfl [some (.ref t), none, none] rfl (fun _ h => h) (Nat.le_of_ble_eq_true rfl) (fun X hl hRm hEe O hI hQ => ?_)
  subst hl
  subst hEe
  have hk : kOk (rFX9_go U0) 0 0 U0 := ⟨by show 0 + 8 * U0 ≤ 8 * U0; omega, by show 0 + 32 * U0 ≤ 32 * U0; omega⟩
  unfold wFX9_go at w
  obtain ⟨n120, w⟩ := w
  refine vlFX9_go_0 O hRm t post hQ _ (fun kc ks U10 z T L V8 P9 h12 hk11 w => ?_) n120 _ _ _ _ _ _ _ _ hT hk w
  exact vjFX9_go_50 O hRm t h12 post hk11 hQ w
-- X9_init
abbrev rFX9_init (U0 : Nat) : Room := { frames := 9, cells := 8 * U0, slots := 32 * U0, locals := 214 }
set_option maxHeartbeats 4000000 in
theorem kFX9_init (l : Launch) (hfl : l.flags = flags0) (E : w_E) (U0 z : Nat) (T L : Nat → Nat) (V : w_V) (P : w_P) (t : Nat) (hT : T t = 58) (dx1 ax1 kx1 nx1 : Nat) (hx1 : hArr T L dx1 ax1 kx1 nx1 1) (gx1 : nx1 < 2147483648) (x2 : Int32) (post : Nat → (Nat → Nat) → (Nat → Nat) → w_V → w_P → Prop) (w : wFX9_init E.2.2.2.2 U0 z T L V P t dx1 ax1 kx1 nx1 x2 post) : Met l yX9_init (ws_ yX9_init cX9_init 3 none) (rFX9_init U0) (va_Pc [.ref t, .ref dx1, .int x2] (fun U => kenv E U ∧ wdW E (z, T, L, V, P) U.heap)) (va_Qv (qF0 post) (wdF E) (w_A E)) (8 * U0) (32 * U0) (w_A E) := by
  refine g_startN (w := (z, T, L, V, P)) hfl (by decide +kernel) rfl [some (.ref t), some (.ref dx1), some (.int x2)] rfl (fun _ h => h) (Nat.le_of_ble_eq_true rfl) (fun X hl hRm hEe O hI hQ => ?_)
  subst hl
  subst hEe
  have hk : kOk (rFX9_init U0) 0 0 U0 := ⟨by show 0 + 8 * U0 ≤ 8 * U0; omega, by show 0 + 32 * U0 ≤ 32 * U0; omega⟩
  unfold wFX9_init at w
  refine g_aload_n O dX9_init_0 rfl ?_
  refine gc_objInit O hRm q913 (Nat.le_of_ble_eq_true rfl) (Nat.le_of_ble_eq_true rfl) rfl dX9_init_1 ?_
  refine g_aload_n O dX9_init_4 rfl ?_
  refine gx_ldc (i := 16) (tx := []) O rfl rfl dX9_init_5 (fun s1 hs2 hz => ?_)
  replace w := w s1 hz
  refine gx_putR (lay := 57) (j := 7) (x := (some s1)) O ck7 (by decide) rfl rfl (by decide) hT q989 rfl rfl rfl rfl dX9_init_7 ?_
  refine g_nP w (fun P3 w _ => ?_)
  refine g_aload_n O dX9_init_10 rfl ?_
  refine g_iconst (v := 2) O dX9_init_11 (by decide) ?_
  obtain ⟨U9, e10, w⟩ := w
  have hk9 := kOk.eq hk e10
  refine gq_newZ (N := 2) (u := 1) O hRm q730 rfl (by decide) hk9 (by decide) (by decide) dX9_init_12 (fun o4 z T L V5 P6 hk7 hn8 => ?_)
  replace w := w o4 z T L V5 P6 hn8
  obtain ⟨h11, h12, w⟩ := w
  refine gx_putRF (lay := 57) (j := 8) (x := (some o4)) O hI ck7 (by decide) rfl rfl (by decide) h11 q990 rfl rfl rfl (by first | exact Or.inl ⟨_, rfl⟩ | exact Or.inr ⟨_, rfl⟩) dX9_init_14 ?_
  refine g_nP w (fun P13 w _ => ?_)
  refine gq_seal (c := 7) (by decide) rfl w (fun T V14 hT15 w => ?_)
  obtain ⟨h16, w⟩ := w
  refine g_aload_n O dX9_init_17 rfl ?_
  refine g_aload_n O dX9_init_18 rfl ?_
  refine gx_putRF (lay := 7) (j := 0) (x := (some dx1)) O hI ck7 (by decide) rfl rfl (by decide) hT15 q982 rfl rfl rfl (by first | exact Or.inl ⟨_, rfl⟩ | exact Or.inr ⟨_, rfl⟩) dX9_init_19 ?_
  refine g_nP w (fun P17 w _ => ?_)
  refine g_aload_n O dX9_init_22 rfl ?_
  refine g_iload_n O dX9_init_23 rfl ?_
  refine gx_putIF (lay := 7) (j := 1) (ty := .int) (x := x2) O hI ck7 (by decide) rfl rfl (by decide) hT15 q983 rfl rfl rfl rfl rfl dX9_init_24 ?_
  refine g_nV w (fun V18 w _ => ?_)
  refine g_aload_n O dX9_init_27 rfl ?_
  obtain ⟨c19, U20, e21, w⟩ := w
  have hk9 := kOk.eq hk7 e21
  refine g_mv (gr_V (lay := 7) (nA := 0) (As := []) (rest := []) O hRm (kFX9_go _ O.2.2.2.2.2.2.2.2 (cxE X) _ _ _ _ _ _ t hT15 _ w) (lw_V q915 q917 qs5 q135 q918) rfl rfl (by decide +kernel) ⟨Nat.le_of_ble_eq_true rfl, Nat.le_of_ble_eq_true rfl⟩ ck7 (by decide) rfl hT15 rfl rfl rfl (Nat.le_of_ble_eq_true rfl) dX9_init_28 (kOk.fa hk9)) (fun z T L V22 P23 w => ?_)
  have hk24 := kOk.sa hk9
  exact gm2_vret O hQ (kOk.m hk24) w dX9_init_31
-- X9_need
abbrev rFX9_need (U0 : Nat) : Room := { frames := 9, cells := 8 * U0, slots := 32 * U0, locals := 214 }
set_option maxHeartbeats 4000000 in
theorem kFX9_need (l : Launch) (hfl : l.flags = flags0) (E : w_E) (U0 z : Nat) (T L : Nat → Nat) (V : w_V) (P : w_P) (t : Nat) (hT : T t = 8) (x1 : Nat) (txx1 : List Nat) (hx1 : isStr E x1 txx1) (post : Nat → (Nat → Nat) → (Nat → Nat) → w_V → w_P → Prop) (xp : w_Xp) (w : wFX9_need E.2.2.2.2 U0 z T L V P t x1 txx1 post xp) : vx_Met l yX9_need (ws_ yX9_need cX9_need 2 none) (rFX9_need U0) (va_Pc [.ref t, .ref x1] (fun U => kenv E U ∧ wdW E (z, T, L, V, P) U.heap)) (va_Qv (qF0 post) (wdF E) (w_A E)) (xcX E (xF xp)) (8 * U0) (32 * U0) (w_A E) := by
  refine g_startF (w := (z, T, L, V, P)) hfl (by decide +kernel) rfl [some (.ref t), some (.ref x1)] rfl (fun _ h => h) (Nat.le_of_ble_eq_true rfl) (fun X hl hRm hEe O hN hI hQ => ?_)
  subst hl
  subst hEe
  have hk : kOk (rFX9_need U0) 0 0 U0 := ⟨by show 0 + 8 * U0 ≤ 8 * U0; omega, by show 0 + 32 * U0 ≤ 32 * U0; omega⟩
  unfold wFX9_need at w
  refine g_aload_n O dX9_need_0 rfl ?_
  refine g_aload_n O dX9_need_1 rfl ?_
  refine g_aload_n O dX9_need_2 rfl ?_
  refine g_ri0 (gr_V (lay := 7) (nA := 1) (As := [.ref x1]) (rest := [.ref t]) O hRm (kX9_is _ O.2.2.2.2.2.2.2.2 _ _ _ _ _ _ t hT x1 txx1 hx1 _ w) (lw_V q1017 q1019 qs7 q135 q1020) rfl rfl (by decide +kernel) ⟨Nat.le_of_ble_eq_true rfl, Nat.le_of_ble_eq_true rfl⟩ ck7 (by decide) rfl hT rfl rfl rfl (Nat.le_of_ble_eq_true rfl) dX9_need_3 (kOk.f0 hk)) (fun r1 w => ?_)
  have hk := kOk.s0 hk
  refine g_iconst (v := 1) O dX9_need_6 (by decide) ?_
  obtain ⟨c4, U5, e6, w⟩ := w
  have hk9 := kOk.eq hk e6
  refine g_fv O hN hQ (kOk.fa hk9) (grx_V (lay := 7) (nA := 2) (As := [.int r1, .int 1]) (rest := []) O hRm (kFX9_check _ O.2.2.2.2.2.2.2.2 (cxE X) _ _ _ _ _ _ t hT (r1) (1) _ xp w) (lw_V q1028 q1030 qs8 q135 q1031) rfl rfl (by decide +kernel) ⟨Nat.le_of_ble_eq_true rfl, Nat.le_of_ble_eq_true rfl⟩ ck7 (by decide) rfl hT rfl rfl rfl (Nat.le_of_ble_eq_true rfl) dX9_need_7 (kOk.fa hk9)) (fun z T L V7 P8 w => ?_)
  have hk9 := kOk.sa hk9
  obtain ⟨h11, w⟩ := w
  refine g_aload_n O dX9_need_10 rfl ?_
  obtain ⟨c12, U13, e14, w⟩ := w
  have hk9 := kOk.eq hk9 e14
  refine g_mv (gr_V (lay := 7) (nA := 0) (As := []) (rest := []) O hRm (kFX9_go _ O.2.2.2.2.2.2.2.2 (cxE X) _ _ _ _ _ _ t h11 _ w) (lw_V q915 q917 qs5 q135 q918) rfl rfl (by decide +kernel) ⟨Nat.le_of_ble_eq_true rfl, Nat.le_of_ble_eq_true rfl⟩ ck7 (by decide) rfl h11 rfl rfl rfl (Nat.le_of_ble_eq_true rfl) dX9_need_11 (kOk.fa hk9)) (fun z T L V15 P16 w => ?_)
  have hk17 := kOk.sa hk9
  exact gt_vret (f := fun u => u) (u := (z, T, L, V15, P16)) O hQ (kOk.m hk17) rfl w dX9_need_14
-- X9_number
abbrev rFX9_number (U0 : Nat) : Room := { frames := 9, cells := 8 * U0, slots := 32 * U0, locals := 214 }
set_option maxHeartbeats 4000000 in
theorem vjFX9_number_49 {X : Cx} {U0 : Nat} (O : Okc X cX9_number RX9 4 (some .int)) (hRm : cxR X = (rFX9_number U0)) (hN : noTab X) {kc ks U z : Nat} {T L : Nat → Nat} {V : w_V} {P : w_P} (x0 : Nat) (hx0 : T x0 = 8) (t0 : Int32) (t1 : Nat) (ht1 : T t1 = 8) (post : Int32 → Nat → (Nat → Nat) → (Nat → Nat) → w_V → w_P → Prop) (xp : w_Xp) (hk : kOk (rFX9_number U0) kc ks U) (hQ : cxMX X (va_Qi (qF1 post) (wdF (cxE X)) (w_A (cxE X))) (xF xp) (rFX9_number U0).cells (rFX9_number U0).slots) (w : jFX9_number_49 (cxE X).2.2.2.2 U z T L V P x0 t0 t1 post xp) : gW X kc ks z T L V P 49 [some (.ref x0), none, none, none] [.int t0, .ref t1] := by
  unfold jFX9_number_49 at w
  refine g_iconst (v := 2) O dX9_number_49 (by decide) ?_
  obtain ⟨c12, U13, e14, w⟩ := w
  have hk9 := kOk.eq hk e14
  refine g_fv O hN hQ (kOk.fa hk9) (grx_V (lay := 7) (nA := 2) (As := [.int t0, .int 2]) (rest := []) O hRm (kFX9_check _ O.2.2.2.2.2.2.2.2 (cxE X) _ _ _ _ _ _ t1 ht1 (t0) (2) _ xp w) (lw_V q1028 q1030 qs8 q135 q1031) rfl rfl (by decide +kernel) ⟨Nat.le_of_ble_eq_true rfl, Nat.le_of_ble_eq_true rfl⟩ ck7 (by decide) rfl ht1 rfl rfl rfl (Nat.le_of_ble_eq_true rfl) dX9_number_50 (kOk.fa hk9)) (fun z T L V15 P16 w => ?_)
  have hk17 := kOk.sa hk9
  obtain ⟨h19, w⟩ := w
  refine g_aload_n O dX9_number_53 rfl ?_
  refine gx_getI (lay := 7) (j := 4) O ck7 (by decide) rfl rfl (by decide) h19 q986 dX9_number_54 ?_
  refine g_istore_n O dX9_number_57 (Nat.le_of_ble_eq_true rfl) rfl (lv' := [some (.ref x0), none, none, some (.int (V15 x0 0 4))]) rfl ?_
  refine g_aload_n O dX9_number_58 rfl ?_
  obtain ⟨c20, U21, e22, w⟩ := w
  have hk9 := kOk.eq hk17 e22
  refine g_mv (gr_V (lay := 7) (nA := 0) (As := []) (rest := []) O hRm (kFX9_go _ O.2.2.2.2.2.2.2.2 (cxE X) _ _ _ _ _ _ x0 h19 _ w) (lw_V q915 q917 qs5 q135 q918) rfl rfl (by decide +kernel) ⟨Nat.le_of_ble_eq_true rfl, Nat.le_of_ble_eq_true rfl⟩ ck7 (by decide) rfl h19 rfl rfl rfl (Nat.le_of_ble_eq_true rfl) dX9_number_59 (kOk.fa hk9)) (fun z T L V23 P24 w => ?_)
  have hk25 := kOk.sa hk9
  refine g_iload_n O dX9_number_62 rfl ?_
  exact gt_iret (f := fun u => u) (u := (z, T, L, V23, P24)) O hQ (kOk.m hk25) rfl rfl w dX9_number_63
set_option maxHeartbeats 4000000 in
theorem vjFX9_number_48 {X : Cx} {U0 : Nat} (O : Okc X cX9_number RX9 4 (some .int)) (hRm : cxR X = (rFX9_number U0)) (hN : noTab X) {kc ks U z : Nat} {T L : Nat → Nat} {V : w_V} {P : w_P} (x0 : Nat) (hx0 : T x0 = 8) (t0 : Nat) (ht0 : T t0 = 8) (post : Int32 → Nat → (Nat → Nat) → (Nat → Nat) → w_V → w_P → Prop) (xp : w_Xp) (hk : kOk (rFX9_number U0) kc ks U) (hQ : cxMX X (va_Qi (qF1 post) (wdF (cxE X)) (w_A (cxE X))) (xF xp) (rFX9_number U0).cells (rFX9_number U0).slots) (w : jFX9_number_48 (cxE X).2.2.2.2 U z T L V P x0 t0 post xp) : gW X kc ks z T L V P 48 [some (.ref x0), none, none, none] [.ref t0] := by
  unfold jFX9_number_48 at w
  refine g_iconst (v := 0) O dX9_number_48 (by decide) ?_
  exact vjFX9_number_49 O hRm hN x0 hx0 (0) t0 ht0 post xp hk hQ w
set_option maxHeartbeats 4000000 in
theorem vjFX9_number_16 {X : Cx} {U0 : Nat} (O : Okc X cX9_number RX9 4 (some .int)) (hRm : cxR X = (rFX9_number U0)) (hN : noTab X) {kc ks U z : Nat} {T L : Nat → Nat} {V : w_V} {P : w_P} (x0 : Nat) (hx0 : T x0 = 8) (x1 : Int32) (x2 : Int32) (t0 : Int32) (t1 : Nat) (ht1 : T t1 = 8) (post : Int32 → Nat → (Nat → Nat) → (Nat → Nat) → w_V → w_P → Prop) (xp : w_Xp) (hk : kOk (rFX9_number U0) kc ks U) (hQ : cxMX X (va_Qi (qF1 post) (wdF (cxE X)) (w_A (cxE X))) (xF xp) (rFX9_number U0).cells (rFX9_number U0).slots) (w : jFX9_number_16 (cxE X).2.2.2.2 U z T L V P x0 x1 x2 t0 t1 post xp) : gW X kc ks z T L V P 16 [some (.ref x0), some (.int x1), some (.int x2), none] [.int t0, .ref t1] := by
  unfold jFX9_number_16 at w
  refine g_iconst (v := 1) O dX9_number_16 (by decide) ?_
  obtain ⟨c4, U5, e6, w⟩ := w
  have hk9 := kOk.eq hk e6
  refine g_fv O hN hQ (kOk.fa hk9) (grx_V (lay := 7) (nA := 2) (As := [.int t0, .int 1]) (rest := []) O hRm (kFX9_check _ O.2.2.2.2.2.2.2.2 (cxE X) _ _ _ _ _ _ t1 ht1 (t0) (1) _ xp w) (lw_V q1028 q1030 qs8 q135 q1031) rfl rfl (by decide +kernel) ⟨Nat.le_of_ble_eq_true rfl, Nat.le_of_ble_eq_true rfl⟩ ck7 (by decide) rfl ht1 rfl rfl rfl (Nat.le_of_ble_eq_true rfl) dX9_number_17 (kOk.fa hk9)) (fun z T L V7 P8 w => ?_)
  have hk9 := kOk.sa hk9
  obtain ⟨h11, w⟩ := w
  refine g_aload_n O dX9_number_20 rfl ?_
  refine g_aload_n O dX9_number_21 rfl ?_
  refine gx_getI (lay := 7) (j := 5) O ck7 (by decide) rfl rfl (by decide) h11 q987 dX9_number_22 ?_
  refine g_if_ne (tgt := 48) O w dX9_number_25 (by decide) (fun w => ?_) (fun w => ?_)
  · refine g_drop [1, 2] (lv' := [some (.ref x0), none, none, none]) rfl ?_
    exact vjFX9_number_48 O hRm hN x0 h11 x0 h11 post xp hk9 hQ w
  · refine g_aload_n O dX9_number_28 rfl ?_
    refine gx_getI (lay := 7) (j := 4) O ck7 (by decide) rfl rfl (by decide) h11 q986 dX9_number_29 ?_
    refine g_iload_n O dX9_number_32 rfl ?_
    refine g_icmp_lt (tgt := 48) O w dX9_number_33 (by decide) (fun w => ?_) (fun w => ?_)
    · refine g_drop [1, 2] (lv' := [some (.ref x0), none, none, none]) rfl ?_
      exact vjFX9_number_48 O hRm hN x0 h11 x0 h11 post xp hk9 hQ w
    · refine g_aload_n O dX9_number_36 rfl ?_
      refine gx_getI (lay := 7) (j := 4) O ck7 (by decide) rfl rfl (by decide) h11 q986 dX9_number_37 ?_
      refine g_iload_n O dX9_number_40 rfl ?_
      refine g_icmp_gt (tgt := 48) O w dX9_number_41 (by decide) (fun w => ?_) (fun w => ?_)
      · refine g_drop [1, 2] (lv' := [some (.ref x0), none, none, none]) rfl ?_
        exact vjFX9_number_48 O hRm hN x0 h11 x0 h11 post xp hk9 hQ w
      · refine g_iconst (v := 1) O dX9_number_44 (by decide) ?_
        refine g_goto (tgt := 49) O dX9_number_45 (by decide) ?_
        refine g_drop [1, 2] (lv' := [some (.ref x0), none, none, none]) rfl ?_
        exact vjFX9_number_49 O hRm hN x0 h11 (1) x0 h11 post xp hk9 hQ w
set_option maxHeartbeats 4000000 in
theorem kFX9_number (l : Launch) (hfl : l.flags = flags0) (E : w_E) (U0 z : Nat) (T L : Nat → Nat) (V : w_V) (P : w_P) (t : Nat) (hT : T t = 8) (x1 : Int32) (x2 : Int32) (post : Int32 → Nat → (Nat → Nat) → (Nat → Nat) → w_V → w_P → Prop) (xp : w_Xp) (w : wFX9_number E.2.2.2.2 U0 z T L V P t x1 x2 post xp) : vx_Met l yX9_number (ws_ yX9_number cX9_number 4 (some .int)) (rFX9_number U0) (va_Pc [.ref t, .int x1, .int x2] (fun U => kenv E U ∧ wdW E (z, T, L, V, P) U.heap)) (va_Qi (qF1 post) (wdF E) (w_A E)) (xcX E (xF xp)) (8 * U0) (32 * U0) (w_A E) := by
  refine g_startF (w := (z, T, L, V, P)) hfl (by decide +kernel) rfl [some (.ref t), some (.int x1), some (.int x2), none] rfl (fun _ h => h) (Nat.le_of_ble_eq_true rfl) (fun X hl hRm hEe O hN hI hQ => ?_)
  subst hl
  subst hEe
  have hk : kOk (rFX9_number U0) 0 0 U0 := ⟨by show 0 + 8 * U0 ≤ 8 * U0; omega, by show 0 + 32 * U0 ≤ 32 * U0; omega⟩
  unfold wFX9_number at w
  refine g_aload_n O dX9_number_0 rfl ?_
  refine g_aload_n O dX9_number_1 rfl ?_
  obtain ⟨b1, hp2, w⟩ := w
  refine gx_getR (lay := 7) (j := 6) O ck7 (by decide) rfl rfl hp2 (by decide) hT q988 dX9_number_2 ?_
  refine gx_getst (i := 6) O rfl q959 dX9_number_5 ?_
  refine gx_acmp_ne (tgt := 15) O w dX9_number_8 (by decide) (fun w => ?_) (fun w => ?_)
  · refine g_iconst (v := 0) O dX9_number_15 (by decide) ?_
    exact vjFX9_number_16 O hRm hN t hT (x1) (x2) (0) t hT post xp hk hQ w
  · refine g_iconst (v := 1) O dX9_number_11 (by decide) ?_
    refine g_goto (tgt := 16) O dX9_number_12 (by decide) ?_
    exact vjFX9_number_16 O hRm hN t hT (x1) (x2) (1) t hT post xp hk hQ w
-- X9_begins
abbrev rFX9_begins (U0 : Nat) : Room := { frames := 9, cells := 8 * U0, slots := 32 * U0, locals := 214 }
set_option maxHeartbeats 4000000 in
theorem vjFX9_begins_25 {X : Cx} {U0 : Nat} (O : Okc X cX9_begins RX9 3 (some .boolean)) (hRm : cxR X = (rFX9_begins U0)) (hN : noTab X) {kc ks U z : Nat} {T L : Nat → Nat} {V : w_V} {P : w_P} (x0 : Nat) (hx0 : T x0 = 8) (x2 : Int32) (t0 : Int32) (t1 : Nat) (ht1 : T t1 = 8) (post : Int32 → Nat → (Nat → Nat) → (Nat → Nat) → w_V → w_P → Prop) (xp : w_Xp) (hk : kOk (rFX9_begins U0) kc ks U) (hQ : cxMX X (va_Qi (qF1 post) (wdF (cxE X)) (w_A (cxE X))) (xF xp) (rFX9_begins U0).cells (rFX9_begins U0).slots) (w : jFX9_begins_25 (cxE X).2.2.2.2 U z T L V P x0 x2 t0 t1 post xp) : gW X kc ks z T L V P 25 [some (.ref x0), none, some (.int x2)] [.int t0, .ref t1] := by
  unfold jFX9_begins_25 at w
  refine g_iconst (v := 5) O dX9_begins_25 (by decide) ?_
  obtain ⟨c7, U8, e9, w⟩ := w
  have hk9 := kOk.eq hk e9
  refine g_fv O hN hQ (kOk.fa hk9) (grx_V (lay := 7) (nA := 2) (As := [.int t0, .int 5]) (rest := []) O hRm (kFX9_check _ O.2.2.2.2.2.2.2.2 (cxE X) _ _ _ _ _ _ t1 ht1 (t0) (5) _ xp w) (lw_V q1028 q1030 qs8 q135 q1031) rfl rfl (by decide +kernel) ⟨Nat.le_of_ble_eq_true rfl, Nat.le_of_ble_eq_true rfl⟩ ck7 (by decide) rfl ht1 rfl rfl rfl (Nat.le_of_ble_eq_true rfl) dX9_begins_26 (kOk.fa hk9)) (fun z T L V10 P11 w => ?_)
  have hk12 := kOk.sa hk9
  obtain ⟨h14, w⟩ := w
  refine g_aload_n O dX9_begins_29 rfl ?_
  refine gx_getA (lay := 7) (j := 8) O ck7 (by decide) rfl rfl (by decide) h14 q990 dX9_begins_30 ?_
  refine g_iload_n O dX9_begins_33 rfl ?_
  refine g_iconst (v := 1) O dX9_begins_34 (by decide) ?_
  obtain ⟨i15, hi16, e17, w⟩ := w
  refine gx_zast (a := x0) (kk0 := 9) (len := 2) (nn := i15) O (ha_own (lay := 7) (j := 8) (off := 1) (ty := 2) (len := 2) (by decide) h14 rfl (by decide)) hi16 (by decide) e17 dX9_begins_35 ?_
  refine g_nV w (fun V18 w _ => ?_)
  refine g_aload_n O dX9_begins_36 rfl ?_
  obtain ⟨c19, U20, e21, w⟩ := w
  have hk9 := kOk.eq hk12 e21
  refine g_mv (gr_V (lay := 7) (nA := 0) (As := []) (rest := []) O hRm (kFX9_go _ O.2.2.2.2.2.2.2.2 (cxE X) _ _ _ _ _ _ x0 h14 _ w) (lw_V q915 q917 qs5 q135 q918) rfl rfl (by decide +kernel) ⟨Nat.le_of_ble_eq_true rfl, Nat.le_of_ble_eq_true rfl⟩ ck7 (by decide) rfl h14 rfl rfl rfl (Nat.le_of_ble_eq_true rfl) dX9_begins_37 (kOk.fa hk9)) (fun z T L V22 P23 w => ?_)
  have hk24 := kOk.sa hk9
  refine g_iconst (v := 1) O dX9_begins_40 (by decide) ?_
  exact gt_iret (f := fun u => u) (u := (z, T, L, V22, P23)) O hQ (kOk.m hk24) rfl rfl w dX9_begins_41
set_option maxHeartbeats 4000000 in
theorem kFX9_begins (l : Launch) (hfl : l.flags = flags0) (E : w_E) (U0 z : Nat) (T L : Nat → Nat) (V : w_V) (P : w_P) (t : Nat) (hT : T t = 8) (x1 : Nat) (txx1 : List Nat) (hx1 : isStr E x1 txx1) (x2 : Int32) (post : Int32 → Nat → (Nat → Nat) → (Nat → Nat) → w_V → w_P → Prop) (xp : w_Xp) (w : wFX9_begins E.2.2.2.2 U0 z T L V P t x1 txx1 x2 post xp) : vx_Met l yX9_begins (ws_ yX9_begins cX9_begins 3 (some .boolean)) (rFX9_begins U0) (va_Pc [.ref t, .ref x1, .int x2] (fun U => kenv E U ∧ wdW E (z, T, L, V, P) U.heap)) (va_Qi (qF1 post) (wdF E) (w_A E)) (xcX E (xF xp)) (8 * U0) (32 * U0) (w_A E) := by
  refine g_startF (w := (z, T, L, V, P)) hfl (by decide +kernel) rfl [some (.ref t), some (.ref x1), some (.int x2)] rfl (fun _ h => h) (Nat.le_of_ble_eq_true rfl) (fun X hl hRm hEe O hN hI hQ => ?_)
  subst hl
  subst hEe
  have hk : kOk (rFX9_begins U0) 0 0 U0 := ⟨by show 0 + 8 * U0 ≤ 8 * U0; omega, by show 0 + 32 * U0 ≤ 32 * U0; omega⟩
  unfold wFX9_begins at w
  refine g_aload_n O dX9_begins_0 rfl ?_
  refine g_aload_n O dX9_begins_1 rfl ?_
  refine g_ri0 (gr_V (lay := 7) (nA := 1) (As := [.ref x1]) (rest := []) O hRm (kX9_is _ O.2.2.2.2.2.2.2.2 _ _ _ _ _ _ t hT x1 txx1 hx1 _ w) (lw_V q1017 q1019 qs7 q135 q1020) rfl rfl (by decide +kernel) ⟨Nat.le_of_ble_eq_true rfl, Nat.le_of_ble_eq_true rfl⟩ ck7 (by decide) rfl hT rfl rfl rfl (Nat.le_of_ble_eq_true rfl) dX9_begins_2 (kOk.f0 hk)) (fun r1 w => ?_)
  have hk := kOk.s0 hk
  refine g_if_ne (tgt := 10) O w dX9_begins_5 (by decide) (fun w => ?_) (fun w => ?_)
  · refine g_aload_n O dX9_begins_10 rfl ?_
    refine g_aload_n O dX9_begins_11 rfl ?_
    refine gx_getA (lay := 7) (j := 8) O ck7 (by decide) rfl rfl (by decide) hT q990 dX9_begins_12 ?_
    refine g_iload_n O dX9_begins_15 rfl ?_
    obtain ⟨i4, hi5, e6, w⟩ := w
    refine gx_zald (a := t) (kk0 := 9) (len := 2) (nn := i4) O (ha_own (lay := 7) (j := 8) (off := 1) (ty := 2) (len := 2) (by decide) hT rfl (by decide)) hi5 (by decide) e6 dX9_begins_16 ?_
    refine g_if_ne (tgt := 24) O w dX9_begins_17 (by decide) (fun w => ?_) (fun w => ?_)
    · refine g_iconst (v := 0) O dX9_begins_24 (by decide) ?_
      refine g_drop [1] (lv' := [some (.ref t), none, some (.int x2)]) rfl ?_
      exact vjFX9_begins_25 O hRm hN t hT (x2) (0) t hT post xp hk hQ w
    · refine g_iconst (v := 1) O dX9_begins_20 (by decide) ?_
      refine g_goto (tgt := 25) O dX9_begins_21 (by decide) ?_
      refine g_drop [1] (lv' := [some (.ref t), none, some (.int x2)]) rfl ?_
      exact vjFX9_begins_25 O hRm hN t hT (x2) (1) t hT post xp hk hQ w
  · refine g_iconst (v := 0) O dX9_begins_8 (by decide) ?_
    exact gt_iret (f := fun u => u) (u := (z, T, L, V, P)) O hQ (kOk.m hk) rfl rfl w dX9_begins_9
-- X9_amongHere
abbrev rFX9_amongHere (U0 : Nat) : Room := { frames := 7, cells := 8 * U0, slots := 32 * U0, locals := 114 }
set_option maxHeartbeats 4000000 in
theorem vjFX9_amongHere_51 {X : Cx} {U0 : Nat} (O : Okc X cX9_amongHere RX9 2 (some .int)) (hRm : cxR X = (rFX9_amongHere U0)) (hN : noTab X) {kc ks U z : Nat} {T L : Nat → Nat} {V : w_V} {P : w_P} (x0 : Nat) (hx0 : T x0 = 8) (t0 : Int32) (t1 : Nat) (ht1 : T t1 = 8) (post : Int32 → Nat → (Nat → Nat) → (Nat → Nat) → w_V → w_P → Prop) (xp : w_Xp) (hk : kOk (rFX9_amongHere U0) kc ks U) (hQ : cxMX X (va_Qi (qF1 post) (wdF (cxE X)) (w_A (cxE X))) (xF xp) (rFX9_amongHere U0).cells (rFX9_amongHere U0).slots) (w : jFX9_amongHere_51 (cxE X).2.2.2.2 U z T L V P x0 t0 t1 post xp) : gW X kc ks z T L V P 51 [some (.ref x0), none] [.int t0, .ref t1] := by
  unfold jFX9_amongHere_51 at w
  refine g_iconst (v := 3) O dX9_amongHere_51 (by decide) ?_
  obtain ⟨c20, U21, e22, w⟩ := w
  have hk9 := kOk.eq hk e22
  refine g_fv O hN hQ (kOk.fa hk9) (grx_V (lay := 7) (nA := 2) (As := [.int t0, .int 3]) (rest := []) O hRm (kFX9_check _ O.2.2.2.2.2.2.2.2 (cxE X) _ _ _ _ _ _ t1 ht1 (t0) (3) _ xp w) (lw_V q1028 q1030 qs8 q135 q1031) rfl rfl (by decide +kernel) ⟨Nat.le_of_ble_eq_true rfl, Nat.le_of_ble_eq_true rfl⟩ ck7 (by decide) rfl ht1 rfl rfl rfl (Nat.le_of_ble_eq_true rfl) dX9_amongHere_52 (kOk.fa hk9)) (fun z T L V23 P24 w => ?_)
  have hk25 := kOk.sa hk9
  obtain ⟨h27, w⟩ := w
  refine g_aload_n O dX9_amongHere_55 rfl ?_
  refine gx_getI (lay := 7) (j := 4) O ck7 (by decide) rfl rfl (by decide) h27 q986 dX9_amongHere_56 ?_
  exact gt_iret (f := fun u => u) (u := (z, T, L, V23, P24)) O hQ (kOk.m hk25) rfl rfl w dX9_amongHere_59
set_option maxHeartbeats 4000000 in
theorem vjFX9_amongHere_33 {X : Cx} {U0 : Nat} (O : Okc X cX9_amongHere RX9 2 (some .int)) (hRm : cxR X = (rFX9_amongHere U0)) (hN : noTab X) {kc ks U z : Nat} {T L : Nat → Nat} {V : w_V} {P : w_P} (x0 : Nat) (hx0 : T x0 = 8) (x1 : Int32) (t0 : Int32) (t1 : Nat) (ht1 : T t1 = 8) (post : Int32 → Nat → (Nat → Nat) → (Nat → Nat) → w_V → w_P → Prop) (xp : w_Xp) (hk : kOk (rFX9_amongHere U0) kc ks U) (hQ : cxMX X (va_Qi (qF1 post) (wdF (cxE X)) (w_A (cxE X))) (xF xp) (rFX9_amongHere U0).cells (rFX9_amongHere U0).slots) (w : jFX9_amongHere_33 (cxE X).2.2.2.2 U z T L V P x0 x1 t0 t1 post xp) : gW X kc ks z T L V P 33 [some (.ref x0), some (.int x1)] [.int t0, .ref t1] := by
  unfold jFX9_amongHere_33 at w
  refine g_iconst (v := 2) O dX9_amongHere_33 (by decide) ?_
  obtain ⟨c12, U13, e14, w⟩ := w
  have hk9 := kOk.eq hk e14
  refine g_fv O hN hQ (kOk.fa hk9) (grx_V (lay := 7) (nA := 2) (As := [.int t0, .int 2]) (rest := []) O hRm (kFX9_check _ O.2.2.2.2.2.2.2.2 (cxE X) _ _ _ _ _ _ t1 ht1 (t0) (2) _ xp w) (lw_V q1028 q1030 qs8 q135 q1031) rfl rfl (by decide +kernel) ⟨Nat.le_of_ble_eq_true rfl, Nat.le_of_ble_eq_true rfl⟩ ck7 (by decide) rfl ht1 rfl rfl rfl (Nat.le_of_ble_eq_true rfl) dX9_amongHere_34 (kOk.fa hk9)) (fun z T L V15 P16 w => ?_)
  have hk17 := kOk.sa hk9
  obtain ⟨h19, w⟩ := w
  refine g_aload_n O dX9_amongHere_37 rfl ?_
  refine g_aload_n O dX9_amongHere_38 rfl ?_
  refine gx_getI (lay := 7) (j := 4) O ck7 (by decide) rfl rfl (by decide) h19 q986 dX9_amongHere_39 ?_
  refine g_iload_n O dX9_amongHere_42 rfl ?_
  refine g_icmp_ge (tgt := 50) O w dX9_amongHere_43 (by decide) (fun w => ?_) (fun w => ?_)
  · refine g_iconst (v := 0) O dX9_amongHere_50 (by decide) ?_
    refine g_drop [1] (lv' := [some (.ref x0), none]) rfl ?_
    exact vjFX9_amongHere_51 O hRm hN x0 h19 (0) x0 h19 post xp hk17 hQ w
  · refine g_iconst (v := 1) O dX9_amongHere_46 (by decide) ?_
    refine g_goto (tgt := 51) O dX9_amongHere_47 (by decide) ?_
    refine g_drop [1] (lv' := [some (.ref x0), none]) rfl ?_
    exact vjFX9_amongHere_51 O hRm hN x0 h19 (1) x0 h19 post xp hk17 hQ w
set_option maxHeartbeats 4000000 in
theorem vjFX9_amongHere_16 {X : Cx} {U0 : Nat} (O : Okc X cX9_amongHere RX9 2 (some .int)) (hRm : cxR X = (rFX9_amongHere U0)) (hN : noTab X) {kc ks U z : Nat} {T L : Nat → Nat} {V : w_V} {P : w_P} (x0 : Nat) (hx0 : T x0 = 8) (x1 : Int32) (t0 : Int32) (t1 : Nat) (ht1 : T t1 = 8) (post : Int32 → Nat → (Nat → Nat) → (Nat → Nat) → w_V → w_P → Prop) (xp : w_Xp) (hk : kOk (rFX9_amongHere U0) kc ks U) (hQ : cxMX X (va_Qi (qF1 post) (wdF (cxE X)) (w_A (cxE X))) (xF xp) (rFX9_amongHere U0).cells (rFX9_amongHere U0).slots) (w : jFX9_amongHere_16 (cxE X).2.2.2.2 U z T L V P x0 x1 t0 t1 post xp) : gW X kc ks z T L V P 16 [some (.ref x0), some (.int x1)] [.int t0, .ref t1] := by
  unfold jFX9_amongHere_16 at w
  refine g_iconst (v := 1) O dX9_amongHere_16 (by decide) ?_
  obtain ⟨c4, U5, e6, w⟩ := w
  have hk9 := kOk.eq hk e6
  refine g_fv O hN hQ (kOk.fa hk9) (grx_V (lay := 7) (nA := 2) (As := [.int t0, .int 1]) (rest := []) O hRm (kFX9_check _ O.2.2.2.2.2.2.2.2 (cxE X) _ _ _ _ _ _ t1 ht1 (t0) (1) _ xp w) (lw_V q1028 q1030 qs8 q135 q1031) rfl rfl (by decide +kernel) ⟨Nat.le_of_ble_eq_true rfl, Nat.le_of_ble_eq_true rfl⟩ ck7 (by decide) rfl ht1 rfl rfl rfl (Nat.le_of_ble_eq_true rfl) dX9_amongHere_17 (kOk.fa hk9)) (fun z T L V7 P8 w => ?_)
  have hk9 := kOk.sa hk9
  obtain ⟨h11, w⟩ := w
  refine g_aload_n O dX9_amongHere_20 rfl ?_
  refine g_aload_n O dX9_amongHere_21 rfl ?_
  refine gx_getI (lay := 7) (j := 5) O ck7 (by decide) rfl rfl (by decide) h11 q987 dX9_amongHere_22 ?_
  refine g_if_ne (tgt := 32) O w dX9_amongHere_25 (by decide) (fun w => ?_) (fun w => ?_)
  · refine g_iconst (v := 0) O dX9_amongHere_32 (by decide) ?_
    exact vjFX9_amongHere_33 O hRm hN x0 h11 (x1) (0) x0 h11 post xp hk9 hQ w
  · refine g_iconst (v := 1) O dX9_amongHere_28 (by decide) ?_
    refine g_goto (tgt := 33) O dX9_amongHere_29 (by decide) ?_
    exact vjFX9_amongHere_33 O hRm hN x0 h11 (x1) (1) x0 h11 post xp hk9 hQ w
set_option maxHeartbeats 4000000 in
theorem kFX9_amongHere (l : Launch) (hfl : l.flags = flags0) (E : w_E) (U0 z : Nat) (T L : Nat → Nat) (V : w_V) (P : w_P) (t : Nat) (hT : T t = 8) (x1 : Int32) (post : Int32 → Nat → (Nat → Nat) → (Nat → Nat) → w_V → w_P → Prop) (xp : w_Xp) (w : wFX9_amongHere E.2.2.2.2 U0 z T L V P t x1 post xp) : vx_Met l yX9_amongHere (ws_ yX9_amongHere cX9_amongHere 2 (some .int)) (rFX9_amongHere U0) (va_Pc [.ref t, .int x1] (fun U => kenv E U ∧ wdW E (z, T, L, V, P) U.heap)) (va_Qi (qF1 post) (wdF E) (w_A E)) (xcX E (xF xp)) (8 * U0) (32 * U0) (w_A E) := by
  refine g_startF (w := (z, T, L, V, P)) hfl (by decide +kernel) rfl [some (.ref t), some (.int x1)] rfl (fun _ h => h) (Nat.le_of_ble_eq_true rfl) (fun X hl hRm hEe O hN hI hQ => ?_)
  subst hl
  subst hEe
  have hk : kOk (rFX9_amongHere U0) 0 0 U0 := ⟨by show 0 + 8 * U0 ≤ 8 * U0; omega, by show 0 + 32 * U0 ≤ 32 * U0; omega⟩
  unfold wFX9_amongHere at w
  refine g_aload_n O dX9_amongHere_0 rfl ?_
  refine g_aload_n O dX9_amongHere_1 rfl ?_
  obtain ⟨b1, hp2, w⟩ := w
  refine gx_getR (lay := 7) (j := 6) O ck7 (by decide) rfl rfl hp2 (by decide) hT q988 dX9_amongHere_2 ?_
  refine gx_getst (i := 6) O rfl q959 dX9_amongHere_5 ?_
  refine gx_acmp_ne (tgt := 15) O w dX9_amongHere_8 (by decide) (fun w => ?_) (fun w => ?_)
  · refine g_iconst (v := 0) O dX9_amongHere_15 (by decide) ?_
    exact vjFX9_amongHere_16 O hRm hN t hT (x1) (0) t hT post xp hk hQ w
  · refine g_iconst (v := 1) O dX9_amongHere_11 (by decide) ?_
    refine g_goto (tgt := 16) O dX9_amongHere_12 (by decide) ?_
    exact vjFX9_amongHere_16 O hRm hN t hT (x1) (1) t hT post xp hk hQ w
-- X9_road
abbrev rFX9_road (U0 : Nat) : Room := { frames := 10, cells := 8 * U0, slots := 32 * U0, locals := 237 }
set_option maxHeartbeats 4000000 in
theorem vjFX9_road_47 {X : Cx} {U0 : Nat} (O : Okc X cX9_road RX9 4 none) (hRm : cxR X = (rFX9_road U0)) (hN : noTab X) {kc ks U z : Nat} {T L : Nat → Nat} {V : w_V} {P : w_P} (x0 : Nat) (hx0 : T x0 = 8) (x1 : Nat) (hx1 : T x1 = 3) (x2 : Int32) (x3 : Int32) (t0 : Int32) (t1 : Nat) (ht1 : T t1 = 8) (post : Nat → (Nat → Nat) → (Nat → Nat) → w_V → w_P → Prop) (xp : w_Xp) (hk : kOk (rFX9_road U0) kc ks U) (hQ : cxMX X (va_Qv (qF0 post) (wdF (cxE X)) (w_A (cxE X))) (xF xp) (rFX9_road U0).cells (rFX9_road U0).slots) (w : jFX9_road_47 (cxE X).2.2.2.2 U z T L V P x0 x1 x2 x3 t0 t1 post xp) : gW X kc ks z T L V P 47 [some (.ref x0), some (.ref x1), some (.int x2), some (.int x3)] [.int t0, .ref t1] := by
  unfold jFX9_road_47 at w
  refine g_iconst (v := 4) O dX9_road_47 (by decide) ?_
  obtain ⟨c28, U29, e30, w⟩ := w
  have hk9 := kOk.eq hk e30
  refine g_fv O hN hQ (kOk.fa hk9) (grx_V (lay := 7) (nA := 2) (As := [.int t0, .int 4]) (rest := []) O hRm (kFX9_check _ O.2.2.2.2.2.2.2.2 (cxE X) _ _ _ _ _ _ t1 ht1 (t0) (4) _ xp w) (lw_V q1028 q1030 qs8 q135 q1031) rfl rfl (by decide +kernel) ⟨Nat.le_of_ble_eq_true rfl, Nat.le_of_ble_eq_true rfl⟩ ck7 (by decide) rfl ht1 rfl rfl rfl (Nat.le_of_ble_eq_true rfl) dX9_road_48 (kOk.fa hk9)) (fun z T L V31 P32 w => ?_)
  have hk33 := kOk.sa hk9
  obtain ⟨h35, h36, w⟩ := w
  refine g_aload_n O dX9_road_51 rfl ?_
  obtain ⟨c37, U38, e39, w⟩ := w
  have hk9 := kOk.eq hk33 e39
  refine g_mv (gr_V (lay := 7) (nA := 0) (As := []) (rest := []) O hRm (kFX9_go _ O.2.2.2.2.2.2.2.2 (cxE X) _ _ _ _ _ _ x0 h35 _ w) (lw_V q915 q917 qs5 q135 q918) rfl rfl (by decide +kernel) ⟨Nat.le_of_ble_eq_true rfl, Nat.le_of_ble_eq_true rfl⟩ ck7 (by decide) rfl h35 rfl rfl rfl (Nat.le_of_ble_eq_true rfl) dX9_road_52 (kOk.fa hk9)) (fun z T L V40 P41 w => ?_)
  have hk42 := kOk.sa hk9
  obtain ⟨h44, h45, w⟩ := w
  refine g_aload_n O dX9_road_55 rfl ?_
  refine gx_getAN (lay := 2) (j := 4) O ck2 (by decide) rfl rfl (by decide) h45 q536 dX9_road_56 ?_
  refine g_bipush (v := 9) O dX9_road_59 (by decide) ?_
  refine g_iload_n O dX9_road_61 rfl ?_
  refine g_imul O dX9_road_62 ?_
  refine g_iload_n O dX9_road_63 rfl ?_
  refine g_iadd O dX9_road_64 ?_
  refine g_aload_n O dX9_road_65 rfl ?_
  refine g_iconst (v := 1) O dX9_road_66 (by decide) ?_
  refine g_bipush (v := 9) O dX9_road_67 (by decide) ?_
  obtain ⟨c46, U47, e48, w⟩ := w
  have hk9 := kOk.eq hk42 e48
  refine g_fi O hN hQ (kOk.fa hk9) (grx_V (lay := 7) (nA := 2) (As := [.int 1, .int 9]) (rest := [.int ((9 * x2) + x3), .ref (x1 + 1)]) O hRm (kFX9_number _ O.2.2.2.2.2.2.2.2 (cxE X) _ _ _ _ _ _ x0 h44 (1) (9) _ xp w) (lw_V q1065 q1067 qs11 q135 q1068) rfl rfl (by decide +kernel) ⟨Nat.le_of_ble_eq_true rfl, Nat.le_of_ble_eq_true rfl⟩ ck7 (by decide) rfl h44 rfl rfl rfl (Nat.le_of_ble_eq_true rfl) dX9_road_69 (kOk.fa hk9)) (fun r52 z T L V49 P50 w => ?_)
  have hk51 := kOk.sa hk9
  obtain ⟨h53, w⟩ := w
  obtain ⟨i54, hi55, e56, w⟩ := w
  refine gx_iast (a := x1) (kk0 := 5) (len := 81) (nn := i54) O (ha_own (lay := 2) (j := 4) (off := 1) (ty := 0) (len := 81) (by decide) h53 rfl (by decide)) hi55 (by decide) e56 dX9_road_72 ?_
  refine g_nV w (fun V57 w _ => ?_)
  refine g_aload_n O dX9_road_73 rfl ?_
  refine gx_getAN (lay := 2) (j := 4) O ck2 (by decide) rfl rfl (by decide) h53 q536 dX9_road_74 ?_
  refine g_bipush (v := 9) O dX9_road_77 (by decide) ?_
  refine g_iload_n O dX9_road_79 rfl ?_
  refine g_imul O dX9_road_80 ?_
  refine g_iload_n O dX9_road_81 rfl ?_
  refine g_iadd O dX9_road_82 ?_
  refine g_aload_n O dX9_road_83 rfl ?_
  refine gx_getAN (lay := 2) (j := 4) O ck2 (by decide) rfl rfl (by decide) h53 q536 dX9_road_84 ?_
  refine g_bipush (v := 9) O dX9_road_87 (by decide) ?_
  refine g_iload_n O dX9_road_89 rfl ?_
  refine g_imul O dX9_road_90 ?_
  refine g_iload_n O dX9_road_91 rfl ?_
  refine g_iadd O dX9_road_92 ?_
  obtain ⟨i58, hi59, e60, w⟩ := w
  refine gx_iald (a := x1) (kk0 := 5) (len := 81) (nn := i58) O (ha_own (lay := 2) (j := 4) (off := 1) (ty := 0) (len := 81) (by decide) h53 rfl (by decide)) hi59 (by decide) e60 dX9_road_93 ?_
  obtain ⟨i61, hi62, e63, w⟩ := w
  refine gx_iast (a := x1) (kk0 := 5) (len := 81) (nn := i61) O (ha_own (lay := 2) (j := 4) (off := 1) (ty := 0) (len := 81) (by decide) h53 rfl (by decide)) hi62 (by decide) e63 dX9_road_94 ?_
  refine g_nV w (fun V64 w _ => ?_)
  refine g_aload_n O dX9_road_95 rfl ?_
  refine g_dup O dX9_road_96 rfl ?_
  refine gx_getIN (lay := 2) (j := 1) O ck2 (by decide) rfl rfl (by decide) h53 q527 dX9_road_97 ?_
  refine g_iconst (v := 1) O dX9_road_100 (by decide) ?_
  refine g_iadd O dX9_road_101 ?_
  refine gx_putIN (lay := 2) (j := 1) (ty := .int) O ck2 (by decide) rfl rfl (by decide) h53 q527 rfl rfl rfl rfl dX9_road_102 ?_
  refine g_nV w (fun V65 w _ => ?_)
  exact gt_vret (f := fun u => u) (u := (z, T, L, V65, P50)) O hQ (kOk.m hk51) rfl w dX9_road_105
set_option maxHeartbeats 4000000 in
theorem vjFX9_road_46 {X : Cx} {U0 : Nat} (O : Okc X cX9_road RX9 4 none) (hRm : cxR X = (rFX9_road U0)) (hN : noTab X) {kc ks U z : Nat} {T L : Nat → Nat} {V : w_V} {P : w_P} (x0 : Nat) (hx0 : T x0 = 8) (x1 : Nat) (hx1 : T x1 = 3) (x2 : Int32) (x3 : Int32) (t0 : Nat) (ht0 : T t0 = 8) (post : Nat → (Nat → Nat) → (Nat → Nat) → w_V → w_P → Prop) (xp : w_Xp) (hk : kOk (rFX9_road U0) kc ks U) (hQ : cxMX X (va_Qv (qF0 post) (wdF (cxE X)) (w_A (cxE X))) (xF xp) (rFX9_road U0).cells (rFX9_road U0).slots) (w : jFX9_road_46 (cxE X).2.2.2.2 U z T L V P x0 x1 x2 x3 t0 post xp) : gW X kc ks z T L V P 46 [some (.ref x0), some (.ref x1), some (.int x2), some (.int x3)] [.ref t0] := by
  unfold jFX9_road_46 at w
  refine g_iconst (v := 0) O dX9_road_46 (by decide) ?_
  exact vjFX9_road_47 O hRm hN x0 hx0 x1 hx1 (x2) (x3) (0) t0 ht0 post xp hk hQ w
set_option maxHeartbeats 4000000 in
theorem kFX9_road (l : Launch) (hfl : l.flags = flags0) (E : w_E) (U0 z : Nat) (T L : Nat → Nat) (V : w_V) (P : w_P) (t : Nat) (hT : T t = 8) (x1 : Nat) (hx1 : T x1 = 3) (post : Nat → (Nat → Nat) → (Nat → Nat) → w_V → w_P → Prop) (xp : w_Xp) (w : wFX9_road E.2.2.2.2 U0 z T L V P t x1 post xp) : vx_Met l yX9_road (ws_ yX9_road cX9_road 4 none) (rFX9_road U0) (va_Pc [.ref t, .ref x1] (fun U => kenv E U ∧ wdW E (z, T, L, V, P) U.heap)) (va_Qv (qF0 post) (wdF E) (w_A E)) (xcX E (xF xp)) (8 * U0) (32 * U0) (w_A E) := by
  refine g_startF (w := (z, T, L, V, P)) hfl (by decide +kernel) rfl [some (.ref t), some (.ref x1), none, none] rfl (fun _ h => h) (Nat.le_of_ble_eq_true rfl) (fun X hl hRm hEe O hN hI hQ => ?_)
  subst hl
  subst hEe
  have hk : kOk (rFX9_road U0) 0 0 U0 := ⟨by show 0 + 8 * U0 ≤ 8 * U0; omega, by show 0 + 32 * U0 ≤ 32 * U0; omega⟩
  unfold wFX9_road at w
  refine g_aload_n O dX9_road_0 rfl ?_
  refine g_aload_n O dX9_road_1 rfl ?_
  refine gx_getIN (lay := 2) (j := 0) O ck2 (by decide) rfl rfl (by decide) hx1 q526 dX9_road_2 ?_
  obtain ⟨c1, U2, e3, w⟩ := w
  have hk9 := kOk.eq hk e3
  refine g_fi O hN hQ (kOk.fa hk9) (grx_V (lay := 7) (nA := 1) (As := [.int (V x1 0 0)]) (rest := []) O hRm (kFX9_amongHere _ O.2.2.2.2.2.2.2.2 (cxE X) _ _ _ _ _ _ t hT ((V x1 0 0)) _ xp w) (lw_V q1061 q1063 qs10 q135 q1064) rfl rfl (by decide +kernel) ⟨Nat.le_of_ble_eq_true rfl, Nat.le_of_ble_eq_true rfl⟩ ck7 (by decide) rfl hT rfl rfl rfl (Nat.le_of_ble_eq_true rfl) dX9_road_5 (kOk.fa hk9)) (fun r7 z T L V4 P5 w => ?_)
  have hk6 := kOk.sa hk9
  obtain ⟨h8, h9, w⟩ := w
  refine g_istore_n O dX9_road_8 (Nat.le_of_ble_eq_true rfl) rfl (lv' := [some (.ref t), some (.ref x1), some (.int r7), none]) rfl ?_
  refine g_aload_n O dX9_road_9 rfl ?_
  obtain ⟨c10, U11, e12, w⟩ := w
  have hk9 := kOk.eq hk6 e12
  refine g_mv (gr_V (lay := 7) (nA := 0) (As := []) (rest := []) O hRm (kFX9_go _ O.2.2.2.2.2.2.2.2 (cxE X) _ _ _ _ _ _ t h8 _ w) (lw_V q915 q917 qs5 q135 q918) rfl rfl (by decide +kernel) ⟨Nat.le_of_ble_eq_true rfl, Nat.le_of_ble_eq_true rfl⟩ ck7 (by decide) rfl h8 rfl rfl rfl (Nat.le_of_ble_eq_true rfl) dX9_road_10 (kOk.fa hk9)) (fun z T L V13 P14 w => ?_)
  have hk15 := kOk.sa hk9
  obtain ⟨h17, h18, w⟩ := w
  refine g_aload_n O dX9_road_13 rfl ?_
  refine g_aload_n O dX9_road_14 rfl ?_
  refine gx_getIN (lay := 2) (j := 0) O ck2 (by decide) rfl rfl (by decide) h18 q526 dX9_road_15 ?_
  obtain ⟨c19, U20, e21, w⟩ := w
  have hk9 := kOk.eq hk15 e21
  refine g_fi O hN hQ (kOk.fa hk9) (grx_V (lay := 7) (nA := 1) (As := [.int (V13 x1 0 0)]) (rest := []) O hRm (kFX9_amongHere _ O.2.2.2.2.2.2.2.2 (cxE X) _ _ _ _ _ _ t h17 ((V13 x1 0 0)) _ xp w) (lw_V q1061 q1063 qs10 q135 q1064) rfl rfl (by decide +kernel) ⟨Nat.le_of_ble_eq_true rfl, Nat.le_of_ble_eq_true rfl⟩ ck7 (by decide) rfl h17 rfl rfl rfl (Nat.le_of_ble_eq_true rfl) dX9_road_18 (kOk.fa hk9)) (fun r25 z T L V22 P23 w => ?_)
  have hk24 := kOk.sa hk9
  obtain ⟨h26, h27, w⟩ := w
  refine g_istore_n O dX9_road_21 (Nat.le_of_ble_eq_true rfl) rfl (lv' := [some (.ref t), some (.ref x1), some (.int r7), some (.int r25)]) rfl ?_
  refine g_aload_n O dX9_road_22 rfl ?_
  refine g_iload_n O dX9_road_23 rfl ?_
  refine g_iload_n O dX9_road_24 rfl ?_
  refine g_icmp_eq (tgt := 46) O w dX9_road_25 (by decide) (fun w => ?_) (fun w => ?_)
  · exact vjFX9_road_46 O hRm hN t h26 x1 h27 (r7) (r25) t h26 post xp hk24 hQ w
  · refine g_aload_n O dX9_road_28 rfl ?_
    refine gx_getAN (lay := 2) (j := 4) O ck2 (by decide) rfl rfl (by decide) h27 q536 dX9_road_29 ?_
    refine g_bipush (v := 9) O dX9_road_32 (by decide) ?_
    refine g_iload_n O dX9_road_34 rfl ?_
    refine g_imul O dX9_road_35 ?_
    refine g_iload_n O dX9_road_36 rfl ?_
    refine g_iadd O dX9_road_37 ?_
    obtain ⟨i66, hi67, e68, w⟩ := w
    refine gx_iald (a := x1) (kk0 := 5) (len := 81) (nn := i66) O (ha_own (lay := 2) (j := 4) (off := 1) (ty := 0) (len := 81) (by decide) h27 rfl (by decide)) hi67 (by decide) e68 dX9_road_38 ?_
    refine g_if_ne (tgt := 46) O w dX9_road_39 (by decide) (fun w => ?_) (fun w => ?_)
    · exact vjFX9_road_46 O hRm hN t h26 x1 h27 (r7) (r25) t h26 post xp hk24 hQ w
    · refine g_iconst (v := 1) O dX9_road_42 (by decide) ?_
      refine g_goto (tgt := 47) O dX9_road_43 (by decide) ?_
      exact vjFX9_road_47 O hRm hN t h26 x1 h27 (r7) (r25) (1) t h26 post xp hk24 hQ w
-- X9_judge
abbrev rFX9_judge (U0 : Nat) : Room := { frames := 10, cells := 8 * U0, slots := 32 * U0, locals := 237 }
set_option maxHeartbeats 4000000 in
theorem vjFX9_judge_114 {X : Cx} {U0 : Nat} (O : Okc X cX9_judge RX9 8 none) (hRm : cxR X = (rFX9_judge U0)) (hN : noTab X) {kc ks U z : Nat} {T L : Nat → Nat} {V : w_V} {P : w_P} (x0 : Nat) (hx0 : T x0 = 8) (x1 : Nat) (hx1 : T x1 = 3) (x2 : Nat) (hx2 : T x2 = 18) (x3 : Int32) (x4 : Int32) (dx5 ax5 kx5 nx5 : Nat) (hx5 : hArr T L dx5 ax5 kx5 nx5 0) (gx5 : nx5 < 2147483648) (x6 : Int32) (x7 : Int32) (t0 : Int32) (t1 : Nat) (ht1 : T t1 = 8) (post : Nat → (Nat → Nat) → (Nat → Nat) → w_V → w_P → Prop) (xp : w_Xp) (hk : kOk (rFX9_judge U0) kc ks U) (hQ : cxMX X (va_Qv (qF0 post) (wdF (cxE X)) (w_A (cxE X))) (xF xp) (rFX9_judge U0).cells (rFX9_judge U0).slots) (kb : Nat → Nat → (Nat → Nat) → (Nat → Nat) → w_V → w_P → Int32 → Prop) (hkb : ∀ (kc ks U z : Nat) (T L : Nat → Nat) (V : w_V) (P : w_P) (y6 : Int32) (_hx0 : T x0 = 8) (_hx1 : T x1 = 3) (_hx2 : T x2 = 18) (_hx5 : hArr T L dx5 ax5 kx5 nx5 0) (_gx5 : nx5 < 2147483648), kOk (rFX9_judge U0) kc ks U → kb U z T L V P y6 → gW X kc ks z T L V P 35 [some (.ref x0), some (.ref x1), some (.ref x2), some (.int x3), some (.int x4), some (.ref dx5), some (.int y6), none] []) (ke_143 : Nat → Nat → (Nat → Nat) → (Nat → Nat) → w_V → w_P → Int32 → Prop) (hke_143 : ∀ (kc ks U z : Nat) (T L : Nat → Nat) (V : w_V) (P : w_P) (y6 : Int32) (_hx1 : T x1 = 3) (_hx2 : T x2 = 18) (_hx5 : hArr T L dx5 ax5 kx5 nx5 0) (_gx5 : nx5 < 2147483648), kOk (rFX9_judge U0) kc ks U → ke_143 U z T L V P y6 → gW X kc ks z T L V P 143 [none, some (.ref x1), some (.ref x2), some (.int x3), some (.int x4), some (.ref dx5), some (.int y6), none] []) (w : jFX9_judge_114 (cxE X).2.2.2.2 U z T L V P x0 x1 x2 x3 x4 dx5 ax5 kx5 nx5 x6 x7 t0 t1 post xp kb ke_143) : gW X kc ks z T L V P 114 [some (.ref x0), some (.ref x1), some (.ref x2), some (.int x3), some (.int x4), some (.ref dx5), some (.int x6), some (.int x7)] [.int t0, .ref t1] := by
  unfold jFX9_judge_114 at w
  refine g_bipush (v := 6) O dX9_judge_114 (by decide) ?_
  obtain ⟨c80, U81, e82, w⟩ := w
  have hk9 := kOk.eq hk e82
  refine g_fv O hN hQ (kOk.fa hk9) (grx_V (lay := 7) (nA := 2) (As := [.int t0, .int 6]) (rest := []) O hRm (kFX9_check _ O.2.2.2.2.2.2.2.2 (cxE X) _ _ _ _ _ _ t1 ht1 (t0) (6) _ xp w) (lw_V q1028 q1030 qs8 q135 q1031) rfl rfl (by decide +kernel) ⟨Nat.le_of_ble_eq_true rfl, Nat.le_of_ble_eq_true rfl⟩ ck7 (by decide) rfl ht1 rfl rfl rfl (Nat.le_of_ble_eq_true rfl) dX9_judge_116 (kOk.fa hk9)) (fun z T L V83 P84 w => ?_)
  have hk85 := kOk.sa hk9
  obtain ⟨h87, h88, h89, h90, w⟩ := w
  refine g_aload O dX9_judge_119 rfl ?_
  refine g_iload O dX9_judge_121 rfl ?_
  refine g_iload O dX9_judge_123 rfl ?_
  obtain ⟨i91, hi92, e93, w⟩ := w
  refine gx_iast (a := ax5) (kk0 := kx5) (len := nx5) (nn := i91) O h90 hi92 gx5 e93 dX9_judge_125 ?_
  refine g_nV w (fun V94 w _ => ?_)
  refine g_iinc (v := (x6 + 1)) O dX9_judge_126 rfl rfl rfl (lv' := [some (.ref x0), some (.ref x1), some (.ref x2), some (.int x3), some (.int x4), some (.ref dx5), some (.int (x6 + 1)), some (.int x7)]) rfl ?_
  refine g_aload_n O dX9_judge_129 rfl ?_
  obtain ⟨c95, U96, e97, w⟩ := w
  have hk9 := kOk.eq hk85 e97
  refine g_mv (gr_V (lay := 7) (nA := 0) (As := []) (rest := []) O hRm (kFX9_go _ O.2.2.2.2.2.2.2.2 (cxE X) _ _ _ _ _ _ x0 h87 _ w) (lw_V q915 q917 qs5 q135 q918) rfl rfl (by decide +kernel) ⟨Nat.le_of_ble_eq_true rfl, Nat.le_of_ble_eq_true rfl⟩ ck7 (by decide) rfl h87 rfl rfl rfl (Nat.le_of_ble_eq_true rfl) dX9_judge_130 (kOk.fa hk9)) (fun z T L V98 P99 w => ?_)
  have hk100 := kOk.sa hk9
  obtain ⟨h102, h103, h104, h105, w⟩ := w
  refine g_aload_n O dX9_judge_133 rfl ?_
  obtain ⟨b106, hp107, w⟩ := w
  refine gx_getR (lay := 7) (j := 6) O ck7 (by decide) rfl rfl hp107 (by decide) h102 q988 dX9_judge_134 ?_
  refine gx_getst (i := 6) O rfl q959 dX9_judge_137 ?_
  refine gx_acmp_eq (tgt := 35) O w dX9_judge_140 (by decide) (fun w => ?_) (fun w => ?_)
  · refine g_drop [7] (lv' := [some (.ref x0), some (.ref x1), some (.ref x2), some (.int x3), some (.int x4), some (.ref dx5), some (.int (x6 + 1)), none]) rfl ?_
    exact hkb _ _ _ _ _ _ _ _ ((x6 + 1)) h102 h103 h104 h105 gx5 hk100 w
  · refine g_drop [0, 7] (lv' := [none, some (.ref x1), some (.ref x2), some (.int x3), some (.int x4), some (.ref dx5), some (.int (x6 + 1)), none]) rfl ?_
    exact hke_143 _ _ _ _ _ _ _ _ ((x6 + 1)) h103 h104 h105 gx5 hk100 w
set_option maxHeartbeats 4000000 in
theorem vjFX9_judge_109 {X : Cx} {U0 : Nat} (O : Okc X cX9_judge RX9 8 none) (hRm : cxR X = (rFX9_judge U0)) (hN : noTab X) {kc ks U z : Nat} {T L : Nat → Nat} {V : w_V} {P : w_P} (x0 : Nat) (hx0 : T x0 = 8) (x1 : Nat) (hx1 : T x1 = 3) (x2 : Nat) (hx2 : T x2 = 18) (x3 : Int32) (x4 : Int32) (dx5 ax5 kx5 nx5 : Nat) (hx5 : hArr T L dx5 ax5 kx5 nx5 0) (gx5 : nx5 < 2147483648) (x6 : Int32) (x7 : Int32) (t0 : Nat) (ht0 : T t0 = 8) (post : Nat → (Nat → Nat) → (Nat → Nat) → w_V → w_P → Prop) (xp : w_Xp) (hk : kOk (rFX9_judge U0) kc ks U) (hQ : cxMX X (va_Qv (qF0 post) (wdF (cxE X)) (w_A (cxE X))) (xF xp) (rFX9_judge U0).cells (rFX9_judge U0).slots) (kb : Nat → Nat → (Nat → Nat) → (Nat → Nat) → w_V → w_P → Int32 → Prop) (hkb : ∀ (kc ks U z : Nat) (T L : Nat → Nat) (V : w_V) (P : w_P) (y6 : Int32) (_hx0 : T x0 = 8) (_hx1 : T x1 = 3) (_hx2 : T x2 = 18) (_hx5 : hArr T L dx5 ax5 kx5 nx5 0) (_gx5 : nx5 < 2147483648), kOk (rFX9_judge U0) kc ks U → kb U z T L V P y6 → gW X kc ks z T L V P 35 [some (.ref x0), some (.ref x1), some (.ref x2), some (.int x3), some (.int x4), some (.ref dx5), some (.int y6), none] []) (ke_143 : Nat → Nat → (Nat → Nat) → (Nat → Nat) → w_V → w_P → Int32 → Prop) (hke_143 : ∀ (kc ks U z : Nat) (T L : Nat → Nat) (V : w_V) (P : w_P) (y6 : Int32) (_hx1 : T x1 = 3) (_hx2 : T x2 = 18) (_hx5 : hArr T L dx5 ax5 kx5 nx5 0) (_gx5 : nx5 < 2147483648), kOk (rFX9_judge U0) kc ks U → ke_143 U z T L V P y6 → gW X kc ks z T L V P 143 [none, some (.ref x1), some (.ref x2), some (.int x3), some (.int x4), some (.ref dx5), some (.int y6), none] []) (w : jFX9_judge_109 (cxE X).2.2.2.2 U z T L V P x0 x1 x2 x3 x4 dx5 ax5 kx5 nx5 x6 x7 t0 post xp kb ke_143) : gW X kc ks z T L V P 109 [some (.ref x0), some (.ref x1), some (.ref x2), some (.int x3), some (.int x4), some (.ref dx5), some (.int x6), some (.int x7)] [.ref t0] := by
  unfold jFX9_judge_109 at w
  refine g_iconst (v := 1) O dX9_judge_109 (by decide) ?_
  refine g_goto (tgt := 114) O dX9_judge_110 (by decide) ?_
  exact vjFX9_judge_114 O hRm hN x0 hx0 x1 hx1 x2 hx2 (x3) (x4) (dx5) ax5 kx5 nx5 hx5 gx5 (x6) (x7) (1) t0 ht0 post xp hk hQ kb hkb ke_143 hke_143 w
set_option maxHeartbeats 4000000 in
theorem vjFX9_judge_68 {X : Cx} {U0 : Nat} (O : Okc X cX9_judge RX9 8 none) (hRm : cxR X = (rFX9_judge U0)) (hN : noTab X) {kc ks U z : Nat} {T L : Nat → Nat} {V : w_V} {P : w_P} (x0 : Nat) (hx0 : T x0 = 8) (x1 : Nat) (hx1 : T x1 = 3) (x2 : Nat) (hx2 : T x2 = 18) (x3 : Int32) (x4 : Int32) (dx5 ax5 kx5 nx5 : Nat) (hx5 : hArr T L dx5 ax5 kx5 nx5 0) (gx5 : nx5 < 2147483648) (x6 : Int32) (t0 : Int32) (t1 : Nat) (ht1 : T t1 = 8) (post : Nat → (Nat → Nat) → (Nat → Nat) → w_V → w_P → Prop) (xp : w_Xp) (hk : kOk (rFX9_judge U0) kc ks U) (hQ : cxMX X (va_Qv (qF0 post) (wdF (cxE X)) (w_A (cxE X))) (xF xp) (rFX9_judge U0).cells (rFX9_judge U0).slots) (kb : Nat → Nat → (Nat → Nat) → (Nat → Nat) → w_V → w_P → Int32 → Prop) (hkb : ∀ (kc ks U z : Nat) (T L : Nat → Nat) (V : w_V) (P : w_P) (y6 : Int32) (_hx0 : T x0 = 8) (_hx1 : T x1 = 3) (_hx2 : T x2 = 18) (_hx5 : hArr T L dx5 ax5 kx5 nx5 0) (_gx5 : nx5 < 2147483648), kOk (rFX9_judge U0) kc ks U → kb U z T L V P y6 → gW X kc ks z T L V P 35 [some (.ref x0), some (.ref x1), some (.ref x2), some (.int x3), some (.int x4), some (.ref dx5), some (.int y6), none] []) (ke_143 : Nat → Nat → (Nat → Nat) → (Nat → Nat) → w_V → w_P → Int32 → Prop) (hke_143 : ∀ (kc ks U z : Nat) (T L : Nat → Nat) (V : w_V) (P : w_P) (y6 : Int32) (_hx1 : T x1 = 3) (_hx2 : T x2 = 18) (_hx5 : hArr T L dx5 ax5 kx5 nx5 0) (_gx5 : nx5 < 2147483648), kOk (rFX9_judge U0) kc ks U → ke_143 U z T L V P y6 → gW X kc ks z T L V P 143 [none, some (.ref x1), some (.ref x2), some (.int x3), some (.int x4), some (.ref dx5), some (.int y6), none] []) (w : jFX9_judge_68 (cxE X).2.2.2.2 U z T L V P x0 x1 x2 x3 x4 dx5 ax5 kx5 nx5 x6 t0 t1 post xp kb ke_143) : gW X kc ks z T L V P 68 [some (.ref x0), some (.ref x1), some (.ref x2), some (.int x3), some (.int x4), some (.ref dx5), some (.int x6), none] [.int t0, .ref t1] := by
  unfold jFX9_judge_68 at w
  refine g_iconst (v := 2) O dX9_judge_68 (by decide) ?_
  obtain ⟨c58, U59, e60, w⟩ := w
  have hk9 := kOk.eq hk e60
  refine g_fv O hN hQ (kOk.fa hk9) (grx_V (lay := 7) (nA := 2) (As := [.int t0, .int 2]) (rest := []) O hRm (kFX9_check _ O.2.2.2.2.2.2.2.2 (cxE X) _ _ _ _ _ _ t1 ht1 (t0) (2) _ xp w) (lw_V q1028 q1030 qs8 q135 q1031) rfl rfl (by decide +kernel) ⟨Nat.le_of_ble_eq_true rfl, Nat.le_of_ble_eq_true rfl⟩ ck7 (by decide) rfl ht1 rfl rfl rfl (Nat.le_of_ble_eq_true rfl) dX9_judge_69 (kOk.fa hk9)) (fun z T L V61 P62 w => ?_)
  have hk63 := kOk.sa hk9
  obtain ⟨h65, h66, h67, h68, w⟩ := w
  refine g_aload_n O dX9_judge_72 rfl ?_
  refine g_aload_n O dX9_judge_73 rfl ?_
  refine gx_getIN (lay := 2) (j := 0) O ck2 (by decide) rfl rfl (by decide) h66 q526 dX9_judge_74 ?_
  obtain ⟨c69, U70, e71, w⟩ := w
  have hk9 := kOk.eq hk63 e71
  refine g_fi O hN hQ (kOk.fa hk9) (grx_V (lay := 7) (nA := 1) (As := [.int (V61 x1 0 0)]) (rest := []) O hRm (kFX9_amongHere _ O.2.2.2.2.2.2.2.2 (cxE X) _ _ _ _ _ _ x0 h65 ((V61 x1 0 0)) _ xp w) (lw_V q1061 q1063 qs10 q135 q1064) rfl rfl (by decide +kernel) ⟨Nat.le_of_ble_eq_true rfl, Nat.le_of_ble_eq_true rfl⟩ ck7 (by decide) rfl h65 rfl rfl rfl (Nat.le_of_ble_eq_true rfl) dX9_judge_77 (kOk.fa hk9)) (fun r75 z T L V72 P73 w => ?_)
  have hk74 := kOk.sa hk9
  obtain ⟨h76, h77, h78, h79, w⟩ := w
  refine g_istore O dX9_judge_80 (Nat.le_of_ble_eq_true rfl) rfl (lv' := [some (.ref x0), some (.ref x1), some (.ref x2), some (.int x3), some (.int x4), some (.ref dx5), some (.int x6), some (.int r75)]) rfl ?_
  refine g_aload_n O dX9_judge_82 rfl ?_
  refine g_iload O dX9_judge_83 rfl ?_
  refine g_if_eq (tgt := 109) O w dX9_judge_85 (by decide) (fun w => ?_) (fun w => ?_)
  · exact vjFX9_judge_109 O hRm hN x0 h76 x1 h77 x2 h78 (x3) (x4) (dx5) ax5 kx5 nx5 h79 gx5 (x6) (r75) x0 h76 post xp hk74 hQ kb hkb ke_143 hke_143 w
  · refine g_aload_n O dX9_judge_88 rfl ?_
    refine gx_getAN (lay := 2) (j := 4) O ck2 (by decide) rfl rfl (by decide) h77 q536 dX9_judge_89 ?_
    refine g_bipush (v := 9) O dX9_judge_92 (by decide) ?_
    refine g_aload O dX9_judge_94 rfl ?_
    refine g_iload O dX9_judge_96 rfl ?_
    refine g_iconst (v := 1) O dX9_judge_98 (by decide) ?_
    refine g_isub O dX9_judge_99 ?_
    obtain ⟨i109, hi110, e111, w⟩ := w
    refine gx_iald (a := ax5) (kk0 := kx5) (len := nx5) (nn := i109) O h79 hi110 gx5 e111 dX9_judge_100 ?_
    refine g_imul O dX9_judge_101 ?_
    refine g_iload O dX9_judge_102 rfl ?_
    refine g_iadd O dX9_judge_104 ?_
    obtain ⟨i112, hi113, e114, w⟩ := w
    refine gx_iald (a := x1) (kk0 := 5) (len := 81) (nn := i112) O (ha_own (lay := 2) (j := 4) (off := 1) (ty := 0) (len := 81) (by decide) h77 rfl (by decide)) hi113 (by decide) e114 dX9_judge_105 ?_
    refine g_if_le (tgt := 113) O w dX9_judge_106 (by decide) (fun w => ?_) (fun w => ?_)
    · refine g_iconst (v := 0) O dX9_judge_113 (by decide) ?_
      exact vjFX9_judge_114 O hRm hN x0 h76 x1 h77 x2 h78 (x3) (x4) (dx5) ax5 kx5 nx5 h79 gx5 (x6) (r75) (0) x0 h76 post xp hk74 hQ kb hkb ke_143 hke_143 w
    · exact vjFX9_judge_109 O hRm hN x0 h76 x1 h77 x2 h78 (x3) (x4) (dx5) ax5 kx5 nx5 h79 gx5 (x6) (r75) x0 h76 post xp hk74 hQ kb hkb ke_143 hke_143 w
set_option maxHeartbeats 4000000 in
theorem vjFX9_judge_51 {X : Cx} {U0 : Nat} (O : Okc X cX9_judge RX9 8 none) (hRm : cxR X = (rFX9_judge U0)) (hN : noTab X) {kc ks U z : Nat} {T L : Nat → Nat} {V : w_V} {P : w_P} (x0 : Nat) (hx0 : T x0 = 8) (x1 : Nat) (hx1 : T x1 = 3) (x2 : Nat) (hx2 : T x2 = 18) (x3 : Int32) (x4 : Int32) (dx5 ax5 kx5 nx5 : Nat) (hx5 : hArr T L dx5 ax5 kx5 nx5 0) (gx5 : nx5 < 2147483648) (x6 : Int32) (t0 : Int32) (t1 : Nat) (ht1 : T t1 = 8) (post : Nat → (Nat → Nat) → (Nat → Nat) → w_V → w_P → Prop) (xp : w_Xp) (hk : kOk (rFX9_judge U0) kc ks U) (hQ : cxMX X (va_Qv (qF0 post) (wdF (cxE X)) (w_A (cxE X))) (xF xp) (rFX9_judge U0).cells (rFX9_judge U0).slots) (kb : Nat → Nat → (Nat → Nat) → (Nat → Nat) → w_V → w_P → Int32 → Prop) (hkb : ∀ (kc ks U z : Nat) (T L : Nat → Nat) (V : w_V) (P : w_P) (y6 : Int32) (_hx0 : T x0 = 8) (_hx1 : T x1 = 3) (_hx2 : T x2 = 18) (_hx5 : hArr T L dx5 ax5 kx5 nx5 0) (_gx5 : nx5 < 2147483648), kOk (rFX9_judge U0) kc ks U → kb U z T L V P y6 → gW X kc ks z T L V P 35 [some (.ref x0), some (.ref x1), some (.ref x2), some (.int x3), some (.int x4), some (.ref dx5), some (.int y6), none] []) (ke_143 : Nat → Nat → (Nat → Nat) → (Nat → Nat) → w_V → w_P → Int32 → Prop) (hke_143 : ∀ (kc ks U z : Nat) (T L : Nat → Nat) (V : w_V) (P : w_P) (y6 : Int32) (_hx1 : T x1 = 3) (_hx2 : T x2 = 18) (_hx5 : hArr T L dx5 ax5 kx5 nx5 0) (_gx5 : nx5 < 2147483648), kOk (rFX9_judge U0) kc ks U → ke_143 U z T L V P y6 → gW X kc ks z T L V P 143 [none, some (.ref x1), some (.ref x2), some (.int x3), some (.int x4), some (.ref dx5), some (.int y6), none] []) (w : jFX9_judge_51 (cxE X).2.2.2.2 U z T L V P x0 x1 x2 x3 x4 dx5 ax5 kx5 nx5 x6 t0 t1 post xp kb ke_143) : gW X kc ks z T L V P 51 [some (.ref x0), some (.ref x1), some (.ref x2), some (.int x3), some (.int x4), some (.ref dx5), some (.int x6), none] [.int t0, .ref t1] := by
  unfold jFX9_judge_51 at w
  refine g_iconst (v := 1) O dX9_judge_51 (by decide) ?_
  obtain ⟨c47, U48, e49, w⟩ := w
  have hk9 := kOk.eq hk e49
  refine g_fv O hN hQ (kOk.fa hk9) (grx_V (lay := 7) (nA := 2) (As := [.int t0, .int 1]) (rest := []) O hRm (kFX9_check _ O.2.2.2.2.2.2.2.2 (cxE X) _ _ _ _ _ _ t1 ht1 (t0) (1) _ xp w) (lw_V q1028 q1030 qs8 q135 q1031) rfl rfl (by decide +kernel) ⟨Nat.le_of_ble_eq_true rfl, Nat.le_of_ble_eq_true rfl⟩ ck7 (by decide) rfl ht1 rfl rfl rfl (Nat.le_of_ble_eq_true rfl) dX9_judge_52 (kOk.fa hk9)) (fun z T L V50 P51 w => ?_)
  have hk52 := kOk.sa hk9
  obtain ⟨h54, h55, h56, h57, w⟩ := w
  refine g_aload_n O dX9_judge_55 rfl ?_
  refine g_iload O dX9_judge_56 rfl ?_
  refine g_bipush (v := 7) O dX9_judge_58 (by decide) ?_
  refine g_icmp_ge (tgt := 67) O w dX9_judge_60 (by decide) (fun w => ?_) (fun w => ?_)
  · refine g_iconst (v := 0) O dX9_judge_67 (by decide) ?_
    exact vjFX9_judge_68 O hRm hN x0 h54 x1 h55 x2 h56 (x3) (x4) (dx5) ax5 kx5 nx5 h57 gx5 (x6) (0) x0 h54 post xp hk52 hQ kb hkb ke_143 hke_143 w
  · refine g_iconst (v := 1) O dX9_judge_63 (by decide) ?_
    refine g_goto (tgt := 68) O dX9_judge_64 (by decide) ?_
    exact vjFX9_judge_68 O hRm hN x0 h54 x1 h55 x2 h56 (x3) (x4) (dx5) ax5 kx5 nx5 h57 gx5 (x6) (1) x0 h54 post xp hk52 hQ kb hkb ke_143 hke_143 w
set_option maxHeartbeats 4000000 in
theorem vlFX9_judge_35 {X : Cx} {U0 : Nat} (O : Okc X cX9_judge RX9 8 none) (hRm : cxR X = (rFX9_judge U0)) (hN : noTab X) (x0 : Nat) (x1 : Nat) (x2 : Nat) (x3 : Int32) (x4 : Int32) (dx5 ax5 kx5 nx5 : Nat) (post : Nat → (Nat → Nat) → (Nat → Nat) → w_V → w_P → Prop) (xp : w_Xp) (hQ : cxMX X (va_Qv (qF0 post) (wdF (cxE X)) (w_A (cxE X))) (xF xp) (rFX9_judge U0).cells (rFX9_judge U0).slots) (ke_143 : Nat → Nat → (Nat → Nat) → (Nat → Nat) → w_V → w_P → Int32 → Prop) (hke_143 : ∀ (kc ks U z : Nat) (T L : Nat → Nat) (V : w_V) (P : w_P) (y6 : Int32) (_hx1 : T x1 = 3) (_hx2 : T x2 = 18) (_hx5 : hArr T L dx5 ax5 kx5 nx5 0) (_gx5 : nx5 < 2147483648), kOk (rFX9_judge U0) kc ks U → ke_143 U z T L V P y6 → gW X kc ks z T L V P 143 [none, some (.ref x1), some (.ref x2), some (.int x3), some (.int x4), some (.ref dx5), some (.int y6), none] []) : ∀ (n kc ks U z : Nat) (T L : Nat → Nat) (V : w_V) (P : w_P) (x6 : Int32) (hx0 : T x0 = 8) (hx1 : T x1 = 3) (hx2 : T x2 = 18) (hx5 : hArr T L dx5 ax5 kx5 nx5 0) (gx5 : nx5 < 2147483648), kOk (rFX9_judge U0) kc ks U → lFX9_judge_35 (cxE X).2.2.2.2 x0 x1 x2 x3 x4 dx5 ax5 kx5 nx5 post xp ke_143 n U z T L V P x6 → gW X kc ks z T L V P 35 [some (.ref x0), some (.ref x1), some (.ref x2), some (.int x3), some (.int x4), some (.ref dx5), some (.int x6), none] [] := by
  intro n
  induction n with
  | zero =>
    intro kc ks U z T L V P x6 hx0 hx1 hx2 hx5 gx5 hk w
    exact w.elim
  | succ n ih =>
    intro kc ks U z T L V P x6 hx0 hx1 hx2 hx5 gx5 hk w
    unfold lFX9_judge_35 at w
    refine g_aload_n O dX9_judge_35 rfl ?_
    refine g_aload_n O dX9_judge_36 rfl ?_
    obtain ⟨b44, hp45, w⟩ := w
    refine gx_getR (lay := 7) (j := 6) O ck7 (by decide) rfl rfl hp45 (by decide) hx0 q988 dX9_judge_37 ?_
    refine gx_getst (i := 6) O rfl q959 dX9_judge_40 ?_
    refine gx_acmp_ne (tgt := 50) O w dX9_judge_43 (by decide) (fun w => ?_) (fun w => ?_)
    · refine g_iconst (v := 0) O dX9_judge_50 (by decide) ?_
      exact vjFX9_judge_51 O hRm hN x0 hx0 x1 hx1 x2 hx2 (x3) (x4) (dx5) ax5 kx5 nx5 hx5 gx5 (x6) (0) x0 hx0 post xp hk hQ (lFX9_judge_35 (cxE X).2.2.2.2 x0 x1 x2 x3 x4 dx5 ax5 kx5 nx5 post xp ke_143 n) ih ke_143 hke_143 w
    · refine g_iconst (v := 1) O dX9_judge_46 (by decide) ?_
      refine g_goto (tgt := 51) O dX9_judge_47 (by decide) ?_
      exact vjFX9_judge_51 O hRm hN x0 hx0 x1 hx1 x2 hx2 (x3) (x4) (dx5) ax5 kx5 nx5 hx5 gx5 (x6) (1) x0 hx0 post xp hk hQ (lFX9_judge_35 (cxE X).2.2.2.2 x0 x1 x2 x3 x4 dx5 ax5 kx5 nx5 post xp ke_143 n) ih ke_143 hke_143 w
set_option maxHeartbeats 4000000 in
theorem vjFX9_judge_224 {X : Cx} {U0 : Nat} (O : Okc X cX9_judge RX9 8 none) (hRm : cxR X = (rFX9_judge U0)) (hN : noTab X) {kc ks U z : Nat} {T L : Nat → Nat} {V : w_V} {P : w_P} (t0 : Nat) (ht0 : jT T t0) (t1 : Nat) (ht1 : T t1 = 16) (post : Nat → (Nat → Nat) → (Nat → Nat) → w_V → w_P → Prop) (xp : w_Xp) (hk : kOk (rFX9_judge U0) kc ks U) (hQ : cxMX X (va_Qv (qF0 post) (wdF (cxE X)) (w_A (cxE X))) (xF xp) (rFX9_judge U0).cells (rFX9_judge U0).slots) (w : jFX9_judge_224 (cxE X).2.2.2.2 U z T L V P t0 t1 post xp) : gW X kc ks z T L V P 224 [none, none, none, none, none, none, none, none] [.ref t0, .ref t1] := by
  unfold jFX9_judge_224 at w
  obtain ⟨c178, U179, e180, w⟩ := w
  have hk9 := kOk.eq hk e180
  refine g_mi (gr_V (lay := 15) (nA := 1) (As := [.ref t0]) (rest := []) O hRm (kFJ2_add _ O.2.2.2.2.2.2.2.2 (cxE X) _ _ _ _ _ _ t1 ht1 t0 _ w) (lw_V q1201 q643 q644 q110 q645) rfl rfl (by decide +kernel) ⟨Nat.le_of_ble_eq_true rfl, Nat.le_of_ble_eq_true rfl⟩ ck15 (by decide) rfl ht1 rfl rfl rfl (Nat.le_of_ble_eq_true rfl) dX9_judge_224 (kOk.fa hk9)) (fun r184 z T L V181 P182 w => ?_)
  have hk183 := kOk.sa hk9
  refine g_pop O dX9_judge_227 rfl ?_
  exact gt_vret (f := fun u => u) (u := (z, T, L, V181, P182)) O hQ (kOk.m hk183) rfl w dX9_judge_228
set_option maxHeartbeats 4000000 in
theorem kFX9_judge (l : Launch) (hfl : l.flags = flags0) (E : w_E) (U0 z : Nat) (T L : Nat → Nat) (V : w_V) (P : w_P) (t : Nat) (hT : T t = 8) (x1 : Nat) (hx1 : T x1 = 3) (post : Nat → (Nat → Nat) → (Nat → Nat) → w_V → w_P → Prop) (xp : w_Xp) (w : wFX9_judge E.2.2.2.2 U0 z T L V P t x1 post xp) : vx_Met l yX9_judge (ws_ yX9_judge cX9_judge 8 none) (rFX9_judge U0) (va_Pc [.ref t, .ref x1] (fun U => kenv E U ∧ wdW E (z, T, L, V, P) U.heap)) (va_Qv (qF0 post) (wdF E) (w_A E)) (xcX E (xF xp)) (8 * U0) (32 * U0) (w_A E) := by
  refine g_startF (w := (z, T, L, V, P)) hfl (by decide +kernel) rfl [some (.ref t), some (.ref x1), none, none, none, none, none, none] rfl (fun _ h => h) (Nat.le_of_ble_eq_true rfl) (fun X hl hRm hEe O hN hI hQ => ?_)
  subst hl
  subst hEe
  have hk : kOk (rFX9_judge U0) 0 0 U0 := ⟨by show 0 + 8 * U0 ≤ 8 * U0; omega, by show 0 + 32 * U0 ≤ 32 * U0; omega⟩
  unfold wFX9_judge at w
  refine g_aload_n O dX9_judge_0 rfl ?_
  obtain ⟨b1, hp2, ht3, w⟩ := w
  refine gx_getR (lay := 7) (j := 7) O ck7 (by decide) rfl rfl hp2 (by decide) hT q989 dX9_judge_1 ?_
  refine g_astore_n O dX9_judge_4 (Nat.le_of_ble_eq_true rfl) rfl (lv' := [some (.ref t), some (.ref x1), some (.ref b1), none, none, none, none, none]) rfl ?_
  refine g_aload_n O dX9_judge_5 rfl ?_
  obtain ⟨c4, U5, e6, w⟩ := w
  have hk9 := kOk.eq hk e6
  refine g_mv (gr_V (lay := 7) (nA := 0) (As := []) (rest := []) O hRm (kFX9_go _ O.2.2.2.2.2.2.2.2 (cxE X) _ _ _ _ _ _ t hT _ w) (lw_V q915 q917 qs5 q135 q918) rfl rfl (by decide +kernel) ⟨Nat.le_of_ble_eq_true rfl, Nat.le_of_ble_eq_true rfl⟩ ck7 (by decide) rfl hT rfl rfl rfl (Nat.le_of_ble_eq_true rfl) dX9_judge_6 (kOk.fa hk9)) (fun z T L V7 P8 w => ?_)
  have hk9 := kOk.sa hk9
  obtain ⟨h11, h12, h13, w⟩ := w
  refine g_aload_n O dX9_judge_9 rfl ?_
  refine g_iconst (v := 0) O dX9_judge_10 (by decide) ?_
  refine g_bipush (v := 60) O dX9_judge_11 (by decide) ?_
  obtain ⟨c14, U15, e16, w⟩ := w
  have hk9 := kOk.eq hk9 e16
  refine g_fi O hN hQ (kOk.fa hk9) (grx_V (lay := 7) (nA := 2) (As := [.int 0, .int 60]) (rest := []) O hRm (kFX9_number _ O.2.2.2.2.2.2.2.2 (cxE X) _ _ _ _ _ _ t h11 (0) (60) _ xp w) (lw_V q1065 q1067 qs11 q135 q1068) rfl rfl (by decide +kernel) ⟨Nat.le_of_ble_eq_true rfl, Nat.le_of_ble_eq_true rfl⟩ ck7 (by decide) rfl h11 rfl rfl rfl (Nat.le_of_ble_eq_true rfl) dX9_judge_13 (kOk.fa hk9)) (fun r20 z T L V17 P18 w => ?_)
  have hk19 := kOk.sa hk9
  obtain ⟨h21, h22, h23, w⟩ := w
  refine g_istore_n O dX9_judge_16 (Nat.le_of_ble_eq_true rfl) rfl (lv' := [some (.ref t), some (.ref x1), some (.ref b1), some (.int r20), none, none, none, none]) rfl ?_
  refine g_aload_n O dX9_judge_17 rfl ?_
  refine g_iconst (v := 0) O dX9_judge_18 (by decide) ?_
  refine g_bipush (v := 9) O dX9_judge_19 (by decide) ?_
  obtain ⟨c24, U25, e26, w⟩ := w
  have hk9 := kOk.eq hk19 e26
  refine g_fi O hN hQ (kOk.fa hk9) (grx_V (lay := 7) (nA := 2) (As := [.int 0, .int 9]) (rest := []) O hRm (kFX9_number _ O.2.2.2.2.2.2.2.2 (cxE X) _ _ _ _ _ _ t h21 (0) (9) _ xp w) (lw_V q1065 q1067 qs11 q135 q1068) rfl rfl (by decide +kernel) ⟨Nat.le_of_ble_eq_true rfl, Nat.le_of_ble_eq_true rfl⟩ ck7 (by decide) rfl h21 rfl rfl rfl (Nat.le_of_ble_eq_true rfl) dX9_judge_21 (kOk.fa hk9)) (fun r30 z T L V27 P28 w => ?_)
  have hk29 := kOk.sa hk9
  obtain ⟨h31, h32, h33, w⟩ := w
  refine g_istore O dX9_judge_24 (Nat.le_of_ble_eq_true rfl) rfl (lv' := [some (.ref t), some (.ref x1), some (.ref b1), some (.int r20), some (.int r30), none, none, none]) rfl ?_
  refine g_bipush (v := 7) O dX9_judge_26 (by decide) ?_
  obtain ⟨U39, e40, w⟩ := w
  have hk9 := kOk.eq hk29 e40
  refine gq_newI (N := 7) (u := 1) O hRm q249 rfl (by decide) hk9 (by decide) (by decide) dX9_judge_28 (fun o34 z T L V35 P36 hk37 hn38 => ?_)
  replace w := w o34 z T L V35 P36 hn38
  obtain ⟨h41, h42, h43, w⟩ := w
  refine g_astore O dX9_judge_30 (Nat.le_of_ble_eq_true rfl) rfl (lv' := [some (.ref t), some (.ref x1), some (.ref b1), some (.int r20), some (.int r30), some (.ref o34), none, none]) rfl ?_
  refine g_iconst (v := 0) O dX9_judge_32 (by decide) ?_
  refine g_istore O dX9_judge_33 (Nat.le_of_ble_eq_true rfl) rfl (lv' := [some (.ref t), some (.ref x1), some (.ref b1), some (.int r20), some (.int r30), some (.ref o34), some (.int 0), none]) rfl ?_
  obtain ⟨n226, w⟩ := w
  refine vlFX9_judge_35 O hRm hN t x1 b1 (r20) (r30) (o34) o34 0 7 post xp hQ _ (fun kc ks U117 z T L V115 P116 y125 h119 h120 h123 g124 hk118 w => ?_) n226 _ _ _ _ _ _ _ _ (0) h41 h42 h43 (hn38.a (by decide)) (by omega) hk37 w
  refine g_iload O dX9_judge_143 rfl ?_
  obtain ⟨n126, u221, U132, e222, e223, e224, e225, e133, w⟩ := w
  have hk9 := kOk.eq hk118 e133
  refine gq_newI O hRm q249 e222 e223 hk9 e224 e225 dX9_judge_145 (fun o127 z T L V128 P129 hk130 hn131 => ?_)
  replace w := w o127 z T L V128 P129 hn131
  obtain ⟨h134, h135, h136, w⟩ := w
  refine g_astore O dX9_judge_147 (Nat.le_of_ble_eq_true rfl) rfl (lv' := [none, some (.ref x1), some (.ref b1), some (.int r20), some (.int r30), some (.ref o34), some (.int y125), some (.ref o127)]) rfl ?_
  refine g_aload O dX9_judge_149 rfl ?_
  refine g_iconst (v := 0) O dX9_judge_151 (by decide) ?_
  refine g_aload O dX9_judge_152 rfl ?_
  refine g_iconst (v := 0) O dX9_judge_154 (by decide) ?_
  refine g_iload O dX9_judge_155 rfl ?_
  obtain ⟨i137, j138, m139, e140, e141, e142, h143, h144, hf145, w⟩ := w
  refine gx_copy (a0 := o34) (k0 := 0) (n0 := 7) (a1 := o127) (k1 := 0) (n1 := n126) (ty := 0) (sp := i137) (dp := j138) (nn := m139) (fty := .int) O hRm q1209 h136 (hn131.a (by decide)) rfl rfl e140 e141 e142 h143 h144 g124 (by omega) hf145 (Nat.le_of_ble_eq_true rfl) (Nat.le_of_ble_eq_true rfl) rfl dX9_judge_157 ?_
  refine g_nV w (fun V146 w _ => ?_)
  refine g_aload_n O dX9_judge_160 rfl ?_
  obtain ⟨b147, hp148, ht149, w⟩ := w
  refine gx_getRN (lay := 2) (j := 6) O ck2 (by decide) rfl rfl hp148 (by decide) h134 q542 dX9_judge_161 ?_
  refine g_aload_n O dX9_judge_164 rfl ?_
  refine gx_ldc (i := 39) (tx := [100, 101, 97, 102]) O rfl rfl dX9_judge_165 (fun s150 hs151 hz => ?_)
  replace w := w s150 hz
  refine g_ri0 (gr_V (lay := 17) (nA := 1) (As := [.ref s150]) (rest := [.ref b147]) O hRm (kJ9m_equals _ O.2.2.2.2.2.2.2.2 _ _ _ _ _ _ b1 h135 s150 [100, 101, 97, 102] hs151 _ w) (lw_V q1021 q1022 q1023 q117 q1024) rfl rfl (by decide +kernel) ⟨Nat.le_of_ble_eq_true rfl, Nat.le_of_ble_eq_true rfl⟩ ck17 (by decide) rfl h135 rfl rfl rfl (Nat.le_of_ble_eq_true rfl) dX9_judge_167 (kOk.f0 hk130)) (fun r152 w => ?_)
  have hk130 := kOk.s0 hk130
  refine g_if_eq (tgt := 188) O w dX9_judge_170 (by decide) (fun w => ?_) (fun w => ?_)
  · refine g_aload_n O dX9_judge_188 rfl ?_
    refine gx_ldc (i := 40) (tx := [119, 105, 115, 101]) O rfl rfl dX9_judge_189 (fun s155 hs156 hz => ?_)
    replace w := w s155 hz
    refine g_ri0 (gr_V (lay := 17) (nA := 1) (As := [.ref s155]) (rest := [.ref b147]) O hRm (kJ9m_equals _ O.2.2.2.2.2.2.2.2 _ _ _ _ _ _ b1 h135 s155 [119, 105, 115, 101] hs156 _ w) (lw_V q1021 q1022 q1023 q117 q1024) rfl rfl (by decide +kernel) ⟨Nat.le_of_ble_eq_true rfl, Nat.le_of_ble_eq_true rfl⟩ ck17 (by decide) rfl h135 rfl rfl rfl (Nat.le_of_ble_eq_true rfl) dX9_judge_191 (kOk.f0 hk130)) (fun r157 w => ?_)
    have hk130 := kOk.s0 hk130
    refine g_if_eq (tgt := 212) O w dX9_judge_194 (by decide) (fun w => ?_) (fun w => ?_)
    · obtain ⟨U165, e166, w⟩ := w
      have hk9 := kOk.eq hk130 e166
      refine gq_new (lay := 12) (u := 1) O hRm ck12 (by decide) rfl (by decide +kernel) q1242 q1243 q143 hk9 (by decide) (by decide) dX9_judge_212 (fun o160 z T L V161 P162 hk163 hn164 => ?_)
      replace w := w o160 z T L V161 P162 hn164
      obtain ⟨h167, h168, w⟩ := w
      refine g_dup O dX9_judge_215 rfl ?_
      refine g_iload_n O dX9_judge_216 rfl ?_
      refine g_iload O dX9_judge_217 rfl ?_
      refine g_aload O dX9_judge_219 rfl ?_
      obtain ⟨c169, U170, e171, w⟩ := w
      have hk9 := kOk.eq hk163 e171
      refine g_mv (gr_I (nA := 3) (As := [.int r20, .int r30, .ref o127]) (rest := [.ref o160, .ref b147]) O hRm (kFX16_init _ O.2.2.2.2.2.2.2.2 (cxE X) _ _ _ _ _ _ o160 (Or.inl hn164.t) (r20) (r30) (o127) o127 0 n126 h168 (by omega) _ w) (lw_meth q1217) q1244 q1216 q143 rfl rfl rfl (by decide +kernel) ⟨Nat.le_of_ble_eq_true rfl, Nat.le_of_ble_eq_true rfl⟩ rfl rfl rfl (Nat.le_of_ble_eq_true rfl) dX9_judge_221 (kOk.fa hk9)) (fun z T L V172 P173 w => ?_)
      have hk174 := kOk.sa hk9
      obtain ⟨h176, h177, w⟩ := w
      refine g_drop [1, 2, 3, 4, 5, 6, 7] (lv' := [none, none, none, none, none, none, none, none]) rfl ?_
      exact vjFX9_judge_224 O hRm hN o160 (Or.inl h176) b147 h177 post xp hk174 hQ w
    · obtain ⟨U190, e191, w⟩ := w
      have hk9 := kOk.eq hk130 e191
      refine gq_new (lay := 14) (u := 1) O hRm ck14 (by decide) rfl (by decide +kernel) q1232 q1233 q145 hk9 (by decide) (by decide) dX9_judge_197 (fun o185 z T L V186 P187 hk188 hn189 => ?_)
      replace w := w o185 z T L V186 P187 hn189
      obtain ⟨h192, h193, w⟩ := w
      refine g_dup O dX9_judge_200 rfl ?_
      refine g_iload_n O dX9_judge_201 rfl ?_
      refine g_iload O dX9_judge_202 rfl ?_
      refine g_aload O dX9_judge_204 rfl ?_
      obtain ⟨c194, U195, e196, w⟩ := w
      have hk9 := kOk.eq hk188 e196
      refine g_mv (gr_I (nA := 3) (As := [.int r20, .int r30, .ref o127]) (rest := [.ref o185, .ref b147]) O hRm (kFX18_init _ O.2.2.2.2.2.2.2.2 (cxE X) _ _ _ _ _ _ o185 hn189.t (r20) (r30) (o127) o127 0 n126 h193 (by omega) _ w) (lw_meth q1236) q1234 q1235 q145 rfl rfl rfl (by decide +kernel) ⟨Nat.le_of_ble_eq_true rfl, Nat.le_of_ble_eq_true rfl⟩ rfl rfl rfl (Nat.le_of_ble_eq_true rfl) dX9_judge_206 (kOk.fa hk9)) (fun z T L V197 P198 w => ?_)
      have hk199 := kOk.sa hk9
      obtain ⟨h201, h202, w⟩ := w
      refine g_goto (tgt := 224) O dX9_judge_209 (by decide) ?_
      refine g_drop [1, 2, 3, 4, 5, 6, 7] (lv' := [none, none, none, none, none, none, none, none]) rfl ?_
      exact vjFX9_judge_224 O hRm hN o185 (Or.inr (Or.inr h201)) b147 h202 post xp hk199 hQ w
  · obtain ⟨U208, e209, w⟩ := w
    have hk9 := kOk.eq hk130 e209
    refine gq_new (lay := 13) (u := 1) O hRm ck13 (by decide) rfl (by decide +kernel) q1210 q1211 q144 hk9 (by decide) (by decide) dX9_judge_173 (fun o203 z T L V204 P205 hk206 hn207 => ?_)
    replace w := w o203 z T L V204 P205 hn207
    obtain ⟨h210, h211, w⟩ := w
    refine g_dup O dX9_judge_176 rfl ?_
    refine g_iload_n O dX9_judge_177 rfl ?_
    refine g_iload O dX9_judge_178 rfl ?_
    refine g_aload O dX9_judge_180 rfl ?_
    obtain ⟨c212, U213, e214, w⟩ := w
    have hk9 := kOk.eq hk206 e214
    refine g_mv (gr_I (nA := 3) (As := [.int r20, .int r30, .ref o127]) (rest := [.ref o203, .ref b147]) O hRm (kFX17_init _ O.2.2.2.2.2.2.2.2 (cxE X) _ _ _ _ _ _ o203 hn207.t (r20) (r30) (o127) o127 0 n126 h211 (by omega) _ w) (lw_meth q1214) q1212 q1213 q144 rfl rfl rfl (by decide +kernel) ⟨Nat.le_of_ble_eq_true rfl, Nat.le_of_ble_eq_true rfl⟩ rfl rfl rfl (Nat.le_of_ble_eq_true rfl) dX9_judge_182 (kOk.fa hk9)) (fun z T L V215 P216 w => ?_)
    have hk217 := kOk.sa hk9
    obtain ⟨h219, h220, w⟩ := w
    refine g_goto (tgt := 224) O dX9_judge_185 (by decide) ?_
    refine g_drop [1, 2, 3, 4, 5, 6, 7] (lv' := [none, none, none, none, none, none, none, none]) rfl ?_
    exact vjFX9_judge_224 O hRm hN o203 (Or.inr (Or.inl h219)) b147 h220 post xp hk217 hQ w
-- X9_cause
abbrev rFX9_cause (U0 : Nat) : Room := { frames := 10, cells := 8 * U0, slots := 32 * U0, locals := 237 }
set_option maxHeartbeats 4000000 in
theorem vlFX9_cause_7 {X : Cx} {U0 : Nat} (O : Okc X cX9_cause RX9 5 none) (hRm : cxR X = (rFX9_cause U0)) (hN : noTab X) (x0 : Nat) (x1 : Nat) (dx2 ax2 kx2 nx2 : Nat) (post : Nat → (Nat → Nat) → (Nat → Nat) → w_V → w_P → Prop) (xp : w_Xp) (hQ : cxMX X (va_Qv (qF0 post) (wdF (cxE X)) (w_A (cxE X))) (xF xp) (rFX9_cause U0).cells (rFX9_cause U0).slots) (ke_23 : Nat → Nat → (Nat → Nat) → (Nat → Nat) → w_V → w_P → Prop) (hke_23 : ∀ (kc ks U z : Nat) (T L : Nat → Nat) (V : w_V) (P : w_P) (_hx0 : T x0 = 8) (_hx1 : T x1 = 3) (_hx2 : hArr T L dx2 ax2 kx2 nx2 0) (_gx2 : nx2 < 2147483648), kOk (rFX9_cause U0) kc ks U → ke_23 U z T L V P → gW X kc ks z T L V P 23 [some (.ref x0), some (.ref x1), some (.ref dx2), none, none] []) : ∀ (n kc ks U z : Nat) (T L : Nat → Nat) (V : w_V) (P : w_P) (x3 : Int32) (hx0 : T x0 = 8) (hx1 : T x1 = 3) (hx2 : hArr T L dx2 ax2 kx2 nx2 0) (gx2 : nx2 < 2147483648), kOk (rFX9_cause U0) kc ks U → lFX9_cause_7 (cxE X).2.2.2.2 x0 x1 dx2 ax2 kx2 nx2 post xp ke_23 n U z T L V P x3 → gW X kc ks z T L V P 7 [some (.ref x0), some (.ref x1), some (.ref dx2), some (.int x3), none] [] := by
  intro n
  induction n with
  | zero =>
    intro kc ks U z T L V P x3 hx0 hx1 hx2 gx2 hk w
    exact w.elim
  | succ n ih =>
    intro kc ks U z T L V P x3 hx0 hx1 hx2 gx2 hk w
    unfold lFX9_cause_7 at w
    refine g_iload_n O dX9_cause_7 rfl ?_
    refine g_bipush (v := 9) O dX9_cause_8 (by decide) ?_
    refine g_icmp_ge (tgt := 23) O w dX9_cause_10 (by decide) (fun w => ?_) (fun w => ?_)
    · refine g_drop [3] (lv' := [some (.ref x0), some (.ref x1), some (.ref dx2), none, none]) rfl ?_
      exact hke_23 _ _ _ _ _ _ _ _ hx0 hx1 hx2 gx2 hk w
    · refine g_aload_n O dX9_cause_13 rfl ?_
      refine g_iload_n O dX9_cause_14 rfl ?_
      refine g_iconst (v := (-1)) O dX9_cause_15 (by decide) ?_
      obtain ⟨i10, hi11, e12, w⟩ := w
      refine gx_iast (a := ax2) (kk0 := kx2) (len := nx2) (nn := i10) O hx2 hi11 gx2 e12 dX9_cause_16 ?_
      refine g_nV w (fun V13 w _ => ?_)
      refine g_iinc (v := (x3 + 1)) O dX9_cause_17 rfl rfl rfl (lv' := [some (.ref x0), some (.ref x1), some (.ref dx2), some (.int (x3 + 1)), none]) rfl ?_
      refine g_goto (tgt := 7) O dX9_cause_20 (by decide) ?_
      exact ih _ _ _ _ _ _ _ _ ((x3 + 1)) hx0 hx1 hx2 gx2 hk w
set_option maxHeartbeats 4000000 in
theorem vjFX9_cause_85 {X : Cx} {U0 : Nat} (O : Okc X cX9_cause RX9 5 none) (hRm : cxR X = (rFX9_cause U0)) (hN : noTab X) {kc ks U z : Nat} {T L : Nat → Nat} {V : w_V} {P : w_P} (x0 : Nat) (hx0 : T x0 = 8) (x1 : Nat) (hx1 : T x1 = 3) (dx2 ax2 kx2 nx2 : Nat) (hx2 : hArr T L dx2 ax2 kx2 nx2 0) (gx2 : nx2 < 2147483648) (x3 : Int32) (x4 : Int32) (t0 : Int32) (t1 : Nat) (ht1 : T t1 = 8) (post : Nat → (Nat → Nat) → (Nat → Nat) → w_V → w_P → Prop) (xp : w_Xp) (hk : kOk (rFX9_cause U0) kc ks U) (hQ : cxMX X (va_Qv (qF0 post) (wdF (cxE X)) (w_A (cxE X))) (xF xp) (rFX9_cause U0).cells (rFX9_cause U0).slots) (kb : Nat → Nat → (Nat → Nat) → (Nat → Nat) → w_V → w_P → Int32 → Prop) (hkb : ∀ (kc ks U z : Nat) (T L : Nat → Nat) (V : w_V) (P : w_P) (y3 : Int32) (_hx0 : T x0 = 8) (_hx1 : T x1 = 3) (_hx2 : hArr T L dx2 ax2 kx2 nx2 0) (_gx2 : nx2 < 2147483648), kOk (rFX9_cause U0) kc ks U → kb U z T L V P y3 → gW X kc ks z T L V P 25 [some (.ref x0), some (.ref x1), some (.ref dx2), some (.int y3), none] []) (ke_117 : Nat → Nat → (Nat → Nat) → (Nat → Nat) → w_V → w_P → Prop) (hke_117 : ∀ (kc ks U z : Nat) (T L : Nat → Nat) (V : w_V) (P : w_P) (_hx1 : T x1 = 3) (_hx2 : hArr T L dx2 ax2 kx2 nx2 0) (_gx2 : nx2 < 2147483648), kOk (rFX9_cause U0) kc ks U → ke_117 U z T L V P → gW X kc ks z T L V P 117 [none, some (.ref x1), some (.ref dx2), none, none] []) (w : jFX9_cause_85 (cxE X).2.2.2.2 U z T L V P x0 x1 dx2 ax2 kx2 nx2 x3 x4 t0 t1 post xp kb ke_117) : gW X kc ks z T L V P 85 [some (.ref x0), some (.ref x1), some (.ref dx2), some (.int x3), some (.int x4)] [.int t0, .ref t1] := by
  unfold jFX9_cause_85 at w
  refine g_iconst (v := 4) O dX9_cause_85 (by decide) ?_
  obtain ⟨c58, U59, e60, w⟩ := w
  have hk9 := kOk.eq hk e60
  refine g_fv O hN hQ (kOk.fa hk9) (grx_V (lay := 7) (nA := 2) (As := [.int t0, .int 4]) (rest := []) O hRm (kFX9_check _ O.2.2.2.2.2.2.2.2 (cxE X) _ _ _ _ _ _ t1 ht1 (t0) (4) _ xp w) (lw_V q1028 q1030 qs8 q135 q1031) rfl rfl (by decide +kernel) ⟨Nat.le_of_ble_eq_true rfl, Nat.le_of_ble_eq_true rfl⟩ ck7 (by decide) rfl ht1 rfl rfl rfl (Nat.le_of_ble_eq_true rfl) dX9_cause_86 (kOk.fa hk9)) (fun z T L V61 P62 w => ?_)
  have hk63 := kOk.sa hk9
  obtain ⟨h65, h66, h67, w⟩ := w
  refine g_aload_n O dX9_cause_89 rfl ?_
  obtain ⟨c68, U69, e70, w⟩ := w
  have hk9 := kOk.eq hk63 e70
  refine g_mv (gr_V (lay := 7) (nA := 0) (As := []) (rest := []) O hRm (kFX9_go _ O.2.2.2.2.2.2.2.2 (cxE X) _ _ _ _ _ _ x0 h65 _ w) (lw_V q915 q917 qs5 q135 q918) rfl rfl (by decide +kernel) ⟨Nat.le_of_ble_eq_true rfl, Nat.le_of_ble_eq_true rfl⟩ ck7 (by decide) rfl h65 rfl rfl rfl (Nat.le_of_ble_eq_true rfl) dX9_cause_90 (kOk.fa hk9)) (fun z T L V71 P72 w => ?_)
  have hk73 := kOk.sa hk9
  obtain ⟨h75, h76, h77, w⟩ := w
  refine g_aload_n O dX9_cause_93 rfl ?_
  refine g_iload O dX9_cause_94 rfl ?_
  refine g_aload_n O dX9_cause_96 rfl ?_
  refine g_iconst (v := 0) O dX9_cause_97 (by decide) ?_
  refine g_bipush (v := 9) O dX9_cause_98 (by decide) ?_
  obtain ⟨c78, U79, e80, w⟩ := w
  have hk9 := kOk.eq hk73 e80
  refine g_fi O hN hQ (kOk.fa hk9) (grx_V (lay := 7) (nA := 2) (As := [.int 0, .int 9]) (rest := [.int x4, .ref dx2]) O hRm (kFX9_number _ O.2.2.2.2.2.2.2.2 (cxE X) _ _ _ _ _ _ x0 h75 (0) (9) _ xp w) (lw_V q1065 q1067 qs11 q135 q1068) rfl rfl (by decide +kernel) ⟨Nat.le_of_ble_eq_true rfl, Nat.le_of_ble_eq_true rfl⟩ ck7 (by decide) rfl h75 rfl rfl rfl (Nat.le_of_ble_eq_true rfl) dX9_cause_100 (kOk.fa hk9)) (fun r84 z T L V81 P82 w => ?_)
  have hk83 := kOk.sa hk9
  obtain ⟨h85, h86, h87, w⟩ := w
  obtain ⟨i88, hi89, e90, w⟩ := w
  refine gx_iast (a := ax2) (kk0 := kx2) (len := nx2) (nn := i88) O h85 hi89 gx2 e90 dX9_cause_103 ?_
  refine g_nV w (fun V91 w _ => ?_)
  refine g_iinc (v := (x3 + 1)) O dX9_cause_104 rfl rfl rfl (lv' := [some (.ref x0), some (.ref x1), some (.ref dx2), some (.int (x3 + 1)), some (.int x4)]) rfl ?_
  refine g_aload_n O dX9_cause_107 rfl ?_
  obtain ⟨b92, hp93, w⟩ := w
  refine gx_getR (lay := 7) (j := 6) O ck7 (by decide) rfl rfl hp93 (by decide) h86 q988 dX9_cause_108 ?_
  refine gx_getst (i := 6) O rfl q959 dX9_cause_111 ?_
  refine gx_acmp_eq (tgt := 25) O w dX9_cause_114 (by decide) (fun w => ?_) (fun w => ?_)
  · refine g_drop [4] (lv' := [some (.ref x0), some (.ref x1), some (.ref dx2), some (.int (x3 + 1)), none]) rfl ?_
    exact hkb _ _ _ _ _ _ _ _ ((x3 + 1)) h86 h87 h85 gx2 hk83 w
  · refine g_drop [0, 3, 4] (lv' := [none, some (.ref x1), some (.ref dx2), none, none]) rfl ?_
    exact hke_117 _ _ _ _ _ _ _ _ h87 h85 gx2 hk83 w
set_option maxHeartbeats 4000000 in
theorem vjFX9_cause_57 {X : Cx} {U0 : Nat} (O : Okc X cX9_cause RX9 5 none) (hRm : cxR X = (rFX9_cause U0)) (hN : noTab X) {kc ks U z : Nat} {T L : Nat → Nat} {V : w_V} {P : w_P} (x0 : Nat) (hx0 : T x0 = 8) (x1 : Nat) (hx1 : T x1 = 3) (dx2 ax2 kx2 nx2 : Nat) (hx2 : hArr T L dx2 ax2 kx2 nx2 0) (gx2 : nx2 < 2147483648) (x3 : Int32) (t0 : Int32) (t1 : Nat) (ht1 : T t1 = 8) (post : Nat → (Nat → Nat) → (Nat → Nat) → w_V → w_P → Prop) (xp : w_Xp) (hk : kOk (rFX9_cause U0) kc ks U) (hQ : cxMX X (va_Qv (qF0 post) (wdF (cxE X)) (w_A (cxE X))) (xF xp) (rFX9_cause U0).cells (rFX9_cause U0).slots) (kb : Nat → Nat → (Nat → Nat) → (Nat → Nat) → w_V → w_P → Int32 → Prop) (hkb : ∀ (kc ks U z : Nat) (T L : Nat → Nat) (V : w_V) (P : w_P) (y3 : Int32) (_hx0 : T x0 = 8) (_hx1 : T x1 = 3) (_hx2 : hArr T L dx2 ax2 kx2 nx2 0) (_gx2 : nx2 < 2147483648), kOk (rFX9_cause U0) kc ks U → kb U z T L V P y3 → gW X kc ks z T L V P 25 [some (.ref x0), some (.ref x1), some (.ref dx2), some (.int y3), none] []) (ke_117 : Nat → Nat → (Nat → Nat) → (Nat → Nat) → w_V → w_P → Prop) (hke_117 : ∀ (kc ks U z : Nat) (T L : Nat → Nat) (V : w_V) (P : w_P) (_hx1 : T x1 = 3) (_hx2 : hArr T L dx2 ax2 kx2 nx2 0) (_gx2 : nx2 < 2147483648), kOk (rFX9_cause U0) kc ks U → ke_117 U z T L V P → gW X kc ks z T L V P 117 [none, some (.ref x1), some (.ref dx2), none, none] []) (w : jFX9_cause_57 (cxE X).2.2.2.2 U z T L V P x0 x1 dx2 ax2 kx2 nx2 x3 t0 t1 post xp kb ke_117) : gW X kc ks z T L V P 57 [some (.ref x0), some (.ref x1), some (.ref dx2), some (.int x3), none] [.int t0, .ref t1] := by
  unfold jFX9_cause_57 at w
  refine g_iconst (v := 2) O dX9_cause_57 (by decide) ?_
  obtain ⟨c35, U36, e37, w⟩ := w
  have hk9 := kOk.eq hk e37
  refine g_fv O hN hQ (kOk.fa hk9) (grx_V (lay := 7) (nA := 2) (As := [.int t0, .int 2]) (rest := []) O hRm (kFX9_check _ O.2.2.2.2.2.2.2.2 (cxE X) _ _ _ _ _ _ t1 ht1 (t0) (2) _ xp w) (lw_V q1028 q1030 qs8 q135 q1031) rfl rfl (by decide +kernel) ⟨Nat.le_of_ble_eq_true rfl, Nat.le_of_ble_eq_true rfl⟩ ck7 (by decide) rfl ht1 rfl rfl rfl (Nat.le_of_ble_eq_true rfl) dX9_cause_58 (kOk.fa hk9)) (fun z T L V38 P39 w => ?_)
  have hk40 := kOk.sa hk9
  obtain ⟨h42, h43, h44, w⟩ := w
  refine g_aload_n O dX9_cause_61 rfl ?_
  refine g_aload_n O dX9_cause_62 rfl ?_
  refine gx_getIN (lay := 2) (j := 0) O ck2 (by decide) rfl rfl (by decide) h43 q526 dX9_cause_63 ?_
  obtain ⟨c45, U46, e47, w⟩ := w
  have hk9 := kOk.eq hk40 e47
  refine g_fi O hN hQ (kOk.fa hk9) (grx_V (lay := 7) (nA := 1) (As := [.int (V38 x1 0 0)]) (rest := []) O hRm (kFX9_amongHere _ O.2.2.2.2.2.2.2.2 (cxE X) _ _ _ _ _ _ x0 h42 ((V38 x1 0 0)) _ xp w) (lw_V q1061 q1063 qs10 q135 q1064) rfl rfl (by decide +kernel) ⟨Nat.le_of_ble_eq_true rfl, Nat.le_of_ble_eq_true rfl⟩ ck7 (by decide) rfl h42 rfl rfl rfl (Nat.le_of_ble_eq_true rfl) dX9_cause_66 (kOk.fa hk9)) (fun r51 z T L V48 P49 w => ?_)
  have hk50 := kOk.sa hk9
  obtain ⟨h52, h53, h54, w⟩ := w
  refine g_istore O dX9_cause_69 (Nat.le_of_ble_eq_true rfl) rfl (lv' := [some (.ref x0), some (.ref x1), some (.ref dx2), some (.int x3), some (.int r51)]) rfl ?_
  refine g_aload_n O dX9_cause_71 rfl ?_
  refine g_aload_n O dX9_cause_72 rfl ?_
  refine g_iload O dX9_cause_73 rfl ?_
  obtain ⟨i55, hi56, e57, w⟩ := w
  refine gx_iald (a := ax2) (kk0 := kx2) (len := nx2) (nn := i55) O h54 hi56 gx2 e57 dX9_cause_75 ?_
  refine g_iconst (v := (-1)) O dX9_cause_76 (by decide) ?_
  refine g_icmp_ne (tgt := 84) O w dX9_cause_77 (by decide) (fun w => ?_) (fun w => ?_)
  · refine g_iconst (v := 0) O dX9_cause_84 (by decide) ?_
    exact vjFX9_cause_85 O hRm hN x0 h52 x1 h53 (dx2) ax2 kx2 nx2 h54 gx2 (x3) (r51) (0) x0 h52 post xp hk50 hQ kb hkb ke_117 hke_117 w
  · refine g_iconst (v := 1) O dX9_cause_80 (by decide) ?_
    refine g_goto (tgt := 85) O dX9_cause_81 (by decide) ?_
    exact vjFX9_cause_85 O hRm hN x0 h52 x1 h53 (dx2) ax2 kx2 nx2 h54 gx2 (x3) (r51) (1) x0 h52 post xp hk50 hQ kb hkb ke_117 hke_117 w
set_option maxHeartbeats 4000000 in
theorem vjFX9_cause_41 {X : Cx} {U0 : Nat} (O : Okc X cX9_cause RX9 5 none) (hRm : cxR X = (rFX9_cause U0)) (hN : noTab X) {kc ks U z : Nat} {T L : Nat → Nat} {V : w_V} {P : w_P} (x0 : Nat) (hx0 : T x0 = 8) (x1 : Nat) (hx1 : T x1 = 3) (dx2 ax2 kx2 nx2 : Nat) (hx2 : hArr T L dx2 ax2 kx2 nx2 0) (gx2 : nx2 < 2147483648) (x3 : Int32) (t0 : Int32) (t1 : Nat) (ht1 : T t1 = 8) (post : Nat → (Nat → Nat) → (Nat → Nat) → w_V → w_P → Prop) (xp : w_Xp) (hk : kOk (rFX9_cause U0) kc ks U) (hQ : cxMX X (va_Qv (qF0 post) (wdF (cxE X)) (w_A (cxE X))) (xF xp) (rFX9_cause U0).cells (rFX9_cause U0).slots) (kb : Nat → Nat → (Nat → Nat) → (Nat → Nat) → w_V → w_P → Int32 → Prop) (hkb : ∀ (kc ks U z : Nat) (T L : Nat → Nat) (V : w_V) (P : w_P) (y3 : Int32) (_hx0 : T x0 = 8) (_hx1 : T x1 = 3) (_hx2 : hArr T L dx2 ax2 kx2 nx2 0) (_gx2 : nx2 < 2147483648), kOk (rFX9_cause U0) kc ks U → kb U z T L V P y3 → gW X kc ks z T L V P 25 [some (.ref x0), some (.ref x1), some (.ref dx2), some (.int y3), none] []) (ke_117 : Nat → Nat → (Nat → Nat) → (Nat → Nat) → w_V → w_P → Prop) (hke_117 : ∀ (kc ks U z : Nat) (T L : Nat → Nat) (V : w_V) (P : w_P) (_hx1 : T x1 = 3) (_hx2 : hArr T L dx2 ax2 kx2 nx2 0) (_gx2 : nx2 < 2147483648), kOk (rFX9_cause U0) kc ks U → ke_117 U z T L V P → gW X kc ks z T L V P 117 [none, some (.ref x1), some (.ref dx2), none, none] []) (w : jFX9_cause_41 (cxE X).2.2.2.2 U z T L V P x0 x1 dx2 ax2 kx2 nx2 x3 t0 t1 post xp kb ke_117) : gW X kc ks z T L V P 41 [some (.ref x0), some (.ref x1), some (.ref dx2), some (.int x3), none] [.int t0, .ref t1] := by
  unfold jFX9_cause_41 at w
  refine g_iconst (v := 1) O dX9_cause_41 (by decide) ?_
  obtain ⟨c25, U26, e27, w⟩ := w
  have hk9 := kOk.eq hk e27
  refine g_fv O hN hQ (kOk.fa hk9) (grx_V (lay := 7) (nA := 2) (As := [.int t0, .int 1]) (rest := []) O hRm (kFX9_check _ O.2.2.2.2.2.2.2.2 (cxE X) _ _ _ _ _ _ t1 ht1 (t0) (1) _ xp w) (lw_V q1028 q1030 qs8 q135 q1031) rfl rfl (by decide +kernel) ⟨Nat.le_of_ble_eq_true rfl, Nat.le_of_ble_eq_true rfl⟩ ck7 (by decide) rfl ht1 rfl rfl rfl (Nat.le_of_ble_eq_true rfl) dX9_cause_42 (kOk.fa hk9)) (fun z T L V28 P29 w => ?_)
  have hk30 := kOk.sa hk9
  obtain ⟨h32, h33, h34, w⟩ := w
  refine g_aload_n O dX9_cause_45 rfl ?_
  refine g_iload_n O dX9_cause_46 rfl ?_
  refine g_bipush (v := 6) O dX9_cause_47 (by decide) ?_
  refine g_icmp_ge (tgt := 56) O w dX9_cause_49 (by decide) (fun w => ?_) (fun w => ?_)
  · refine g_iconst (v := 0) O dX9_cause_56 (by decide) ?_
    exact vjFX9_cause_57 O hRm hN x0 h32 x1 h33 (dx2) ax2 kx2 nx2 h34 gx2 (x3) (0) x0 h32 post xp hk30 hQ kb hkb ke_117 hke_117 w
  · refine g_iconst (v := 1) O dX9_cause_52 (by decide) ?_
    refine g_goto (tgt := 57) O dX9_cause_53 (by decide) ?_
    exact vjFX9_cause_57 O hRm hN x0 h32 x1 h33 (dx2) ax2 kx2 nx2 h34 gx2 (x3) (1) x0 h32 post xp hk30 hQ kb hkb ke_117 hke_117 w
set_option maxHeartbeats 4000000 in
theorem vlFX9_cause_25 {X : Cx} {U0 : Nat} (O : Okc X cX9_cause RX9 5 none) (hRm : cxR X = (rFX9_cause U0)) (hN : noTab X) (x0 : Nat) (x1 : Nat) (dx2 ax2 kx2 nx2 : Nat) (post : Nat → (Nat → Nat) → (Nat → Nat) → w_V → w_P → Prop) (xp : w_Xp) (hQ : cxMX X (va_Qv (qF0 post) (wdF (cxE X)) (w_A (cxE X))) (xF xp) (rFX9_cause U0).cells (rFX9_cause U0).slots) (ke_117 : Nat → Nat → (Nat → Nat) → (Nat → Nat) → w_V → w_P → Prop) (hke_117 : ∀ (kc ks U z : Nat) (T L : Nat → Nat) (V : w_V) (P : w_P) (_hx1 : T x1 = 3) (_hx2 : hArr T L dx2 ax2 kx2 nx2 0) (_gx2 : nx2 < 2147483648), kOk (rFX9_cause U0) kc ks U → ke_117 U z T L V P → gW X kc ks z T L V P 117 [none, some (.ref x1), some (.ref dx2), none, none] []) : ∀ (n kc ks U z : Nat) (T L : Nat → Nat) (V : w_V) (P : w_P) (x3 : Int32) (hx0 : T x0 = 8) (hx1 : T x1 = 3) (hx2 : hArr T L dx2 ax2 kx2 nx2 0) (gx2 : nx2 < 2147483648), kOk (rFX9_cause U0) kc ks U → lFX9_cause_25 (cxE X).2.2.2.2 x0 x1 dx2 ax2 kx2 nx2 post xp ke_117 n U z T L V P x3 → gW X kc ks z T L V P 25 [some (.ref x0), some (.ref x1), some (.ref dx2), some (.int x3), none] [] := by
  intro n
  induction n with
  | zero =>
    intro kc ks U z T L V P x3 hx0 hx1 hx2 gx2 hk w
    exact w.elim
  | succ n ih =>
    intro kc ks U z T L V P x3 hx0 hx1 hx2 gx2 hk w
    unfold lFX9_cause_25 at w
    refine g_aload_n O dX9_cause_25 rfl ?_
    refine g_aload_n O dX9_cause_26 rfl ?_
    obtain ⟨b22, hp23, w⟩ := w
    refine gx_getR (lay := 7) (j := 6) O ck7 (by decide) rfl rfl hp23 (by decide) hx0 q988 dX9_cause_27 ?_
    refine gx_getst (i := 6) O rfl q959 dX9_cause_30 ?_
    refine gx_acmp_ne (tgt := 40) O w dX9_cause_33 (by decide) (fun w => ?_) (fun w => ?_)
    · refine g_iconst (v := 0) O dX9_cause_40 (by decide) ?_
      exact vjFX9_cause_41 O hRm hN x0 hx0 x1 hx1 (dx2) ax2 kx2 nx2 hx2 gx2 (x3) (0) x0 hx0 post xp hk hQ (lFX9_cause_25 (cxE X).2.2.2.2 x0 x1 dx2 ax2 kx2 nx2 post xp ke_117 n) ih ke_117 hke_117 w
    · refine g_iconst (v := 1) O dX9_cause_36 (by decide) ?_
      refine g_goto (tgt := 41) O dX9_cause_37 (by decide) ?_
      exact vjFX9_cause_41 O hRm hN x0 hx0 x1 hx1 (dx2) ax2 kx2 nx2 hx2 gx2 (x3) (1) x0 hx0 post xp hk hQ (lFX9_cause_25 (cxE X).2.2.2.2 x0 x1 dx2 ax2 kx2 nx2 post xp ke_117 n) ih ke_117 hke_117 w
set_option maxHeartbeats 4000000 in
theorem kFX9_cause (l : Launch) (hfl : l.flags = flags0) (E : w_E) (U0 z : Nat) (T L : Nat → Nat) (V : w_V) (P : w_P) (t : Nat) (hT : T t = 8) (x1 : Nat) (hx1 : T x1 = 3) (post : Nat → (Nat → Nat) → (Nat → Nat) → w_V → w_P → Prop) (xp : w_Xp) (w : wFX9_cause E.2.2.2.2 U0 z T L V P t x1 post xp) : vx_Met l yX9_cause (ws_ yX9_cause cX9_cause 5 none) (rFX9_cause U0) (va_Pc [.ref t, .ref x1] (fun U => kenv E U ∧ wdW E (z, T, L, V, P) U.heap)) (va_Qv (qF0 post) (wdF E) (w_A E)) (xcX E (xF xp)) (8 * U0) (32 * U0) (w_A E) := by
  refine g_startF (w := (z, T, L, V, P)) hfl (by decide +kernel) rfl [some (.ref t), some (.ref x1), none, none, none] rfl (fun _ h => h) (Nat.le_of_ble_eq_true rfl) (fun X hl hRm hEe O hN hI hQ => ?_)
  subst hl
  subst hEe
  have hk : kOk (rFX9_cause U0) 0 0 U0 := ⟨by show 0 + 8 * U0 ≤ 8 * U0; omega, by show 0 + 32 * U0 ≤ 32 * U0; omega⟩
  unfold wFX9_cause at w
  refine g_bipush (v := 9) O dX9_cause_0 (by decide) ?_
  obtain ⟨U6, e7, w⟩ := w
  have hk9 := kOk.eq hk e7
  refine gq_newI (N := 9) (u := 1) O hRm q249 rfl (by decide) hk9 (by decide) (by decide) dX9_cause_2 (fun o1 z T L V2 P3 hk4 hn5 => ?_)
  replace w := w o1 z T L V2 P3 hn5
  obtain ⟨h8, h9, w⟩ := w
  refine g_astore_n O dX9_cause_4 (Nat.le_of_ble_eq_true rfl) rfl (lv' := [some (.ref t), some (.ref x1), some (.ref o1), none, none]) rfl ?_
  refine g_iconst (v := 0) O dX9_cause_5 (by decide) ?_
  refine g_istore_n O dX9_cause_6 (Nat.le_of_ble_eq_true rfl) rfl (lv' := [some (.ref t), some (.ref x1), some (.ref o1), some (.int 0), none]) rfl ?_
  obtain ⟨n113, w⟩ := w
  refine vlFX9_cause_7 O hRm hN t x1 (o1) o1 0 9 post xp hQ _ (fun kc ks U16 z T L V14 P15 h18 h19 h20 g21 hk17 w => ?_) n113 _ _ _ _ _ _ _ _ (0) h8 h9 (hn5.a (by decide)) (by omega) hk4 w
  refine g_iconst (v := 0) O dX9_cause_23 (by decide) ?_
  refine g_istore_n O dX9_cause_24 (Nat.le_of_ble_eq_true rfl) rfl (lv' := [some (.ref t), some (.ref x1), some (.ref o1), some (.int 0), none]) rfl ?_
  obtain ⟨n112, w⟩ := w
  refine vlFX9_cause_25 O hRm hN t x1 (o1) o1 0 9 post xp hQ _ (fun kc ks U97 z T L V95 P96 h99 h100 g101 hk98 w => ?_) n112 _ _ _ _ _ _ _ _ (0) h18 h19 h20 g21 hk17 w
  refine g_aload_n O dX9_cause_117 rfl ?_
  obtain ⟨b102, hp103, ht104, w⟩ := w
  refine gx_getRN (lay := 2) (j := 7) O ck2 (by decide) rfl rfl hp103 (by decide) h99 q546 dX9_cause_118 ?_
  refine g_aload_n O dX9_cause_121 rfl ?_
  obtain ⟨c105, U106, e107, w⟩ := w
  have hk9 := kOk.eq hk98 e107
  refine g_mi (gr_V (lay := 15) (nA := 1) (As := [.ref o1]) (rest := []) O hRm (kFJ2_add _ O.2.2.2.2.2.2.2.2 (cxE X) _ _ _ _ _ _ b102 ht104 o1 _ w) (lw_V q1201 q643 q644 q110 q645) rfl rfl (by decide +kernel) ⟨Nat.le_of_ble_eq_true rfl, Nat.le_of_ble_eq_true rfl⟩ ck15 (by decide) rfl ht104 rfl rfl rfl (Nat.le_of_ble_eq_true rfl) dX9_cause_122 (kOk.fa hk9)) (fun r111 z T L V108 P109 w => ?_)
  have hk110 := kOk.sa hk9
  refine g_pop O dX9_cause_125 rfl ?_
  exact gt_vret (f := fun u => u) (u := (z, T, L, V108, P109)) O hQ (kOk.m hk110) rfl w dX9_cause_126
def hEF (l : Launch) (E : w_E) (rf rl : Nat) (rE : rEF) : Prop := ∀ (U z : Nat) (T L : Nat → Nat) (V : w_V) (P : w_P) (t : Nat) (hT : T t = 8) (x : Int32) (post : Nat → Nat → (Nat → Nat) → (Nat → Nat) → w_V → w_P → Prop) (xp : w_Xp), rE U z T L V P t x post xp → vx_Met l yX9_expr (ws_ yX9_expr cX9_expr 3 (some (.object "ApartBench$Expr"))) { frames := rf, cells := 8 * U, slots := 32 * U, locals := rl } (va_Pc [.ref t, .int x] (fun U => kenv E U ∧ wdW E (z, T, L, V, P) U.heap)) (va_Qq (qFn post) (wdF E) (w_A E)) (xcX E (xF xp)) (8 * U) (32 * U) (w_A E)
-- X9_part
abbrev rFX9_part (rf rl U0 : Nat) : Room := { frames := rf + 10, cells := 8 * U0, slots := 32 * U0, locals := rl + 237 }
set_option maxHeartbeats 4000000 in
theorem vjFX9_part_94 {X : Cx} {U0 rf rl : Nat} (O : Okc X cX9_part RX9 3 (some (.object "ApartBench$Expr"))) (hRm : cxR X = (rFX9_part rf rl U0)) (hN : noTab X) (rE : rEF) (hE : hEF (cxL X) (cxE X) rf rl rE) {kc ks U z : Nat} {T L : Nat → Nat} {V : w_V} {P : w_P} (x0 : Nat) (hx0 : T x0 = 8) (x2 : Option Nat) (t0 : Int32) (t1 : Nat) (ht1 : T t1 = 8) (post : Nat → Nat → (Nat → Nat) → (Nat → Nat) → w_V → w_P → Prop) (xp : w_Xp) (hk : kOk (rFX9_part rf rl U0) kc ks U) (hQ : cxMX X (va_Qq (qFn post) (wdF (cxE X)) (w_A (cxE X))) (xF xp) (rFX9_part rf rl U0).cells (rFX9_part rf rl U0).slots) (w : jFX9_part_94 (cxE X).2.2.2.2 rE U z T L V P x0 x2 t0 t1 post xp) : gW X kc ks z T L V P 94 [some (.ref x0), none, some (va_rf x2)] [.int t0, .ref t1] := by
  unfold jFX9_part_94 at w
  refine g_iconst (v := 3) O dX9_part_94 (by decide) ?_
  obtain ⟨c28, U29, e30, w⟩ := w
  have hk9 := kOk.eq hk e30
  refine g_fv O hN hQ (kOk.fa hk9) (grx_V (lay := 7) (nA := 2) (As := [.int t0, .int 3]) (rest := []) O hRm (kFX9_check _ O.2.2.2.2.2.2.2.2 (cxE X) _ _ _ _ _ _ t1 ht1 (t0) (3) _ xp w) (lw_V q1028 q1030 qs8 q135 q1031) rfl rfl (by decide +kernel) ⟨(by show 6 + 1 ≤ rf + 10; omega), (by show 8 + (3 + 11) + 92 ≤ rl + 237; omega)⟩ ck7 (by decide) rfl ht1 rfl rfl rfl (Nat.le_of_ble_eq_true rfl) dX9_part_95 (kOk.fa hk9)) (fun z T L V31 P32 w => ?_)
  have hk33 := kOk.sa hk9
  obtain ⟨h35, w⟩ := w
  refine g_aload_n O dX9_part_98 rfl ?_
  obtain ⟨c36, U37, e38, w⟩ := w
  have hk9 := kOk.eq hk33 e38
  refine g_mv (gr_V (lay := 7) (nA := 0) (As := []) (rest := []) O hRm (kFX9_go _ O.2.2.2.2.2.2.2.2 (cxE X) _ _ _ _ _ _ x0 h35 _ w) (lw_V q915 q917 qs5 q135 q918) rfl rfl (by decide +kernel) ⟨(by show 8 + 1 ≤ rf + 10; omega), (by show 8 + (3 + 11) + 192 ≤ rl + 237; omega)⟩ ck7 (by decide) rfl h35 rfl rfl rfl (Nat.le_of_ble_eq_true rfl) dX9_part_99 (kOk.fa hk9)) (fun z T L V39 P40 w => ?_)
  have hk41 := kOk.sa hk9
  obtain ⟨U48, e49, w⟩ := w
  have hk9 := kOk.eq hk41 e49
  refine gq_new (lay := 9) (u := 1) O hRm ck9 (by decide) rfl (by decide +kernel) q1136 q1137 q140 hk9 (by decide) (by decide) dX9_part_102 (fun o43 z T L V44 P45 hk46 hn47 => ?_)
  replace w := w o43 z T L V44 P45 hn47
  refine g_dup O dX9_part_105 rfl ?_
  refine g_aload_nq O dX9_part_106 rfl ?_
  obtain ⟨c50, U51, e52, w⟩ := w
  have hk9 := kOk.eq hk46 e52
  refine g_mv (gr_I (nA := 1) (As := [va_rf x2]) (rest := [.ref o43]) O hRm (kFX13_init _ O.2.2.2.2.2.2.2.2 (cxE X) _ _ _ _ _ _ o43 hn47.t x2 _ w) (lw_meth q1140) q1138 q1139 q140 rfl rfl rfl (by decide +kernel) ⟨(by show 4 + 1 ≤ rf + 10; omega), (by show 8 + (2 + 11) + 80 ≤ rl + 237; omega)⟩ rfl rfl rfl (Nat.le_of_ble_eq_true rfl) dX9_part_107 (kOk.fa hk9)) (fun z T L V53 P54 w => ?_)
  have hk55 := kOk.sa hk9
  obtain ⟨h57, w⟩ := w
  exact gt_aret (r := some o43) (f := fun u => u) (u := (z, T, L, V53, P54)) O hQ (kOk.m hk55) (by first | exact Or.inl ⟨_, rfl⟩ | exact Or.inr ⟨_, rfl⟩) rfl ⟨_, rfl, w⟩ dX9_part_110
set_option maxHeartbeats 4000000 in
theorem vjFX9_part_72 {X : Cx} {U0 rf rl : Nat} (O : Okc X cX9_part RX9 3 (some (.object "ApartBench$Expr"))) (hRm : cxR X = (rFX9_part rf rl U0)) (hN : noTab X) (rE : rEF) (hE : hEF (cxL X) (cxE X) rf rl rE) {kc ks U z : Nat} {T L : Nat → Nat} {V : w_V} {P : w_P} (x0 : Nat) (hx0 : T x0 = 8) (t0 : Int32) (t1 : Nat) (ht1 : T t1 = 8) (post : Nat → Nat → (Nat → Nat) → (Nat → Nat) → w_V → w_P → Prop) (xp : w_Xp) (hk : kOk (rFX9_part rf rl U0) kc ks U) (hQ : cxMX X (va_Qq (qFn post) (wdF (cxE X)) (w_A (cxE X))) (xF xp) (rFX9_part rf rl U0).cells (rFX9_part rf rl U0).slots) (w : jFX9_part_72 (cxE X).2.2.2.2 rE U z T L V P x0 t0 t1 post xp) : gW X kc ks z T L V P 72 [some (.ref x0), none, none] [.int t0, .ref t1] := by
  unfold jFX9_part_72 at w
  refine g_iconst (v := 1) O dX9_part_72 (by decide) ?_
  obtain ⟨c12, U13, e14, w⟩ := w
  have hk9 := kOk.eq hk e14
  refine g_fv O hN hQ (kOk.fa hk9) (grx_V (lay := 7) (nA := 2) (As := [.int t0, .int 1]) (rest := []) O hRm (kFX9_check _ O.2.2.2.2.2.2.2.2 (cxE X) _ _ _ _ _ _ t1 ht1 (t0) (1) _ xp w) (lw_V q1028 q1030 qs8 q135 q1031) rfl rfl (by decide +kernel) ⟨(by show 6 + 1 ≤ rf + 10; omega), (by show 8 + (3 + 11) + 92 ≤ rl + 237; omega)⟩ ck7 (by decide) rfl ht1 rfl rfl rfl (Nat.le_of_ble_eq_true rfl) dX9_part_73 (kOk.fa hk9)) (fun z T L V15 P16 w => ?_)
  have hk17 := kOk.sa hk9
  obtain ⟨h19, w⟩ := w
  refine g_aload_n O dX9_part_76 rfl ?_
  obtain ⟨b20, hp21, ht22, w⟩ := w
  refine gx_getR (lay := 7) (j := 7) O ck7 (by decide) rfl rfl hp21 (by decide) h19 q989 dX9_part_77 ?_
  refine g_rn0 (gr_S (nA := 1) (As := [.ref b20]) (rest := []) O hRm (kX9_valueOf _ O.2.2.2.2.2.2.2.2 _ _ _ _ _ _ b20 ht22 _ w) (lw_S q1119 q1120 q135 q1121) rfl rfl (by decide +kernel) ⟨(by show 3 + 1 ≤ rf + 10; omega), (by show 8 + (1 + 11) + 56 ≤ rl + 237; omega)⟩ rfl rfl rfl (Nat.le_of_ble_eq_true rfl) dX9_part_80 (kOk.f0 hk17)) (fun r23 w => ?_)
  have hk17 := kOk.s0 hk17
  refine g_astore_nq O dX9_part_83 (Nat.le_of_ble_eq_true rfl) rfl (lv' := [some (.ref x0), none, some (va_rf r23)]) rfl ?_
  refine g_aload_n O dX9_part_84 rfl ?_
  refine g_aload_nq O dX9_part_85 rfl ?_
  refine gx_ifnull (tgt := 93) O dX9_part_86 (by decide) (fun hn => ?_) (fun b26 hb27 => ?_)
  · replace w := w.1 hn
    refine g_iconst (v := 0) O dX9_part_93 (by decide) ?_
    exact vjFX9_part_94 O hRm hN rE hE x0 h19 r23 (0) x0 h19 post xp hk17 hQ w
  · replace w := w.2 b26 hb27
    refine g_iconst (v := 1) O dX9_part_89 (by decide) ?_
    refine g_goto (tgt := 94) O dX9_part_90 (by decide) ?_
    exact vjFX9_part_94 O hRm hN rE hE x0 h19 r23 (1) x0 h19 post xp hk17 hQ w
set_option maxHeartbeats 4000000 in
theorem kFX9_part (l : Launch) (hfl : l.flags = flags0) (E : w_E) (rf rl : Nat) (rE : rEF) (hE : hEF l E rf rl rE) (U0 z : Nat) (T L : Nat → Nat) (V : w_V) (P : w_P) (t : Nat) (hT : T t = 8) (x1 : Int32) (post : Nat → Nat → (Nat → Nat) → (Nat → Nat) → w_V → w_P → Prop) (xp : w_Xp) (w : wFX9_part E.2.2.2.2 rE U0 z T L V P t x1 post xp) : vx_Met l yX9_part (ws_ yX9_part cX9_part 3 (some (.object "ApartBench$Expr"))) (rFX9_part rf rl U0) (va_Pc [.ref t, .int x1] (fun U => kenv E U ∧ wdW E (z, T, L, V, P) U.heap)) (va_Qq (qFn post) (wdF E) (w_A E)) (xcX E (xF xp)) (8 * U0) (32 * U0) (w_A E) := by
  refine g_startF (w := (z, T, L, V, P)) hfl (by decide +kernel) rfl [some (.ref t), some (.int x1), none] rfl (fun _ h => h) (Nat.le_of_ble_eq_true rfl) (fun X hl hRm hEe O hN hI hQ => ?_)
  subst hl
  subst hEe
  have hk : kOk (rFX9_part rf rl U0) 0 0 U0 := ⟨by show 0 + 8 * U0 ≤ 8 * U0; omega, by show 0 + 32 * U0 ≤ 32 * U0; omega⟩
  unfold wFX9_part at w
  refine g_aload_n O dX9_part_0 rfl ?_
  obtain ⟨b1, hp2, w⟩ := w
  refine gx_getR (lay := 7) (j := 6) O ck7 (by decide) rfl rfl hp2 (by decide) hT q988 dX9_part_1 ?_
  refine gx_getst (i := 6) O rfl q959 dX9_part_4 ?_
  refine gx_acmp_ne (tgt := 26) O w dX9_part_7 (by decide) (fun w => ?_) (fun w => ?_)
  · refine g_aload_n O dX9_part_26 rfl ?_
    refine gx_ldc (i := 22) (tx := [40]) O rfl rfl dX9_part_27 (fun s4 hs5 hz => ?_)
    replace w := w s4 hz
    refine g_ri0 (gr_V (lay := 7) (nA := 1) (As := [.ref s4]) (rest := []) O hRm (kX9_is _ O.2.2.2.2.2.2.2.2 _ _ _ _ _ _ t hT s4 [40] hs5 _ w) (lw_V q1017 q1019 qs7 q135 q1020) rfl rfl (by decide +kernel) ⟨(by show 3 + 1 ≤ rf + 10; omega), (by show 8 + (2 + 11) + 56 ≤ rl + 237; omega)⟩ ck7 (by decide) rfl hT rfl rfl rfl (Nat.le_of_ble_eq_true rfl) dX9_part_29 (kOk.f0 hk)) (fun r6 w => ?_)
    have hk := kOk.s0 hk
    refine g_if_eq (tgt := 56) O w dX9_part_32 (by decide) (fun w => ?_) (fun w => ?_)
    · refine g_aload_n O dX9_part_56 rfl ?_
      refine g_aload_n O dX9_part_57 rfl ?_
      obtain ⟨b9, hp10, w⟩ := w
      refine gx_getR (lay := 7) (j := 6) O ck7 (by decide) rfl rfl hp10 (by decide) hT q988 dX9_part_58 ?_
      refine gx_getst (i := 5) O rfl q954 dX9_part_61 ?_
      refine gx_acmp_ne (tgt := 71) O w dX9_part_64 (by decide) (fun w => ?_) (fun w => ?_)
      · refine g_iconst (v := 0) O dX9_part_71 (by decide) ?_
        refine g_drop [1] (lv' := [some (.ref t), none, none]) rfl ?_
        exact vjFX9_part_72 O hRm hN rE hE t hT (0) t hT post xp hk hQ w
      · refine g_iconst (v := 1) O dX9_part_67 (by decide) ?_
        refine g_goto (tgt := 72) O dX9_part_68 (by decide) ?_
        refine g_drop [1] (lv' := [some (.ref t), none, none]) rfl ?_
        exact vjFX9_part_72 O hRm hN rE hE t hT (1) t hT post xp hk hQ w
    · refine g_aload_n O dX9_part_35 rfl ?_
      obtain ⟨c58, U59, e60, w⟩ := w
      have hk9 := kOk.eq hk e60
      refine g_mv (gr_V (lay := 7) (nA := 0) (As := []) (rest := []) O hRm (kFX9_go _ O.2.2.2.2.2.2.2.2 (cxE X) _ _ _ _ _ _ t hT _ w) (lw_V q915 q917 qs5 q135 q918) rfl rfl (by decide +kernel) ⟨(by show 8 + 1 ≤ rf + 10; omega), (by show 8 + (3 + 11) + 192 ≤ rl + 237; omega)⟩ ck7 (by decide) rfl hT rfl rfl rfl (Nat.le_of_ble_eq_true rfl) dX9_part_36 (kOk.fa hk9)) (fun z T L V61 P62 w => ?_)
      have hk63 := kOk.sa hk9
      obtain ⟨h65, w⟩ := w
      refine g_aload_n O dX9_part_39 rfl ?_
      refine g_iload_n O dX9_part_40 rfl ?_
      refine g_iconst (v := 1) O dX9_part_41 (by decide) ?_
      refine g_iadd O dX9_part_42 ?_
      obtain ⟨c66, U67, e68, w⟩ := w
      have hk9 := kOk.eq hk63 e68
      refine g_fq O hN hQ (kOk.fa hk9) (grx_V (lay := 7) (nA := 1) (As := [.int (x1 + 1)]) (rest := []) O hRm (hE _ _ _ _ _ _ t h65 ((x1 + 1)) _ xp w) (lw_V q1075 q1077 qs13 q135 q1078) rfl rfl (by decide +kernel) ⟨(by show rf + 1 ≤ rf + 10; omega), (by show 8 + (3 + 11) + rl ≤ rl + 237; omega)⟩ ck7 (by decide) rfl h65 rfl rfl rfl (Nat.le_of_ble_eq_true rfl) dX9_part_43 (kOk.fa hk9)) (fun r72 z T L V69 P70 w => ?_)
      have hk71 := kOk.sa hk9
      obtain ⟨h73, hr74, w⟩ := w
      refine g_astore_n O dX9_part_46 (Nat.le_of_ble_eq_true rfl) rfl (lv' := [some (.ref t), some (.int x1), some (.ref r72)]) rfl ?_
      refine g_aload_n O dX9_part_47 rfl ?_
      refine gx_ldcw (i := 24) (tx := [41]) O rfl rfl dX9_part_48 (fun s75 hs76 hz => ?_)
      replace w := w s75 hz
      obtain ⟨c77, U78, e79, w⟩ := w
      have hk9 := kOk.eq hk71 e79
      refine g_fv O hN hQ (kOk.fa hk9) (grx_V (lay := 7) (nA := 1) (As := [.ref s75]) (rest := []) O hRm (kFX9_need _ O.2.2.2.2.2.2.2.2 (cxE X) _ _ _ _ _ _ t h73 s75 [41] hs76 _ xp w) (lw_V q1115 q1117 qs19 q135 q1118) rfl rfl (by decide +kernel) ⟨(by show 9 + 1 ≤ rf + 10; omega), (by show 8 + (2 + 11) + 214 ≤ rl + 237; omega)⟩ ck7 (by decide) rfl h73 rfl rfl rfl (Nat.le_of_ble_eq_true rfl) dX9_part_51 (kOk.fa hk9)) (fun z T L V80 P81 w => ?_)
      have hk82 := kOk.sa hk9
      obtain ⟨h84, w⟩ := w
      refine g_aload_n O dX9_part_54 rfl ?_
      exact gt_aret (r := some r72) (f := fun u => u) (u := (z, T, L, V80, P81)) O hQ (kOk.m hk82) (by first | exact Or.inl ⟨_, rfl⟩ | exact Or.inr ⟨_, rfl⟩) rfl ⟨_, rfl, w⟩ dX9_part_55
  · obtain ⟨U90, e91, w⟩ := w
    have hk9 := kOk.eq hk e91
    refine gq_new (lay := 8) (u := 1) O hRm ck8 (by decide) rfl (by decide +kernel) q1101 q1102 q139 hk9 (by decide) (by decide) dX9_part_10 (fun o85 z T L V86 P87 hk88 hn89 => ?_)
    replace w := w o85 z T L V86 P87 hn89
    obtain ⟨h92, w⟩ := w
    refine g_dup O dX9_part_13 rfl ?_
    refine g_aload_n O dX9_part_14 rfl ?_
    refine g_iconst (v := 0) O dX9_part_15 (by decide) ?_
    refine g_sipush (v := 9999) O dX9_part_16 (by decide) ?_
    obtain ⟨c93, U94, e95, w⟩ := w
    have hk9 := kOk.eq hk88 e95
    refine g_fi O hN hQ (kOk.fa hk9) (grx_V (lay := 7) (nA := 2) (As := [.int 0, .int 9999]) (rest := [.ref o85, .ref o85]) O hRm (kFX9_number _ O.2.2.2.2.2.2.2.2 (cxE X) _ _ _ _ _ _ t h92 (0) (9999) _ xp w) (lw_V q1065 q1067 qs11 q135 q1068) rfl rfl (by decide +kernel) ⟨(by show 9 + 1 ≤ rf + 10; omega), (by show 8 + (4 + 11) + 214 ≤ rl + 237; omega)⟩ ck7 (by decide) rfl h92 rfl rfl rfl (Nat.le_of_ble_eq_true rfl) dX9_part_19 (kOk.fa hk9)) (fun r99 z T L V96 P97 w => ?_)
    have hk98 := kOk.sa hk9
    obtain ⟨h100, w⟩ := w
    obtain ⟨c101, U102, e103, w⟩ := w
    have hk9 := kOk.eq hk98 e103
    refine g_mv (gr_I (nA := 1) (As := [.int r99]) (rest := [.ref o85]) O hRm (kFX12_init _ O.2.2.2.2.2.2.2.2 (cxE X) _ _ _ _ _ _ o85 h100 (r99) _ w) (lw_meth q1105) q1103 q1104 q139 rfl rfl rfl (by decide +kernel) ⟨(by show 4 + 1 ≤ rf + 10; omega), (by show 8 + (2 + 11) + 80 ≤ rl + 237; omega)⟩ rfl rfl rfl (Nat.le_of_ble_eq_true rfl) dX9_part_22 (kOk.fa hk9)) (fun z T L V104 P105 w => ?_)
    have hk106 := kOk.sa hk9
    obtain ⟨h108, w⟩ := w
    exact gt_aret (r := some o85) (f := fun u => u) (u := (z, T, L, V104, P105)) O hQ (kOk.m hk106) (by first | exact Or.inl ⟨_, rfl⟩ | exact Or.inr ⟨_, rfl⟩) rfl ⟨_, rfl, w⟩ dX9_part_25
-- X9_product
abbrev rFX9_product (rf rl U0 : Nat) : Room := { frames := rf + 11, cells := 8 * U0, slots := 32 * U0, locals := rl + 259 }
set_option maxHeartbeats 4000000 in
theorem vjFX9_product_26 {X : Cx} {U0 rf rl : Nat} (O : Okc X cX9_product RX9 4 (some (.object "ApartBench$Expr"))) (hRm : cxR X = (rFX9_product rf rl U0)) (hN : noTab X) (rE : rEF) (hE : hEF (cxL X) (cxE X) rf rl rE) {kc ks U z : Nat} {T L : Nat → Nat} {V : w_V} {P : w_P} (x0 : Nat) (hx0 : T x0 = 8) (x1 : Int32) (x2 : Nat) (hx2 : eT T x2) (post : Nat → Nat → (Nat → Nat) → (Nat → Nat) → w_V → w_P → Prop) (xp : w_Xp) (hk : kOk (rFX9_product rf rl U0) kc ks U) (hQ : cxMX X (va_Qq (qFn post) (wdF (cxE X)) (w_A (cxE X))) (xF xp) (rFX9_product rf rl U0).cells (rFX9_product rf rl U0).slots) (kb : Nat → Nat → (Nat → Nat) → (Nat → Nat) → w_V → w_P → Nat → Prop) (hkb : ∀ (kc ks U z : Nat) (T L : Nat → Nat) (V : w_V) (P : w_P) (y2 : Nat) (_hx0 : T x0 = 8) (_hy2 : eT T y2), kOk (rFX9_product rf rl U0) kc ks U → kb U z T L V P y2 → gW X kc ks z T L V P 6 [some (.ref x0), some (.int x1), some (.ref y2), none] []) (w : jFX9_product_26 (cxE X).2.2.2.2 rE U z T L V P x0 x1 x2 post xp kb) : gW X kc ks z T L V P 26 [some (.ref x0), some (.int x1), some (.ref x2), none] [] := by
  unfold jFX9_product_26 at w
  refine g_aload_n O dX9_product_26 rfl ?_
  obtain ⟨b15, hp16, ht17, w⟩ := w
  refine gx_getR (lay := 7) (j := 7) O ck7 (by decide) rfl rfl hp16 (by decide) hx0 q989 dX9_product_27 ?_
  refine g_iconst (v := 0) O dX9_product_30 (by decide) ?_
  refine g_ri0 (gr_V (lay := 17) (nA := 1) (As := [.int 0]) (rest := []) O hRm (kJ9_charAt _ O.2.2.2.2.2.2.2.2 _ _ _ _ _ _ b15 ht17 (0) _ w) (lw_V q1148 q1149 q1150 q117 q1151) rfl rfl (by decide +kernel) ⟨(by show 4 + 1 ≤ rf + 11; omega), (by show 8 + (2 + 11) + 76 ≤ rl + 259; omega)⟩ ck17 (by decide) rfl ht17 rfl rfl rfl (Nat.le_of_ble_eq_true rfl) dX9_product_31 (kOk.f0 hk)) (fun r18 w => ?_)
  have hk := kOk.s0 hk
  refine g_istore_n O dX9_product_34 (Nat.le_of_ble_eq_true rfl) rfl (lv' := [some (.ref x0), some (.int x1), some (.ref x2), some (.int r18)]) rfl ?_
  refine g_aload_n O dX9_product_35 rfl ?_
  obtain ⟨c21, U22, e23, w⟩ := w
  have hk9 := kOk.eq hk e23
  refine g_mv (gr_V (lay := 7) (nA := 0) (As := []) (rest := []) O hRm (kFX9_go _ O.2.2.2.2.2.2.2.2 (cxE X) _ _ _ _ _ _ x0 hx0 _ w) (lw_V q915 q917 qs5 q135 q918) rfl rfl (by decide +kernel) ⟨(by show 8 + 1 ≤ rf + 11; omega), (by show 8 + (3 + 11) + 192 ≤ rl + 259; omega)⟩ ck7 (by decide) rfl hx0 rfl rfl rfl (Nat.le_of_ble_eq_true rfl) dX9_product_36 (kOk.fa hk9)) (fun z T L V24 P25 w => ?_)
  have hk26 := kOk.sa hk9
  obtain ⟨h28, h29, w⟩ := w
  obtain ⟨U35, e36, w⟩ := w
  have hk9 := kOk.eq hk26 e36
  refine gq_new (lay := 10) (u := 1) O hRm ck10 (by decide) rfl (by decide +kernel) q1163 q1164 q141 hk9 (by decide) (by decide) dX9_product_39 (fun o30 z T L V31 P32 hk33 hn34 => ?_)
  replace w := w o30 z T L V31 P32 hn34
  obtain ⟨h37, h38, w⟩ := w
  refine g_dup O dX9_product_42 rfl ?_
  refine g_iload_n O dX9_product_43 rfl ?_
  refine g_aload_n O dX9_product_44 rfl ?_
  refine g_aload_n O dX9_product_45 rfl ?_
  refine g_iload_n O dX9_product_46 rfl ?_
  obtain ⟨c39, U40, e41, w⟩ := w
  have hk9 := kOk.eq hk33 e41
  refine g_fq O hN hQ (kOk.fa hk9) (grx_V (lay := 7) (nA := 1) (As := [.int x1]) (rest := [.ref x2, .int r18, .ref o30, .ref o30]) O hRm (kFX9_part _ O.2.2.2.2.2.2.2.2 (cxE X) rf rl rE hE _ _ _ _ _ _ x0 h37 (x1) _ xp w) (lw_V q1097 q1099 qs18 q135 q1100) rfl rfl (by decide +kernel) ⟨(by show rf + 10 + 1 ≤ rf + 11; omega), (by show 8 + (3 + 11) + (rl + 237) ≤ rl + 259; omega)⟩ ck7 (by decide) rfl h37 rfl rfl rfl (Nat.le_of_ble_eq_true rfl) dX9_product_47 (kOk.fa hk9)) (fun r45 z T L V42 P43 w => ?_)
  have hk44 := kOk.sa hk9
  obtain ⟨h46, h47, h48, hr49, w⟩ := w
  obtain ⟨c50, U51, e52, w⟩ := w
  have hk9 := kOk.eq hk44 e52
  refine g_mv (gr_I (nA := 3) (As := [.int r18, .ref x2, .ref r45]) (rest := [.ref o30]) O hRm (kFX14_init _ O.2.2.2.2.2.2.2.2 (cxE X) _ _ _ _ _ _ o30 h47 (r18) x2 h46 r45 hr49 _ w) (lw_meth q1167) q1165 q1166 q141 rfl rfl rfl (by decide +kernel) ⟨(by show 4 + 1 ≤ rf + 11; omega), (by show 8 + (4 + 11) + 80 ≤ rl + 259; omega)⟩ rfl rfl rfl (Nat.le_of_ble_eq_true rfl) dX9_product_50 (kOk.fa hk9)) (fun z T L V53 P54 w => ?_)
  have hk55 := kOk.sa hk9
  obtain ⟨h57, h58, w⟩ := w
  refine g_astore_n O dX9_product_53 (Nat.le_of_ble_eq_true rfl) rfl (lv' := [some (.ref x0), some (.int x1), some (.ref o30), some (.int r18)]) rfl ?_
  refine g_goto (tgt := 6) O dX9_product_54 (by decide) ?_
  refine g_drop [3] (lv' := [some (.ref x0), some (.int x1), some (.ref o30), none]) rfl ?_
  exact hkb _ _ _ _ _ _ _ _ o30 h58 (Or.inr (Or.inr (Or.inl h57))) hk55 w
set_option maxHeartbeats 4000000 in
theorem vlFX9_product_6 {X : Cx} {U0 rf rl : Nat} (O : Okc X cX9_product RX9 4 (some (.object "ApartBench$Expr"))) (hRm : cxR X = (rFX9_product rf rl U0)) (hN : noTab X) (rE : rEF) (hE : hEF (cxL X) (cxE X) rf rl rE) (x0 : Nat) (x1 : Int32) (post : Nat → Nat → (Nat → Nat) → (Nat → Nat) → w_V → w_P → Prop) (xp : w_Xp) (hQ : cxMX X (va_Qq (qFn post) (wdF (cxE X)) (w_A (cxE X))) (xF xp) (rFX9_product rf rl U0).cells (rFX9_product rf rl U0).slots) (ke_57 : Nat → Nat → (Nat → Nat) → (Nat → Nat) → w_V → w_P → Nat → Prop) (hke_57 : ∀ (kc ks U z : Nat) (T L : Nat → Nat) (V : w_V) (P : w_P) (y2 : Nat) (_hy2 : eT T y2), kOk (rFX9_product rf rl U0) kc ks U → ke_57 U z T L V P y2 → gW X kc ks z T L V P 57 [none, none, some (.ref y2), none] []) : ∀ (n kc ks U z : Nat) (T L : Nat → Nat) (V : w_V) (P : w_P) (x2 : Nat) (hx0 : T x0 = 8) (hx2 : eT T x2), kOk (rFX9_product rf rl U0) kc ks U → lFX9_product_6 (cxE X).2.2.2.2 rE x0 x1 post xp ke_57 n U z T L V P x2 → gW X kc ks z T L V P 6 [some (.ref x0), some (.int x1), some (.ref x2), none] [] := by
  intro n
  induction n with
  | zero =>
    intro kc ks U z T L V P x2 hx0 hx2 hk w
    exact w.elim
  | succ n ih =>
    intro kc ks U z T L V P x2 hx0 hx2 hk w
    unfold lFX9_product_6 at w
    refine g_aload_n O dX9_product_6 rfl ?_
    refine gx_ldcw (i := 29) (tx := [42]) O rfl rfl dX9_product_7 (fun s10 hs11 hz => ?_)
    replace w := w s10 hz
    refine g_ri0 (gr_V (lay := 7) (nA := 1) (As := [.ref s10]) (rest := []) O hRm (kX9_is _ O.2.2.2.2.2.2.2.2 _ _ _ _ _ _ x0 hx0 s10 [42] hs11 _ w) (lw_V q1017 q1019 qs7 q135 q1020) rfl rfl (by decide +kernel) ⟨(by show 3 + 1 ≤ rf + 11; omega), (by show 8 + (2 + 11) + 56 ≤ rl + 259; omega)⟩ ck7 (by decide) rfl hx0 rfl rfl rfl (Nat.le_of_ble_eq_true rfl) dX9_product_10 (kOk.f0 hk)) (fun r12 w => ?_)
    have hk := kOk.s0 hk
    refine g_if_ne (tgt := 26) O w dX9_product_13 (by decide) (fun w => ?_) (fun w => ?_)
    · exact vjFX9_product_26 O hRm hN rE hE x0 hx0 (x1) x2 hx2 post xp hk hQ (lFX9_product_6 (cxE X).2.2.2.2 rE x0 x1 post xp ke_57 n) ih w
    · refine g_aload_n O dX9_product_16 rfl ?_
      refine gx_ldcw (i := 30) (tx := [47]) O rfl rfl dX9_product_17 (fun s59 hs60 hz => ?_)
      replace w := w s59 hz
      refine g_ri0 (gr_V (lay := 7) (nA := 1) (As := [.ref s59]) (rest := []) O hRm (kX9_is _ O.2.2.2.2.2.2.2.2 _ _ _ _ _ _ x0 hx0 s59 [47] hs60 _ w) (lw_V q1017 q1019 qs7 q135 q1020) rfl rfl (by decide +kernel) ⟨(by show 3 + 1 ≤ rf + 11; omega), (by show 8 + (2 + 11) + 56 ≤ rl + 259; omega)⟩ ck7 (by decide) rfl hx0 rfl rfl rfl (Nat.le_of_ble_eq_true rfl) dX9_product_20 (kOk.f0 hk)) (fun r61 w => ?_)
      have hk := kOk.s0 hk
      refine g_if_eq (tgt := 57) O w dX9_product_23 (by decide) (fun w => ?_) (fun w => ?_)
      · refine g_drop [0, 1] (lv' := [none, none, some (.ref x2), none]) rfl ?_
        exact hke_57 _ _ _ _ _ _ _ _ x2 hx2 hk w
      · exact vjFX9_product_26 O hRm hN rE hE x0 hx0 (x1) x2 hx2 post xp hk hQ (lFX9_product_6 (cxE X).2.2.2.2 rE x0 x1 post xp ke_57 n) ih w
set_option maxHeartbeats 4000000 in
theorem kFX9_product (l : Launch) (hfl : l.flags = flags0) (E : w_E) (rf rl : Nat) (rE : rEF) (hE : hEF l E rf rl rE) (U0 z : Nat) (T L : Nat → Nat) (V : w_V) (P : w_P) (t : Nat) (hT : T t = 8) (x1 : Int32) (post : Nat → Nat → (Nat → Nat) → (Nat → Nat) → w_V → w_P → Prop) (xp : w_Xp) (w : wFX9_product E.2.2.2.2 rE U0 z T L V P t x1 post xp) : vx_Met l yX9_product (ws_ yX9_product cX9_product 4 (some (.object "ApartBench$Expr"))) (rFX9_product rf rl U0) (va_Pc [.ref t, .int x1] (fun U => kenv E U ∧ wdW E (z, T, L, V, P) U.heap)) (va_Qq (qFn post) (wdF E) (w_A E)) (xcX E (xF xp)) (8 * U0) (32 * U0) (w_A E) := by
  refine g_startF (w := (z, T, L, V, P)) hfl (by decide +kernel) rfl [some (.ref t), some (.int x1), none, none] rfl (fun _ h => h) (Nat.le_of_ble_eq_true rfl) (fun X hl hRm hEe O hN hI hQ => ?_)
  subst hl
  subst hEe
  have hk : kOk (rFX9_product rf rl U0) 0 0 U0 := ⟨by show 0 + 8 * U0 ≤ 8 * U0; omega, by show 0 + 32 * U0 ≤ 32 * U0; omega⟩
  unfold wFX9_product at w
  refine g_aload_n O dX9_product_0 rfl ?_
  refine g_iload_n O dX9_product_1 rfl ?_
  obtain ⟨c1, U2, e3, w⟩ := w
  have hk9 := kOk.eq hk e3
  refine g_fq O hN hQ (kOk.fa hk9) (grx_V (lay := 7) (nA := 1) (As := [.int x1]) (rest := []) O hRm (kFX9_part _ O.2.2.2.2.2.2.2.2 (cxE X) rf rl rE hE _ _ _ _ _ _ t hT (x1) _ xp w) (lw_V q1097 q1099 qs18 q135 q1100) rfl rfl (by decide +kernel) ⟨(by show rf + 10 + 1 ≤ rf + 11; omega), (by show 8 + (3 + 11) + (rl + 237) ≤ rl + 259; omega)⟩ ck7 (by decide) rfl hT rfl rfl rfl (Nat.le_of_ble_eq_true rfl) dX9_product_2 (kOk.fa hk9)) (fun r7 z T L V4 P5 w => ?_)
  have hk6 := kOk.sa hk9
  obtain ⟨h8, hr9, w⟩ := w
  refine g_astore_n O dX9_product_5 (Nat.le_of_ble_eq_true rfl) rfl (lv' := [some (.ref t), some (.int x1), some (.ref r7), none]) rfl ?_
  obtain ⟨n69, w⟩ := w
  refine vlFX9_product_6 O hRm hN rE hE t (x1) post xp hQ _ (fun kc ks U66 z T L V64 P65 y68 hy68 hk67 w => ?_) n69 _ _ _ _ _ _ _ _ r7 h8 hr9 hk6 w
  refine g_aload_n O dX9_product_57 rfl ?_
  exact gt_aret (r := some y68) (f := fun u => u) (u := (z, T, L, V64, P65)) O hQ (kOk.m hk67) (by first | exact Or.inl ⟨_, rfl⟩ | exact Or.inr ⟨_, rfl⟩) rfl ⟨_, rfl, w⟩ dX9_product_58
-- X9_sum
abbrev rFX9_sum (rf rl U0 : Nat) : Room := { frames := rf + 12, cells := 8 * U0, slots := 32 * U0, locals := rl + 282 }
set_option maxHeartbeats 4000000 in
theorem vjFX9_sum_26 {X : Cx} {U0 rf rl : Nat} (O : Okc X cX9_sum RX9 4 (some (.object "ApartBench$Expr"))) (hRm : cxR X = (rFX9_sum rf rl U0)) (hN : noTab X) (rE : rEF) (hE : hEF (cxL X) (cxE X) rf rl rE) {kc ks U z : Nat} {T L : Nat → Nat} {V : w_V} {P : w_P} (x0 : Nat) (hx0 : T x0 = 8) (x1 : Int32) (x2 : Nat) (hx2 : eT T x2) (post : Nat → Nat → (Nat → Nat) → (Nat → Nat) → w_V → w_P → Prop) (xp : w_Xp) (hk : kOk (rFX9_sum rf rl U0) kc ks U) (hQ : cxMX X (va_Qq (qFn post) (wdF (cxE X)) (w_A (cxE X))) (xF xp) (rFX9_sum rf rl U0).cells (rFX9_sum rf rl U0).slots) (kb : Nat → Nat → (Nat → Nat) → (Nat → Nat) → w_V → w_P → Nat → Prop) (hkb : ∀ (kc ks U z : Nat) (T L : Nat → Nat) (V : w_V) (P : w_P) (y2 : Nat) (_hx0 : T x0 = 8) (_hy2 : eT T y2), kOk (rFX9_sum rf rl U0) kc ks U → kb U z T L V P y2 → gW X kc ks z T L V P 6 [some (.ref x0), some (.int x1), some (.ref y2), none] []) (w : jFX9_sum_26 (cxE X).2.2.2.2 rE U z T L V P x0 x1 x2 post xp kb) : gW X kc ks z T L V P 26 [some (.ref x0), some (.int x1), some (.ref x2), none] [] := by
  unfold jFX9_sum_26 at w
  refine g_aload_n O dX9_sum_26 rfl ?_
  obtain ⟨b15, hp16, ht17, w⟩ := w
  refine gx_getR (lay := 7) (j := 7) O ck7 (by decide) rfl rfl hp16 (by decide) hx0 q989 dX9_sum_27 ?_
  refine g_iconst (v := 0) O dX9_sum_30 (by decide) ?_
  refine g_ri0 (gr_V (lay := 17) (nA := 1) (As := [.int 0]) (rest := []) O hRm (kJ9_charAt _ O.2.2.2.2.2.2.2.2 _ _ _ _ _ _ b15 ht17 (0) _ w) (lw_V q1148 q1149 q1150 q117 q1151) rfl rfl (by decide +kernel) ⟨(by show 4 + 1 ≤ rf + 12; omega), (by show 8 + (2 + 11) + 76 ≤ rl + 282; omega)⟩ ck17 (by decide) rfl ht17 rfl rfl rfl (Nat.le_of_ble_eq_true rfl) dX9_sum_31 (kOk.f0 hk)) (fun r18 w => ?_)
  have hk := kOk.s0 hk
  refine g_istore_n O dX9_sum_34 (Nat.le_of_ble_eq_true rfl) rfl (lv' := [some (.ref x0), some (.int x1), some (.ref x2), some (.int r18)]) rfl ?_
  refine g_aload_n O dX9_sum_35 rfl ?_
  obtain ⟨c21, U22, e23, w⟩ := w
  have hk9 := kOk.eq hk e23
  refine g_mv (gr_V (lay := 7) (nA := 0) (As := []) (rest := []) O hRm (kFX9_go _ O.2.2.2.2.2.2.2.2 (cxE X) _ _ _ _ _ _ x0 hx0 _ w) (lw_V q915 q917 qs5 q135 q918) rfl rfl (by decide +kernel) ⟨(by show 8 + 1 ≤ rf + 12; omega), (by show 8 + (3 + 11) + 192 ≤ rl + 282; omega)⟩ ck7 (by decide) rfl hx0 rfl rfl rfl (Nat.le_of_ble_eq_true rfl) dX9_sum_36 (kOk.fa hk9)) (fun z T L V24 P25 w => ?_)
  have hk26 := kOk.sa hk9
  obtain ⟨h28, h29, w⟩ := w
  obtain ⟨U35, e36, w⟩ := w
  have hk9 := kOk.eq hk26 e36
  refine gq_new (lay := 10) (u := 1) O hRm ck10 (by decide) rfl (by decide +kernel) q1163 q1164 q141 hk9 (by decide) (by decide) dX9_sum_39 (fun o30 z T L V31 P32 hk33 hn34 => ?_)
  replace w := w o30 z T L V31 P32 hn34
  obtain ⟨h37, h38, w⟩ := w
  refine g_dup O dX9_sum_42 rfl ?_
  refine g_iload_n O dX9_sum_43 rfl ?_
  refine g_aload_n O dX9_sum_44 rfl ?_
  refine g_aload_n O dX9_sum_45 rfl ?_
  refine g_iload_n O dX9_sum_46 rfl ?_
  obtain ⟨c39, U40, e41, w⟩ := w
  have hk9 := kOk.eq hk33 e41
  refine g_fq O hN hQ (kOk.fa hk9) (grx_V (lay := 7) (nA := 1) (As := [.int x1]) (rest := [.ref x2, .int r18, .ref o30, .ref o30]) O hRm (kFX9_product _ O.2.2.2.2.2.2.2.2 (cxE X) rf rl rE hE _ _ _ _ _ _ x0 h37 (x1) _ xp w) (lw_V q1093 q1095 qs17 q135 q1096) rfl rfl (by decide +kernel) ⟨(by show rf + 11 + 1 ≤ rf + 12; omega), (by show 8 + (4 + 11) + (rl + 259) ≤ rl + 282; omega)⟩ ck7 (by decide) rfl h37 rfl rfl rfl (Nat.le_of_ble_eq_true rfl) dX9_sum_47 (kOk.fa hk9)) (fun r45 z T L V42 P43 w => ?_)
  have hk44 := kOk.sa hk9
  obtain ⟨h46, h47, h48, hr49, w⟩ := w
  obtain ⟨c50, U51, e52, w⟩ := w
  have hk9 := kOk.eq hk44 e52
  refine g_mv (gr_I (nA := 3) (As := [.int r18, .ref x2, .ref r45]) (rest := [.ref o30]) O hRm (kFX14_init _ O.2.2.2.2.2.2.2.2 (cxE X) _ _ _ _ _ _ o30 h47 (r18) x2 h46 r45 hr49 _ w) (lw_meth q1167) q1165 q1166 q141 rfl rfl rfl (by decide +kernel) ⟨(by show 4 + 1 ≤ rf + 12; omega), (by show 8 + (4 + 11) + 80 ≤ rl + 282; omega)⟩ rfl rfl rfl (Nat.le_of_ble_eq_true rfl) dX9_sum_50 (kOk.fa hk9)) (fun z T L V53 P54 w => ?_)
  have hk55 := kOk.sa hk9
  obtain ⟨h57, h58, w⟩ := w
  refine g_astore_n O dX9_sum_53 (Nat.le_of_ble_eq_true rfl) rfl (lv' := [some (.ref x0), some (.int x1), some (.ref o30), some (.int r18)]) rfl ?_
  refine g_goto (tgt := 6) O dX9_sum_54 (by decide) ?_
  refine g_drop [3] (lv' := [some (.ref x0), some (.int x1), some (.ref o30), none]) rfl ?_
  exact hkb _ _ _ _ _ _ _ _ o30 h58 (Or.inr (Or.inr (Or.inl h57))) hk55 w
set_option maxHeartbeats 4000000 in
theorem vlFX9_sum_6 {X : Cx} {U0 rf rl : Nat} (O : Okc X cX9_sum RX9 4 (some (.object "ApartBench$Expr"))) (hRm : cxR X = (rFX9_sum rf rl U0)) (hN : noTab X) (rE : rEF) (hE : hEF (cxL X) (cxE X) rf rl rE) (x0 : Nat) (x1 : Int32) (post : Nat → Nat → (Nat → Nat) → (Nat → Nat) → w_V → w_P → Prop) (xp : w_Xp) (hQ : cxMX X (va_Qq (qFn post) (wdF (cxE X)) (w_A (cxE X))) (xF xp) (rFX9_sum rf rl U0).cells (rFX9_sum rf rl U0).slots) (ke_57 : Nat → Nat → (Nat → Nat) → (Nat → Nat) → w_V → w_P → Nat → Prop) (hke_57 : ∀ (kc ks U z : Nat) (T L : Nat → Nat) (V : w_V) (P : w_P) (y2 : Nat) (_hy2 : eT T y2), kOk (rFX9_sum rf rl U0) kc ks U → ke_57 U z T L V P y2 → gW X kc ks z T L V P 57 [none, none, some (.ref y2), none] []) : ∀ (n kc ks U z : Nat) (T L : Nat → Nat) (V : w_V) (P : w_P) (x2 : Nat) (hx0 : T x0 = 8) (hx2 : eT T x2), kOk (rFX9_sum rf rl U0) kc ks U → lFX9_sum_6 (cxE X).2.2.2.2 rE x0 x1 post xp ke_57 n U z T L V P x2 → gW X kc ks z T L V P 6 [some (.ref x0), some (.int x1), some (.ref x2), none] [] := by
  intro n
  induction n with
  | zero =>
    intro kc ks U z T L V P x2 hx0 hx2 hk w
    exact w.elim
  | succ n ih =>
    intro kc ks U z T L V P x2 hx0 hx2 hk w
    unfold lFX9_sum_6 at w
    refine g_aload_n O dX9_sum_6 rfl ?_
    refine gx_ldcw (i := 31) (tx := [43]) O rfl rfl dX9_sum_7 (fun s10 hs11 hz => ?_)
    replace w := w s10 hz
    refine g_ri0 (gr_V (lay := 7) (nA := 1) (As := [.ref s10]) (rest := []) O hRm (kX9_is _ O.2.2.2.2.2.2.2.2 _ _ _ _ _ _ x0 hx0 s10 [43] hs11 _ w) (lw_V q1017 q1019 qs7 q135 q1020) rfl rfl (by decide +kernel) ⟨(by show 3 + 1 ≤ rf + 12; omega), (by show 8 + (2 + 11) + 56 ≤ rl + 282; omega)⟩ ck7 (by decide) rfl hx0 rfl rfl rfl (Nat.le_of_ble_eq_true rfl) dX9_sum_10 (kOk.f0 hk)) (fun r12 w => ?_)
    have hk := kOk.s0 hk
    refine g_if_ne (tgt := 26) O w dX9_sum_13 (by decide) (fun w => ?_) (fun w => ?_)
    · exact vjFX9_sum_26 O hRm hN rE hE x0 hx0 (x1) x2 hx2 post xp hk hQ (lFX9_sum_6 (cxE X).2.2.2.2 rE x0 x1 post xp ke_57 n) ih w
    · refine g_aload_n O dX9_sum_16 rfl ?_
      refine gx_ldcw (i := 32) (tx := [45]) O rfl rfl dX9_sum_17 (fun s59 hs60 hz => ?_)
      replace w := w s59 hz
      refine g_ri0 (gr_V (lay := 7) (nA := 1) (As := [.ref s59]) (rest := []) O hRm (kX9_is _ O.2.2.2.2.2.2.2.2 _ _ _ _ _ _ x0 hx0 s59 [45] hs60 _ w) (lw_V q1017 q1019 qs7 q135 q1020) rfl rfl (by decide +kernel) ⟨(by show 3 + 1 ≤ rf + 12; omega), (by show 8 + (2 + 11) + 56 ≤ rl + 282; omega)⟩ ck7 (by decide) rfl hx0 rfl rfl rfl (Nat.le_of_ble_eq_true rfl) dX9_sum_20 (kOk.f0 hk)) (fun r61 w => ?_)
      have hk := kOk.s0 hk
      refine g_if_eq (tgt := 57) O w dX9_sum_23 (by decide) (fun w => ?_) (fun w => ?_)
      · refine g_drop [0, 1] (lv' := [none, none, some (.ref x2), none]) rfl ?_
        exact hke_57 _ _ _ _ _ _ _ _ x2 hx2 hk w
      · exact vjFX9_sum_26 O hRm hN rE hE x0 hx0 (x1) x2 hx2 post xp hk hQ (lFX9_sum_6 (cxE X).2.2.2.2 rE x0 x1 post xp ke_57 n) ih w
set_option maxHeartbeats 4000000 in
theorem kFX9_sum (l : Launch) (hfl : l.flags = flags0) (E : w_E) (rf rl : Nat) (rE : rEF) (hE : hEF l E rf rl rE) (U0 z : Nat) (T L : Nat → Nat) (V : w_V) (P : w_P) (t : Nat) (hT : T t = 8) (x1 : Int32) (post : Nat → Nat → (Nat → Nat) → (Nat → Nat) → w_V → w_P → Prop) (xp : w_Xp) (w : wFX9_sum E.2.2.2.2 rE U0 z T L V P t x1 post xp) : vx_Met l yX9_sum (ws_ yX9_sum cX9_sum 4 (some (.object "ApartBench$Expr"))) (rFX9_sum rf rl U0) (va_Pc [.ref t, .int x1] (fun U => kenv E U ∧ wdW E (z, T, L, V, P) U.heap)) (va_Qq (qFn post) (wdF E) (w_A E)) (xcX E (xF xp)) (8 * U0) (32 * U0) (w_A E) := by
  refine g_startF (w := (z, T, L, V, P)) hfl (by decide +kernel) rfl [some (.ref t), some (.int x1), none, none] rfl (fun _ h => h) (Nat.le_of_ble_eq_true rfl) (fun X hl hRm hEe O hN hI hQ => ?_)
  subst hl
  subst hEe
  have hk : kOk (rFX9_sum rf rl U0) 0 0 U0 := ⟨by show 0 + 8 * U0 ≤ 8 * U0; omega, by show 0 + 32 * U0 ≤ 32 * U0; omega⟩
  unfold wFX9_sum at w
  refine g_aload_n O dX9_sum_0 rfl ?_
  refine g_iload_n O dX9_sum_1 rfl ?_
  obtain ⟨c1, U2, e3, w⟩ := w
  have hk9 := kOk.eq hk e3
  refine g_fq O hN hQ (kOk.fa hk9) (grx_V (lay := 7) (nA := 1) (As := [.int x1]) (rest := []) O hRm (kFX9_product _ O.2.2.2.2.2.2.2.2 (cxE X) rf rl rE hE _ _ _ _ _ _ t hT (x1) _ xp w) (lw_V q1093 q1095 qs17 q135 q1096) rfl rfl (by decide +kernel) ⟨(by show rf + 11 + 1 ≤ rf + 12; omega), (by show 8 + (4 + 11) + (rl + 259) ≤ rl + 282; omega)⟩ ck7 (by decide) rfl hT rfl rfl rfl (Nat.le_of_ble_eq_true rfl) dX9_sum_2 (kOk.fa hk9)) (fun r7 z T L V4 P5 w => ?_)
  have hk6 := kOk.sa hk9
  obtain ⟨h8, hr9, w⟩ := w
  refine g_astore_n O dX9_sum_5 (Nat.le_of_ble_eq_true rfl) rfl (lv' := [some (.ref t), some (.int x1), some (.ref r7), none]) rfl ?_
  obtain ⟨n69, w⟩ := w
  refine vlFX9_sum_6 O hRm hN rE hE t (x1) post xp hQ _ (fun kc ks U66 z T L V64 P65 y68 hy68 hk67 w => ?_) n69 _ _ _ _ _ _ _ _ r7 h8 hr9 hk6 w
  refine g_aload_n O dX9_sum_57 rfl ?_
  exact gt_aret (r := some y68) (f := fun u => u) (u := (z, T, L, V64, P65)) O hQ (kOk.m hk67) (by first | exact Or.inl ⟨_, rfl⟩ | exact Or.inr ⟨_, rfl⟩) rfl ⟨_, rfl, w⟩ dX9_sum_58
-- X9_not
abbrev rFX9_not (rf rl U0 : Nat) : Room := { frames := rf + 13, cells := 8 * U0, slots := 32 * U0, locals := rl + 305 }
set_option maxHeartbeats 4000000 in
theorem vjFX9_not_23 {X : Cx} {U0 rf rl : Nat} (O : Okc X cX9_not RX9 5 (some (.object "ApartBench$Expr"))) (hRm : cxR X = (rFX9_not rf rl U0)) (hN : noTab X) (rE : rEF) (hE : hEF (cxL X) (cxE X) rf rl rE) {kc ks U z : Nat} {T L : Nat → Nat} {V : w_V} {P : w_P} (x0 : Nat) (hx0 : T x0 = 8) (x1 : Int32) (x2 : Int32) (t0 : Int32) (t1 : Nat) (ht1 : T t1 = 8) (post : Nat → Nat → (Nat → Nat) → (Nat → Nat) → w_V → w_P → Prop) (xp : w_Xp) (hk : kOk (rFX9_not rf rl U0) kc ks U) (hQ : cxMX X (va_Qq (qFn post) (wdF (cxE X)) (w_A (cxE X))) (xF xp) (rFX9_not rf rl U0).cells (rFX9_not rf rl U0).slots) (kb : Nat → Nat → (Nat → Nat) → (Nat → Nat) → w_V → w_P → Int32 → Prop) (hkb : ∀ (kc ks U z : Nat) (T L : Nat → Nat) (V : w_V) (P : w_P) (y2 : Int32) (_hx0 : T x0 = 8), kOk (rFX9_not rf rl U0) kc ks U → kb U z T L V P y2 → gW X kc ks z T L V P 2 [some (.ref x0), some (.int x1), some (.int y2), none, none] []) (w : jFX9_not_23 (cxE X).2.2.2.2 rE U z T L V P x0 x1 x2 t0 t1 post xp kb) : gW X kc ks z T L V P 23 [some (.ref x0), some (.int x1), some (.int x2), none, none] [.int t0, .ref t1] := by
  unfold jFX9_not_23 at w
  refine g_iconst (v := 2) O dX9_not_23 (by decide) ?_
  obtain ⟨c6, U7, e8, w⟩ := w
  have hk9 := kOk.eq hk e8
  refine g_fv O hN hQ (kOk.fa hk9) (grx_V (lay := 7) (nA := 2) (As := [.int t0, .int 2]) (rest := []) O hRm (kFX9_check _ O.2.2.2.2.2.2.2.2 (cxE X) _ _ _ _ _ _ t1 ht1 (t0) (2) _ xp w) (lw_V q1028 q1030 qs8 q135 q1031) rfl rfl (by decide +kernel) ⟨(by show 6 + 1 ≤ rf + 13; omega), (by show 8 + (3 + 11) + 92 ≤ rl + 305; omega)⟩ ck7 (by decide) rfl ht1 rfl rfl rfl (Nat.le_of_ble_eq_true rfl) dX9_not_24 (kOk.fa hk9)) (fun z T L V9 P10 w => ?_)
  have hk11 := kOk.sa hk9
  obtain ⟨h13, w⟩ := w
  refine g_aload_n O dX9_not_27 rfl ?_
  obtain ⟨c14, U15, e16, w⟩ := w
  have hk9 := kOk.eq hk11 e16
  refine g_mv (gr_V (lay := 7) (nA := 0) (As := []) (rest := []) O hRm (kFX9_go _ O.2.2.2.2.2.2.2.2 (cxE X) _ _ _ _ _ _ x0 h13 _ w) (lw_V q915 q917 qs5 q135 q918) rfl rfl (by decide +kernel) ⟨(by show 8 + 1 ≤ rf + 13; omega), (by show 8 + (3 + 11) + 192 ≤ rl + 305; omega)⟩ ck7 (by decide) rfl h13 rfl rfl rfl (Nat.le_of_ble_eq_true rfl) dX9_not_28 (kOk.fa hk9)) (fun z T L V17 P18 w => ?_)
  have hk19 := kOk.sa hk9
  obtain ⟨h21, w⟩ := w
  refine g_iinc (v := (x2 + 1)) O dX9_not_31 rfl rfl rfl (lv' := [some (.ref x0), some (.int x1), some (.int (x2 + 1)), none, none]) rfl ?_
  refine g_goto (tgt := 2) O dX9_not_34 (by decide) ?_
  exact hkb _ _ _ _ _ _ _ _ ((x2 + 1)) h21 hk19 w
set_option maxHeartbeats 4000000 in
theorem vlFX9_not_2 {X : Cx} {U0 rf rl : Nat} (O : Okc X cX9_not RX9 5 (some (.object "ApartBench$Expr"))) (hRm : cxR X = (rFX9_not rf rl U0)) (hN : noTab X) (rE : rEF) (hE : hEF (cxL X) (cxE X) rf rl rE) (x0 : Nat) (x1 : Int32) (post : Nat → Nat → (Nat → Nat) → (Nat → Nat) → w_V → w_P → Prop) (xp : w_Xp) (hQ : cxMX X (va_Qq (qFn post) (wdF (cxE X)) (w_A (cxE X))) (xF xp) (rFX9_not rf rl U0).cells (rFX9_not rf rl U0).slots) (ke_37 : Nat → Nat → (Nat → Nat) → (Nat → Nat) → w_V → w_P → Int32 → Prop) (hke_37 : ∀ (kc ks U z : Nat) (T L : Nat → Nat) (V : w_V) (P : w_P) (y2 : Int32) (_hx0 : T x0 = 8), kOk (rFX9_not rf rl U0) kc ks U → ke_37 U z T L V P y2 → gW X kc ks z T L V P 37 [some (.ref x0), some (.int x1), some (.int y2), none, none] []) : ∀ (n kc ks U z : Nat) (T L : Nat → Nat) (V : w_V) (P : w_P) (x2 : Int32) (hx0 : T x0 = 8), kOk (rFX9_not rf rl U0) kc ks U → lFX9_not_2 (cxE X).2.2.2.2 rE x0 x1 post xp ke_37 n U z T L V P x2 → gW X kc ks z T L V P 2 [some (.ref x0), some (.int x1), some (.int x2), none, none] [] := by
  intro n
  induction n with
  | zero =>
    intro kc ks U z T L V P x2 hx0 hk w
    exact w.elim
  | succ n ih =>
    intro kc ks U z T L V P x2 hx0 hk w
    unfold lFX9_not_2 at w
    refine g_aload_n O dX9_not_2 rfl ?_
    refine gx_ldc (i := 23) (tx := [110, 111, 116]) O rfl rfl dX9_not_3 (fun s1 hs2 hz => ?_)
    replace w := w s1 hz
    refine g_ri0 (gr_V (lay := 7) (nA := 1) (As := [.ref s1]) (rest := []) O hRm (kX9_is _ O.2.2.2.2.2.2.2.2 _ _ _ _ _ _ x0 hx0 s1 [110, 111, 116] hs2 _ w) (lw_V q1017 q1019 qs7 q135 q1020) rfl rfl (by decide +kernel) ⟨(by show 3 + 1 ≤ rf + 13; omega), (by show 8 + (2 + 11) + 56 ≤ rl + 305; omega)⟩ ck7 (by decide) rfl hx0 rfl rfl rfl (Nat.le_of_ble_eq_true rfl) dX9_not_5 (kOk.f0 hk)) (fun r3 w => ?_)
    have hk := kOk.s0 hk
    refine g_if_eq (tgt := 37) O w dX9_not_8 (by decide) (fun w => ?_) (fun w => ?_)
    · exact hke_37 _ _ _ _ _ _ _ _ (x2) hx0 hk w
    · refine g_aload_n O dX9_not_11 rfl ?_
      refine g_iload_n O dX9_not_12 rfl ?_
      refine g_bipush (v := 6) O dX9_not_13 (by decide) ?_
      refine g_icmp_ge (tgt := 22) O w dX9_not_15 (by decide) (fun w => ?_) (fun w => ?_)
      · refine g_iconst (v := 0) O dX9_not_22 (by decide) ?_
        exact vjFX9_not_23 O hRm hN rE hE x0 hx0 (x1) (x2) (0) x0 hx0 post xp hk hQ (lFX9_not_2 (cxE X).2.2.2.2 rE x0 x1 post xp ke_37 n) ih w
      · refine g_iconst (v := 1) O dX9_not_18 (by decide) ?_
        refine g_goto (tgt := 23) O dX9_not_19 (by decide) ?_
        exact vjFX9_not_23 O hRm hN rE hE x0 hx0 (x1) (x2) (1) x0 hx0 post xp hk hQ (lFX9_not_2 (cxE X).2.2.2.2 rE x0 x1 post xp ke_37 n) ih w
set_option maxHeartbeats 4000000 in
theorem vlFX9_not_91 {X : Cx} {U0 rf rl : Nat} (O : Okc X cX9_not RX9 5 (some (.object "ApartBench$Expr"))) (hRm : cxR X = (rFX9_not rf rl U0)) (hN : noTab X) (rE : rEF) (hE : hEF (cxL X) (cxE X) rf rl rE) (post : Nat → Nat → (Nat → Nat) → (Nat → Nat) → w_V → w_P → Prop) (xp : w_Xp) (hQ : cxMX X (va_Qq (qFn post) (wdF (cxE X)) (w_A (cxE X))) (xF xp) (rFX9_not rf rl U0).cells (rFX9_not rf rl U0).slots) (ke_110 : Nat → Nat → (Nat → Nat) → (Nat → Nat) → w_V → w_P → Nat → Prop) (hke_110 : ∀ (kc ks U z : Nat) (T L : Nat → Nat) (V : w_V) (P : w_P) (y3 : Nat) (_hy3 : eT T y3), kOk (rFX9_not rf rl U0) kc ks U → ke_110 U z T L V P y3 → gW X kc ks z T L V P 110 [none, none, none, some (.ref y3), none] []) : ∀ (n kc ks U z : Nat) (T L : Nat → Nat) (V : w_V) (P : w_P) (x2 : Int32) (x3 : Nat) (hx3 : eT T x3), kOk (rFX9_not rf rl U0) kc ks U → lFX9_not_91 (cxE X).2.2.2.2 rE post xp ke_110 n U z T L V P x2 x3 → gW X kc ks z T L V P 91 [none, none, some (.int x2), some (.ref x3), none] [] := by
  intro n
  induction n with
  | zero =>
    intro kc ks U z T L V P x2 x3 hx3 hk w
    exact w.elim
  | succ n ih =>
    intro kc ks U z T L V P x2 x3 hx3 hk w
    unfold lFX9_not_91 at w
    refine g_iload_n O dX9_not_91 rfl ?_
    refine g_if_le (tgt := 110) O w dX9_not_92 (by decide) (fun w => ?_) (fun w => ?_)
    · refine g_drop [2] (lv' := [none, none, none, some (.ref x3), none]) rfl ?_
      exact hke_110 _ _ _ _ _ _ _ _ x3 hx3 hk w
    · obtain ⟨U90, e91, w⟩ := w
      have hk9 := kOk.eq hk e91
      refine gq_new (lay := 11) (u := 1) O hRm ck11 (by decide) rfl (by decide +kernel) q1183 q1184 q142 hk9 (by decide) (by decide) dX9_not_95 (fun o85 z T L V86 P87 hk88 hn89 => ?_)
      replace w := w o85 z T L V86 P87 hn89
      obtain ⟨h92, w⟩ := w
      refine g_dup O dX9_not_98 rfl ?_
      refine g_aload_n O dX9_not_99 rfl ?_
      obtain ⟨c93, U94, e95, w⟩ := w
      have hk9 := kOk.eq hk88 e95
      refine g_mv (gr_I (nA := 1) (As := [.ref x3]) (rest := [.ref o85]) O hRm (kFX15_init _ O.2.2.2.2.2.2.2.2 (cxE X) _ _ _ _ _ _ o85 hn89.t x3 h92 _ w) (lw_meth q1187) q1185 q1186 q142 rfl rfl rfl (by decide +kernel) ⟨(by show 4 + 1 ≤ rf + 13; omega), (by show 8 + (2 + 11) + 80 ≤ rl + 305; omega)⟩ rfl rfl rfl (Nat.le_of_ble_eq_true rfl) dX9_not_100 (kOk.fa hk9)) (fun z T L V96 P97 w => ?_)
      have hk98 := kOk.sa hk9
      obtain ⟨h100, w⟩ := w
      refine g_astore_n O dX9_not_103 (Nat.le_of_ble_eq_true rfl) rfl (lv' := [none, none, some (.int x2), some (.ref o85), none]) rfl ?_
      refine g_iinc (v := (x2 + (-1))) O dX9_not_104 rfl rfl rfl (lv' := [none, none, some (.int (x2 + (-1))), some (.ref o85), none]) rfl ?_
      refine g_goto (tgt := 91) O dX9_not_107 (by decide) ?_
      exact ih _ _ _ _ _ _ _ _ ((x2 + (-1))) o85 (Or.inr (Or.inr (Or.inr h100))) hk98 w
set_option maxHeartbeats 4000000 in
theorem vjFX9_not_61 {X : Cx} {U0 rf rl : Nat} (O : Okc X cX9_not RX9 5 (some (.object "ApartBench$Expr"))) (hRm : cxR X = (rFX9_not rf rl U0)) (hN : noTab X) (rE : rEF) (hE : hEF (cxL X) (cxE X) rf rl rE) {kc ks U z : Nat} {T L : Nat → Nat} {V : w_V} {P : w_P} (x0 : Nat) (hx0 : T x0 = 8) (x1 : Int32) (x2 : Int32) (x3 : Nat) (hx3 : eT T x3) (post : Nat → Nat → (Nat → Nat) → (Nat → Nat) → w_V → w_P → Prop) (xp : w_Xp) (hk : kOk (rFX9_not rf rl U0) kc ks U) (hQ : cxMX X (va_Qq (qFn post) (wdF (cxE X)) (w_A (cxE X))) (xF xp) (rFX9_not rf rl U0).cells (rFX9_not rf rl U0).slots) (w : jFX9_not_61 (cxE X).2.2.2.2 rE U z T L V P x0 x1 x2 x3 post xp) : gW X kc ks z T L V P 61 [some (.ref x0), some (.int x1), some (.int x2), some (.ref x3), none] [] := by
  unfold jFX9_not_61 at w
  refine g_aload_n O dX9_not_61 rfl ?_
  obtain ⟨b43, hp44, ht45, w⟩ := w
  refine gx_getR (lay := 7) (j := 7) O ck7 (by decide) rfl rfl hp44 (by decide) hx0 q989 dX9_not_62 ?_
  refine g_iconst (v := 0) O dX9_not_65 (by decide) ?_
  refine g_ri0 (gr_V (lay := 17) (nA := 1) (As := [.int 0]) (rest := []) O hRm (kJ9_charAt _ O.2.2.2.2.2.2.2.2 _ _ _ _ _ _ b43 ht45 (0) _ w) (lw_V q1148 q1149 q1150 q117 q1151) rfl rfl (by decide +kernel) ⟨(by show 4 + 1 ≤ rf + 13; omega), (by show 8 + (2 + 11) + 76 ≤ rl + 305; omega)⟩ ck17 (by decide) rfl ht45 rfl rfl rfl (Nat.le_of_ble_eq_true rfl) dX9_not_66 (kOk.f0 hk)) (fun r46 w => ?_)
  have hk := kOk.s0 hk
  refine g_istore O dX9_not_69 (Nat.le_of_ble_eq_true rfl) rfl (lv' := [some (.ref x0), some (.int x1), some (.int x2), some (.ref x3), some (.int r46)]) rfl ?_
  refine g_aload_n O dX9_not_71 rfl ?_
  obtain ⟨c49, U50, e51, w⟩ := w
  have hk9 := kOk.eq hk e51
  refine g_mv (gr_V (lay := 7) (nA := 0) (As := []) (rest := []) O hRm (kFX9_go _ O.2.2.2.2.2.2.2.2 (cxE X) _ _ _ _ _ _ x0 hx0 _ w) (lw_V q915 q917 qs5 q135 q918) rfl rfl (by decide +kernel) ⟨(by show 8 + 1 ≤ rf + 13; omega), (by show 8 + (3 + 11) + 192 ≤ rl + 305; omega)⟩ ck7 (by decide) rfl hx0 rfl rfl rfl (Nat.le_of_ble_eq_true rfl) dX9_not_72 (kOk.fa hk9)) (fun z T L V52 P53 w => ?_)
  have hk54 := kOk.sa hk9
  obtain ⟨h56, h57, w⟩ := w
  obtain ⟨U63, e64, w⟩ := w
  have hk9 := kOk.eq hk54 e64
  refine gq_new (lay := 10) (u := 1) O hRm ck10 (by decide) rfl (by decide +kernel) q1163 q1164 q141 hk9 (by decide) (by decide) dX9_not_75 (fun o58 z T L V59 P60 hk61 hn62 => ?_)
  replace w := w o58 z T L V59 P60 hn62
  obtain ⟨h65, h66, w⟩ := w
  refine g_dup O dX9_not_78 rfl ?_
  refine g_iload O dX9_not_79 rfl ?_
  refine g_aload_n O dX9_not_81 rfl ?_
  refine g_aload_n O dX9_not_82 rfl ?_
  refine g_iload_n O dX9_not_83 rfl ?_
  obtain ⟨c67, U68, e69, w⟩ := w
  have hk9 := kOk.eq hk61 e69
  refine g_fq O hN hQ (kOk.fa hk9) (grx_V (lay := 7) (nA := 1) (As := [.int x1]) (rest := [.ref x3, .int r46, .ref o58, .ref o58]) O hRm (kFX9_sum _ O.2.2.2.2.2.2.2.2 (cxE X) rf rl rE hE _ _ _ _ _ _ x0 h65 (x1) _ xp w) (lw_V q1089 q1091 qs16 q135 q1092) rfl rfl (by decide +kernel) ⟨(by show rf + 12 + 1 ≤ rf + 13; omega), (by show 8 + (4 + 11) + (rl + 282) ≤ rl + 305; omega)⟩ ck7 (by decide) rfl h65 rfl rfl rfl (Nat.le_of_ble_eq_true rfl) dX9_not_84 (kOk.fa hk9)) (fun r73 z T L V70 P71 w => ?_)
  have hk72 := kOk.sa hk9
  obtain ⟨h74, h75, hr76, w⟩ := w
  obtain ⟨c77, U78, e79, w⟩ := w
  have hk9 := kOk.eq hk72 e79
  refine g_mv (gr_I (nA := 3) (As := [.int r46, .ref x3, .ref r73]) (rest := [.ref o58]) O hRm (kFX14_init _ O.2.2.2.2.2.2.2.2 (cxE X) _ _ _ _ _ _ o58 h75 (r46) x3 h74 r73 hr76 _ w) (lw_meth q1167) q1165 q1166 q141 rfl rfl rfl (by decide +kernel) ⟨(by show 4 + 1 ≤ rf + 13; omega), (by show 8 + (4 + 11) + 80 ≤ rl + 305; omega)⟩ rfl rfl rfl (Nat.le_of_ble_eq_true rfl) dX9_not_87 (kOk.fa hk9)) (fun z T L V80 P81 w => ?_)
  have hk82 := kOk.sa hk9
  obtain ⟨h84, w⟩ := w
  refine g_astore_n O dX9_not_90 (Nat.le_of_ble_eq_true rfl) rfl (lv' := [some (.ref x0), some (.int x1), some (.int x2), some (.ref o58), some (.int r46)]) rfl ?_
  obtain ⟨n106, w⟩ := w
  refine g_drop [0, 1, 4] (lv' := [none, none, some (.int x2), some (.ref o58), none]) rfl ?_
  refine vlFX9_not_91 O hRm hN rE hE post xp hQ _ (fun kc ks U103 z T L V101 P102 y105 hy105 hk104 w => ?_) n106 _ _ _ _ _ _ _ _ (x2) o58 (Or.inr (Or.inr (Or.inl h84))) hk82 w
  refine g_aload_n O dX9_not_110 rfl ?_
  exact gt_aret (r := some y105) (f := fun u => u) (u := (z, T, L, V101, P102)) O hQ (kOk.m hk104) (by first | exact Or.inl ⟨_, rfl⟩ | exact Or.inr ⟨_, rfl⟩) rfl ⟨_, rfl, w⟩ dX9_not_111
set_option maxHeartbeats 4000000 in
theorem kFX9_not (l : Launch) (hfl : l.flags = flags0) (E : w_E) (rf rl : Nat) (rE : rEF) (hE : hEF l E rf rl rE) (U0 z : Nat) (T L : Nat → Nat) (V : w_V) (P : w_P) (t : Nat) (hT : T t = 8) (x1 : Int32) (post : Nat → Nat → (Nat → Nat) → (Nat → Nat) → w_V → w_P → Prop) (xp : w_Xp) (w : wFX9_not E.2.2.2.2 rE U0 z T L V P t x1 post xp) : vx_Met l yX9_not (ws_ yX9_not cX9_not 5 (some (.object "ApartBench$Expr"))) (rFX9_not rf rl U0) (va_Pc [.ref t, .int x1] (fun U => kenv E U ∧ wdW E (z, T, L, V, P) U.heap)) (va_Qq (qFn post) (wdF E) (w_A E)) (xcX E (xF xp)) (8 * U0) (32 * U0) (w_A E) := by
  refine g_startF (w := (z, T, L, V, P)) hfl (by decide +kernel) rfl [some (.ref t), some (.int x1), none, none, none] rfl (fun _ h => h) (Nat.le_of_ble_eq_true rfl) (fun X hl hRm hEe O hN hI hQ => ?_)
  subst hl
  subst hEe
  have hk : kOk (rFX9_not rf rl U0) 0 0 U0 := ⟨by show 0 + 8 * U0 ≤ 8 * U0; omega, by show 0 + 32 * U0 ≤ 32 * U0; omega⟩
  unfold wFX9_not at w
  refine g_iconst (v := 0) O dX9_not_0 (by decide) ?_
  refine g_istore_n O dX9_not_1 (Nat.le_of_ble_eq_true rfl) rfl (lv' := [some (.ref t), some (.int x1), some (.int 0), none, none]) rfl ?_
  obtain ⟨n118, w⟩ := w
  refine vlFX9_not_2 O hRm hN rE hE t (x1) post xp hQ _ (fun kc ks U24 z T L V22 P23 y28 h26 hk25 w => ?_) n118 _ _ _ _ _ _ _ _ (0) hT hk w
  refine g_aload_n O dX9_not_37 rfl ?_
  refine g_iload_n O dX9_not_38 rfl ?_
  obtain ⟨c29, U30, e31, w⟩ := w
  have hk9 := kOk.eq hk25 e31
  refine g_fq O hN hQ (kOk.fa hk9) (grx_V (lay := 7) (nA := 1) (As := [.int x1]) (rest := []) O hRm (kFX9_sum _ O.2.2.2.2.2.2.2.2 (cxE X) rf rl rE hE _ _ _ _ _ _ t h26 (x1) _ xp w) (lw_V q1089 q1091 qs16 q135 q1092) rfl rfl (by decide +kernel) ⟨(by show rf + 12 + 1 ≤ rf + 13; omega), (by show 8 + (4 + 11) + (rl + 282) ≤ rl + 305; omega)⟩ ck7 (by decide) rfl h26 rfl rfl rfl (Nat.le_of_ble_eq_true rfl) dX9_not_39 (kOk.fa hk9)) (fun r35 z T L V32 P33 w => ?_)
  have hk34 := kOk.sa hk9
  obtain ⟨h36, hr37, w⟩ := w
  refine g_astore_n O dX9_not_42 (Nat.le_of_ble_eq_true rfl) rfl (lv' := [some (.ref t), some (.int x1), some (.int y28), some (.ref r35), none]) rfl ?_
  refine g_aload_n O dX9_not_43 rfl ?_
  refine gx_ldc (i := 33) (tx := [60]) O rfl rfl dX9_not_44 (fun s38 hs39 hz => ?_)
  replace w := w s38 hz
  refine g_ri0 (gr_V (lay := 7) (nA := 1) (As := [.ref s38]) (rest := []) O hRm (kX9_is _ O.2.2.2.2.2.2.2.2 _ _ _ _ _ _ t h36 s38 [60] hs39 _ w) (lw_V q1017 q1019 qs7 q135 q1020) rfl rfl (by decide +kernel) ⟨(by show 3 + 1 ≤ rf + 13; omega), (by show 8 + (2 + 11) + 56 ≤ rl + 305; omega)⟩ ck7 (by decide) rfl h36 rfl rfl rfl (Nat.le_of_ble_eq_true rfl) dX9_not_46 (kOk.f0 hk34)) (fun r40 w => ?_)
  have hk34 := kOk.s0 hk34
  refine g_if_ne (tgt := 61) O w dX9_not_49 (by decide) (fun w => ?_) (fun w => ?_)
  · exact vjFX9_not_61 O hRm hN rE hE t h36 (x1) (y28) r35 hr37 post xp hk34 hQ w
  · refine g_aload_n O dX9_not_52 rfl ?_
    refine gx_ldc (i := 34) (tx := [61]) O rfl rfl dX9_not_53 (fun s107 hs108 hz => ?_)
    replace w := w s107 hz
    refine g_ri0 (gr_V (lay := 7) (nA := 1) (As := [.ref s107]) (rest := []) O hRm (kX9_is _ O.2.2.2.2.2.2.2.2 _ _ _ _ _ _ t h36 s107 [61] hs108 _ w) (lw_V q1017 q1019 qs7 q135 q1020) rfl rfl (by decide +kernel) ⟨(by show 3 + 1 ≤ rf + 13; omega), (by show 8 + (2 + 11) + 56 ≤ rl + 305; omega)⟩ ck7 (by decide) rfl h36 rfl rfl rfl (Nat.le_of_ble_eq_true rfl) dX9_not_55 (kOk.f0 hk34)) (fun r109 w => ?_)
    have hk34 := kOk.s0 hk34
    refine g_if_eq (tgt := 91) O w dX9_not_58 (by decide) (fun w => ?_) (fun w => ?_)
    · obtain ⟨n117, w⟩ := w
      refine g_drop [0, 1] (lv' := [none, none, some (.int y28), some (.ref r35), none]) rfl ?_
      refine vlFX9_not_91 O hRm hN rE hE post xp hQ _ (fun kc ks U114 z T L V112 P113 y116 hy116 hk115 w => ?_) n117 _ _ _ _ _ _ _ _ (y28) r35 hr37 hk34 w
      refine g_aload_n O dX9_not_110 rfl ?_
      exact gt_aret (r := some y116) (f := fun u => u) (u := (z, T, L, V112, P113)) O hQ (kOk.m hk115) (by first | exact Or.inl ⟨_, rfl⟩ | exact Or.inr ⟨_, rfl⟩) rfl ⟨_, rfl, w⟩ dX9_not_111
    · exact vjFX9_not_61 O hRm hN rE hE t h36 (x1) (y28) r35 hr37 post xp hk34 hQ w
-- X9_and
abbrev rFX9_and (rf rl U0 : Nat) : Room := { frames := rf + 14, cells := 8 * U0, slots := 32 * U0, locals := rl + 329 }
set_option maxHeartbeats 4000000 in
theorem vlFX9_and_6 {X : Cx} {U0 rf rl : Nat} (O : Okc X cX9_and RX9 3 (some (.object "ApartBench$Expr"))) (hRm : cxR X = (rFX9_and rf rl U0)) (hN : noTab X) (rE : rEF) (hE : hEF (cxL X) (cxE X) rf rl rE) (x0 : Nat) (x1 : Int32) (post : Nat → Nat → (Nat → Nat) → (Nat → Nat) → w_V → w_P → Prop) (xp : w_Xp) (hQ : cxMX X (va_Qq (qFn post) (wdF (cxE X)) (w_A (cxE X))) (xF xp) (rFX9_and rf rl U0).cells (rFX9_and rf rl U0).slots) (ke_38 : Nat → Nat → (Nat → Nat) → (Nat → Nat) → w_V → w_P → Nat → Prop) (hke_38 : ∀ (kc ks U z : Nat) (T L : Nat → Nat) (V : w_V) (P : w_P) (y2 : Nat) (_hy2 : eT T y2), kOk (rFX9_and rf rl U0) kc ks U → ke_38 U z T L V P y2 → gW X kc ks z T L V P 38 [none, none, some (.ref y2)] []) : ∀ (n kc ks U z : Nat) (T L : Nat → Nat) (V : w_V) (P : w_P) (x2 : Nat) (hx0 : T x0 = 8) (hx2 : eT T x2), kOk (rFX9_and rf rl U0) kc ks U → lFX9_and_6 (cxE X).2.2.2.2 rE x0 x1 post xp ke_38 n U z T L V P x2 → gW X kc ks z T L V P 6 [some (.ref x0), some (.int x1), some (.ref x2)] [] := by
  intro n
  induction n with
  | zero =>
    intro kc ks U z T L V P x2 hx0 hx2 hk w
    exact w.elim
  | succ n ih =>
    intro kc ks U z T L V P x2 hx0 hx2 hk w
    unfold lFX9_and_6 at w
    refine g_aload_n O dX9_and_6 rfl ?_
    refine gx_ldc (i := 35) (tx := [97, 110, 100]) O rfl rfl dX9_and_7 (fun s10 hs11 hz => ?_)
    replace w := w s10 hz
    refine g_ri0 (gr_V (lay := 7) (nA := 1) (As := [.ref s10]) (rest := []) O hRm (kX9_is _ O.2.2.2.2.2.2.2.2 _ _ _ _ _ _ x0 hx0 s10 [97, 110, 100] hs11 _ w) (lw_V q1017 q1019 qs7 q135 q1020) rfl rfl (by decide +kernel) ⟨(by show 3 + 1 ≤ rf + 14; omega), (by show 8 + (2 + 11) + 56 ≤ rl + 329; omega)⟩ ck7 (by decide) rfl hx0 rfl rfl rfl (Nat.le_of_ble_eq_true rfl) dX9_and_9 (kOk.f0 hk)) (fun r12 w => ?_)
    have hk := kOk.s0 hk
    refine g_if_eq (tgt := 38) O w dX9_and_12 (by decide) (fun w => ?_) (fun w => ?_)
    · refine g_drop [0, 1] (lv' := [none, none, some (.ref x2)]) rfl ?_
      exact hke_38 _ _ _ _ _ _ _ _ x2 hx2 hk w
    · refine g_aload_n O dX9_and_15 rfl ?_
      obtain ⟨c15, U16, e17, w⟩ := w
      have hk9 := kOk.eq hk e17
      refine g_mv (gr_V (lay := 7) (nA := 0) (As := []) (rest := []) O hRm (kFX9_go _ O.2.2.2.2.2.2.2.2 (cxE X) _ _ _ _ _ _ x0 hx0 _ w) (lw_V q915 q917 qs5 q135 q918) rfl rfl (by decide +kernel) ⟨(by show 8 + 1 ≤ rf + 14; omega), (by show 8 + (3 + 11) + 192 ≤ rl + 329; omega)⟩ ck7 (by decide) rfl hx0 rfl rfl rfl (Nat.le_of_ble_eq_true rfl) dX9_and_16 (kOk.fa hk9)) (fun z T L V18 P19 w => ?_)
      have hk20 := kOk.sa hk9
      obtain ⟨h22, h23, w⟩ := w
      obtain ⟨U29, e30, w⟩ := w
      have hk9 := kOk.eq hk20 e30
      refine gq_new (lay := 10) (u := 1) O hRm ck10 (by decide) rfl (by decide +kernel) q1163 q1164 q141 hk9 (by decide) (by decide) dX9_and_19 (fun o24 z T L V25 P26 hk27 hn28 => ?_)
      replace w := w o24 z T L V25 P26 hn28
      obtain ⟨h31, h32, w⟩ := w
      refine g_dup O dX9_and_22 rfl ?_
      refine g_bipush (v := 38) O dX9_and_23 (by decide) ?_
      refine g_aload_n O dX9_and_25 rfl ?_
      refine g_aload_n O dX9_and_26 rfl ?_
      refine g_iload_n O dX9_and_27 rfl ?_
      obtain ⟨c33, U34, e35, w⟩ := w
      have hk9 := kOk.eq hk27 e35
      refine g_fq O hN hQ (kOk.fa hk9) (grx_V (lay := 7) (nA := 1) (As := [.int x1]) (rest := [.ref x2, .int 38, .ref o24, .ref o24]) O hRm (kFX9_not _ O.2.2.2.2.2.2.2.2 (cxE X) rf rl rE hE _ _ _ _ _ _ x0 h31 (x1) _ xp w) (lw_V q1084 q1086 qs15 q135 q1087) rfl rfl (by decide +kernel) ⟨(by show rf + 13 + 1 ≤ rf + 14; omega), (by show 8 + (5 + 11) + (rl + 305) ≤ rl + 329; omega)⟩ ck7 (by decide) rfl h31 rfl rfl rfl (Nat.le_of_ble_eq_true rfl) dX9_and_28 (kOk.fa hk9)) (fun r39 z T L V36 P37 w => ?_)
      have hk38 := kOk.sa hk9
      obtain ⟨h40, h41, h42, hr43, w⟩ := w
      obtain ⟨c44, U45, e46, w⟩ := w
      have hk9 := kOk.eq hk38 e46
      refine g_mv (gr_I (nA := 3) (As := [.int 38, .ref x2, .ref r39]) (rest := [.ref o24]) O hRm (kFX14_init _ O.2.2.2.2.2.2.2.2 (cxE X) _ _ _ _ _ _ o24 h41 (38) x2 h40 r39 hr43 _ w) (lw_meth q1167) q1165 q1166 q141 rfl rfl rfl (by decide +kernel) ⟨(by show 4 + 1 ≤ rf + 14; omega), (by show 8 + (4 + 11) + 80 ≤ rl + 329; omega)⟩ rfl rfl rfl (Nat.le_of_ble_eq_true rfl) dX9_and_31 (kOk.fa hk9)) (fun z T L V47 P48 w => ?_)
      have hk49 := kOk.sa hk9
      obtain ⟨h51, h52, w⟩ := w
      refine g_astore_n O dX9_and_34 (Nat.le_of_ble_eq_true rfl) rfl (lv' := [some (.ref x0), some (.int x1), some (.ref o24)]) rfl ?_
      refine g_goto (tgt := 6) O dX9_and_35 (by decide) ?_
      exact ih _ _ _ _ _ _ _ _ o24 h52 (Or.inr (Or.inr (Or.inl h51))) hk49 w
set_option maxHeartbeats 4000000 in
theorem kFX9_and (l : Launch) (hfl : l.flags = flags0) (E : w_E) (rf rl : Nat) (rE : rEF) (hE : hEF l E rf rl rE) (U0 z : Nat) (T L : Nat → Nat) (V : w_V) (P : w_P) (t : Nat) (hT : T t = 8) (x1 : Int32) (post : Nat → Nat → (Nat → Nat) → (Nat → Nat) → w_V → w_P → Prop) (xp : w_Xp) (w : wFX9_and E.2.2.2.2 rE U0 z T L V P t x1 post xp) : vx_Met l yX9_and (ws_ yX9_and cX9_and 3 (some (.object "ApartBench$Expr"))) (rFX9_and rf rl U0) (va_Pc [.ref t, .int x1] (fun U => kenv E U ∧ wdW E (z, T, L, V, P) U.heap)) (va_Qq (qFn post) (wdF E) (w_A E)) (xcX E (xF xp)) (8 * U0) (32 * U0) (w_A E) := by
  refine g_startF (w := (z, T, L, V, P)) hfl (by decide +kernel) rfl [some (.ref t), some (.int x1), none] rfl (fun _ h => h) (Nat.le_of_ble_eq_true rfl) (fun X hl hRm hEe O hN hI hQ => ?_)
  subst hl
  subst hEe
  have hk : kOk (rFX9_and rf rl U0) 0 0 U0 := ⟨by show 0 + 8 * U0 ≤ 8 * U0; omega, by show 0 + 32 * U0 ≤ 32 * U0; omega⟩
  unfold wFX9_and at w
  refine g_aload_n O dX9_and_0 rfl ?_
  refine g_iload_n O dX9_and_1 rfl ?_
  obtain ⟨c1, U2, e3, w⟩ := w
  have hk9 := kOk.eq hk e3
  refine g_fq O hN hQ (kOk.fa hk9) (grx_V (lay := 7) (nA := 1) (As := [.int x1]) (rest := []) O hRm (kFX9_not _ O.2.2.2.2.2.2.2.2 (cxE X) rf rl rE hE _ _ _ _ _ _ t hT (x1) _ xp w) (lw_V q1084 q1086 qs15 q135 q1087) rfl rfl (by decide +kernel) ⟨(by show rf + 13 + 1 ≤ rf + 14; omega), (by show 8 + (5 + 11) + (rl + 305) ≤ rl + 329; omega)⟩ ck7 (by decide) rfl hT rfl rfl rfl (Nat.le_of_ble_eq_true rfl) dX9_and_2 (kOk.fa hk9)) (fun r7 z T L V4 P5 w => ?_)
  have hk6 := kOk.sa hk9
  obtain ⟨h8, hr9, w⟩ := w
  refine g_astore_n O dX9_and_5 (Nat.le_of_ble_eq_true rfl) rfl (lv' := [some (.ref t), some (.int x1), some (.ref r7)]) rfl ?_
  obtain ⟨n58, w⟩ := w
  refine vlFX9_and_6 O hRm hN rE hE t (x1) post xp hQ _ (fun kc ks U55 z T L V53 P54 y57 hy57 hk56 w => ?_) n58 _ _ _ _ _ _ _ _ r7 h8 hr9 hk6 w
  refine g_aload_n O dX9_and_38 rfl ?_
  exact gt_aret (r := some y57) (f := fun u => u) (u := (z, T, L, V53, P54)) O hQ (kOk.m hk56) (by first | exact Or.inl ⟨_, rfl⟩ | exact Or.inr ⟨_, rfl⟩) rfl ⟨_, rfl, w⟩ dX9_and_39
-- X9_expr
abbrev rFX9_expr (rf rl U0 : Nat) : Room := { frames := rf + 15, cells := 8 * U0, slots := 32 * U0, locals := rl + 351 }
set_option maxHeartbeats 4000000 in
theorem vlFX9_expr_51 {X : Cx} {U0 rf rl : Nat} (O : Okc X cX9_expr RX9 3 (some (.object "ApartBench$Expr"))) (hRm : cxR X = (rFX9_expr rf rl U0)) (hN : noTab X) (rE : rEF) (hE : hEF (cxL X) (cxE X) rf rl rE) (x0 : Nat) (x1 : Int32) (post : Nat → Nat → (Nat → Nat) → (Nat → Nat) → w_V → w_P → Prop) (xp : w_Xp) (hQ : cxMX X (va_Qq (qFn post) (wdF (cxE X)) (w_A (cxE X))) (xF xp) (rFX9_expr rf rl U0).cells (rFX9_expr rf rl U0).slots) (ke_83 : Nat → Nat → (Nat → Nat) → (Nat → Nat) → w_V → w_P → Nat → Prop) (hke_83 : ∀ (kc ks U z : Nat) (T L : Nat → Nat) (V : w_V) (P : w_P) (y2 : Nat) (_hy2 : eT T y2), kOk (rFX9_expr rf rl U0) kc ks U → ke_83 U z T L V P y2 → gW X kc ks z T L V P 83 [none, none, some (.ref y2)] []) : ∀ (n kc ks U z : Nat) (T L : Nat → Nat) (V : w_V) (P : w_P) (x2 : Nat) (hx0 : T x0 = 8) (hx2 : eT T x2), kOk (rFX9_expr rf rl U0) kc ks U → lFX9_expr_51 (cxE X).2.2.2.2 rE x0 x1 post xp ke_83 n U z T L V P x2 → gW X kc ks z T L V P 51 [some (.ref x0), some (.int x1), some (.ref x2)] [] := by
  intro n
  induction n with
  | zero =>
    intro kc ks U z T L V P x2 hx0 hx2 hk w
    exact w.elim
  | succ n ih =>
    intro kc ks U z T L V P x2 hx0 hx2 hk w
    unfold lFX9_expr_51 at w
    refine g_aload_n O dX9_expr_51 rfl ?_
    refine gx_ldc (i := 36) (tx := [111, 114]) O rfl rfl dX9_expr_52 (fun s10 hs11 hz => ?_)
    replace w := w s10 hz
    refine g_ri0 (gr_V (lay := 7) (nA := 1) (As := [.ref s10]) (rest := []) O hRm (kX9_is _ O.2.2.2.2.2.2.2.2 _ _ _ _ _ _ x0 hx0 s10 [111, 114] hs11 _ w) (lw_V q1017 q1019 qs7 q135 q1020) rfl rfl (by decide +kernel) ⟨(by show 3 + 1 ≤ rf + 15; omega), (by show 8 + (2 + 11) + 56 ≤ rl + 351; omega)⟩ ck7 (by decide) rfl hx0 rfl rfl rfl (Nat.le_of_ble_eq_true rfl) dX9_expr_54 (kOk.f0 hk)) (fun r12 w => ?_)
    have hk := kOk.s0 hk
    refine g_if_eq (tgt := 83) O w dX9_expr_57 (by decide) (fun w => ?_) (fun w => ?_)
    · refine g_drop [0, 1] (lv' := [none, none, some (.ref x2)]) rfl ?_
      exact hke_83 _ _ _ _ _ _ _ _ x2 hx2 hk w
    · refine g_aload_n O dX9_expr_60 rfl ?_
      obtain ⟨c15, U16, e17, w⟩ := w
      have hk9 := kOk.eq hk e17
      refine g_mv (gr_V (lay := 7) (nA := 0) (As := []) (rest := []) O hRm (kFX9_go _ O.2.2.2.2.2.2.2.2 (cxE X) _ _ _ _ _ _ x0 hx0 _ w) (lw_V q915 q917 qs5 q135 q918) rfl rfl (by decide +kernel) ⟨(by show 8 + 1 ≤ rf + 15; omega), (by show 8 + (3 + 11) + 192 ≤ rl + 351; omega)⟩ ck7 (by decide) rfl hx0 rfl rfl rfl (Nat.le_of_ble_eq_true rfl) dX9_expr_61 (kOk.fa hk9)) (fun z T L V18 P19 w => ?_)
      have hk20 := kOk.sa hk9
      obtain ⟨h22, h23, w⟩ := w
      obtain ⟨U29, e30, w⟩ := w
      have hk9 := kOk.eq hk20 e30
      refine gq_new (lay := 10) (u := 1) O hRm ck10 (by decide) rfl (by decide +kernel) q1163 q1164 q141 hk9 (by decide) (by decide) dX9_expr_64 (fun o24 z T L V25 P26 hk27 hn28 => ?_)
      replace w := w o24 z T L V25 P26 hn28
      obtain ⟨h31, h32, w⟩ := w
      refine g_dup O dX9_expr_67 rfl ?_
      refine g_bipush (v := 124) O dX9_expr_68 (by decide) ?_
      refine g_aload_n O dX9_expr_70 rfl ?_
      refine g_aload_n O dX9_expr_71 rfl ?_
      refine g_iload_n O dX9_expr_72 rfl ?_
      obtain ⟨c33, U34, e35, w⟩ := w
      have hk9 := kOk.eq hk27 e35
      refine g_fq O hN hQ (kOk.fa hk9) (grx_V (lay := 7) (nA := 1) (As := [.int x1]) (rest := [.ref x2, .int 124, .ref o24, .ref o24]) O hRm (kFX9_and _ O.2.2.2.2.2.2.2.2 (cxE X) rf rl rE hE _ _ _ _ _ _ x0 h31 (x1) _ xp w) (lw_V q1080 q1082 qs14 q135 q1083) rfl rfl (by decide +kernel) ⟨(by show rf + 14 + 1 ≤ rf + 15; omega), (by show 8 + (3 + 11) + (rl + 329) ≤ rl + 351; omega)⟩ ck7 (by decide) rfl h31 rfl rfl rfl (Nat.le_of_ble_eq_true rfl) dX9_expr_73 (kOk.fa hk9)) (fun r39 z T L V36 P37 w => ?_)
      have hk38 := kOk.sa hk9
      obtain ⟨h40, h41, h42, hr43, w⟩ := w
      obtain ⟨c44, U45, e46, w⟩ := w
      have hk9 := kOk.eq hk38 e46
      refine g_mv (gr_I (nA := 3) (As := [.int 124, .ref x2, .ref r39]) (rest := [.ref o24]) O hRm (kFX14_init _ O.2.2.2.2.2.2.2.2 (cxE X) _ _ _ _ _ _ o24 h41 (124) x2 h40 r39 hr43 _ w) (lw_meth q1167) q1165 q1166 q141 rfl rfl rfl (by decide +kernel) ⟨(by show 4 + 1 ≤ rf + 15; omega), (by show 8 + (4 + 11) + 80 ≤ rl + 351; omega)⟩ rfl rfl rfl (Nat.le_of_ble_eq_true rfl) dX9_expr_76 (kOk.fa hk9)) (fun z T L V47 P48 w => ?_)
      have hk49 := kOk.sa hk9
      obtain ⟨h51, h52, w⟩ := w
      refine g_astore_n O dX9_expr_79 (Nat.le_of_ble_eq_true rfl) rfl (lv' := [some (.ref x0), some (.int x1), some (.ref o24)]) rfl ?_
      refine g_goto (tgt := 51) O dX9_expr_80 (by decide) ?_
      exact ih _ _ _ _ _ _ _ _ o24 h52 (Or.inr (Or.inr (Or.inl h51))) hk49 w
set_option maxHeartbeats 4000000 in
theorem vjFX9_expr_45 {X : Cx} {U0 rf rl : Nat} (O : Okc X cX9_expr RX9 3 (some (.object "ApartBench$Expr"))) (hRm : cxR X = (rFX9_expr rf rl U0)) (hN : noTab X) (rE : rEF) (hE : hEF (cxL X) (cxE X) rf rl rE) {kc ks U z : Nat} {T L : Nat → Nat} {V : w_V} {P : w_P} (x0 : Nat) (hx0 : T x0 = 8) (x1 : Int32) (post : Nat → Nat → (Nat → Nat) → (Nat → Nat) → w_V → w_P → Prop) (xp : w_Xp) (hk : kOk (rFX9_expr rf rl U0) kc ks U) (hQ : cxMX X (va_Qq (qFn post) (wdF (cxE X)) (w_A (cxE X))) (xF xp) (rFX9_expr rf rl U0).cells (rFX9_expr rf rl U0).slots) (w : jFX9_expr_45 (cxE X).2.2.2.2 rE U z T L V P x0 x1 post xp) : gW X kc ks z T L V P 45 [some (.ref x0), some (.int x1), none] [] := by
  unfold jFX9_expr_45 at w
  refine g_aload_n O dX9_expr_45 rfl ?_
  refine g_iload_n O dX9_expr_46 rfl ?_
  obtain ⟨c1, U2, e3, w⟩ := w
  have hk9 := kOk.eq hk e3
  refine g_fq O hN hQ (kOk.fa hk9) (grx_V (lay := 7) (nA := 1) (As := [.int x1]) (rest := []) O hRm (kFX9_and _ O.2.2.2.2.2.2.2.2 (cxE X) rf rl rE hE _ _ _ _ _ _ x0 hx0 (x1) _ xp w) (lw_V q1080 q1082 qs14 q135 q1083) rfl rfl (by decide +kernel) ⟨(by show rf + 14 + 1 ≤ rf + 15; omega), (by show 8 + (3 + 11) + (rl + 329) ≤ rl + 351; omega)⟩ ck7 (by decide) rfl hx0 rfl rfl rfl (Nat.le_of_ble_eq_true rfl) dX9_expr_47 (kOk.fa hk9)) (fun r7 z T L V4 P5 w => ?_)
  have hk6 := kOk.sa hk9
  obtain ⟨h8, hr9, w⟩ := w
  refine g_astore_n O dX9_expr_50 (Nat.le_of_ble_eq_true rfl) rfl (lv' := [some (.ref x0), some (.int x1), some (.ref r7)]) rfl ?_
  obtain ⟨n58, w⟩ := w
  refine vlFX9_expr_51 O hRm hN rE hE x0 (x1) post xp hQ _ (fun kc ks U55 z T L V53 P54 y57 hy57 hk56 w => ?_) n58 _ _ _ _ _ _ _ _ r7 h8 hr9 hk6 w
  refine g_aload_n O dX9_expr_83 rfl ?_
  exact gt_aret (r := some y57) (f := fun u => u) (u := (z, T, L, V53, P54)) O hQ (kOk.m hk56) (by first | exact Or.inl ⟨_, rfl⟩ | exact Or.inr ⟨_, rfl⟩) rfl ⟨_, rfl, w⟩ dX9_expr_84
set_option maxHeartbeats 4000000 in
theorem vjFX9_expr_41 {X : Cx} {U0 rf rl : Nat} (O : Okc X cX9_expr RX9 3 (some (.object "ApartBench$Expr"))) (hRm : cxR X = (rFX9_expr rf rl U0)) (hN : noTab X) (rE : rEF) (hE : hEF (cxL X) (cxE X) rf rl rE) {kc ks U z : Nat} {T L : Nat → Nat} {V : w_V} {P : w_P} (x0 : Nat) (hx0 : T x0 = 8) (x1 : Int32) (t0 : Int32) (t1 : Nat) (ht1 : T t1 = 8) (post : Nat → Nat → (Nat → Nat) → (Nat → Nat) → w_V → w_P → Prop) (xp : w_Xp) (hk : kOk (rFX9_expr rf rl U0) kc ks U) (hQ : cxMX X (va_Qq (qFn post) (wdF (cxE X)) (w_A (cxE X))) (xF xp) (rFX9_expr rf rl U0).cells (rFX9_expr rf rl U0).slots) (w : jFX9_expr_41 (cxE X).2.2.2.2 rE U z T L V P x0 x1 t0 t1 post xp) : gW X kc ks z T L V P 41 [some (.ref x0), some (.int x1), none] [.int t0, .ref t1] := by
  unfold jFX9_expr_41 at w
  refine g_iconst (v := 2) O dX9_expr_41 (by decide) ?_
  obtain ⟨c62, U63, e64, w⟩ := w
  have hk9 := kOk.eq hk e64
  refine g_fv O hN hQ (kOk.fa hk9) (grx_V (lay := 7) (nA := 2) (As := [.int t0, .int 2]) (rest := []) O hRm (kFX9_check _ O.2.2.2.2.2.2.2.2 (cxE X) _ _ _ _ _ _ t1 ht1 (t0) (2) _ xp w) (lw_V q1028 q1030 qs8 q135 q1031) rfl rfl (by decide +kernel) ⟨(by show 6 + 1 ≤ rf + 15; omega), (by show 8 + (3 + 11) + 92 ≤ rl + 351; omega)⟩ ck7 (by decide) rfl ht1 rfl rfl rfl (Nat.le_of_ble_eq_true rfl) dX9_expr_42 (kOk.fa hk9)) (fun z T L V65 P66 w => ?_)
  have hk67 := kOk.sa hk9
  obtain ⟨h69, w⟩ := w
  exact vjFX9_expr_45 O hRm hN rE hE x0 h69 (x1) post xp hk67 hQ w
set_option maxHeartbeats 4000000 in
theorem vjFX9_expr_40 {X : Cx} {U0 rf rl : Nat} (O : Okc X cX9_expr RX9 3 (some (.object "ApartBench$Expr"))) (hRm : cxR X = (rFX9_expr rf rl U0)) (hN : noTab X) (rE : rEF) (hE : hEF (cxL X) (cxE X) rf rl rE) {kc ks U z : Nat} {T L : Nat → Nat} {V : w_V} {P : w_P} (x0 : Nat) (hx0 : T x0 = 8) (x1 : Int32) (t0 : Nat) (ht0 : T t0 = 8) (post : Nat → Nat → (Nat → Nat) → (Nat → Nat) → w_V → w_P → Prop) (xp : w_Xp) (hk : kOk (rFX9_expr rf rl U0) kc ks U) (hQ : cxMX X (va_Qq (qFn post) (wdF (cxE X)) (w_A (cxE X))) (xF xp) (rFX9_expr rf rl U0).cells (rFX9_expr rf rl U0).slots) (w : jFX9_expr_40 (cxE X).2.2.2.2 rE U z T L V P x0 x1 t0 post xp) : gW X kc ks z T L V P 40 [some (.ref x0), some (.int x1), none] [.ref t0] := by
  unfold jFX9_expr_40 at w
  refine g_iconst (v := 0) O dX9_expr_40 (by decide) ?_
  exact vjFX9_expr_41 O hRm hN rE hE x0 hx0 (x1) (0) t0 ht0 post xp hk hQ w
set_option maxHeartbeats 4000000 in
theorem kFX9_expr (l : Launch) (hfl : l.flags = flags0) (E : w_E) (rf rl : Nat) (rE : rEF) (hE : hEF l E rf rl rE) (U0 z : Nat) (T L : Nat → Nat) (V : w_V) (P : w_P) (t : Nat) (hT : T t = 8) (x1 : Int32) (post : Nat → Nat → (Nat → Nat) → (Nat → Nat) → w_V → w_P → Prop) (xp : w_Xp) (w : wFX9_expr E.2.2.2.2 rE U0 z T L V P t x1 post xp) : vx_Met l yX9_expr (ws_ yX9_expr cX9_expr 3 (some (.object "ApartBench$Expr"))) (rFX9_expr rf rl U0) (va_Pc [.ref t, .int x1] (fun U => kenv E U ∧ wdW E (z, T, L, V, P) U.heap)) (va_Qq (qFn post) (wdF E) (w_A E)) (xcX E (xF xp)) (8 * U0) (32 * U0) (w_A E) := by
  refine g_startF (w := (z, T, L, V, P)) hfl (by decide +kernel) rfl [some (.ref t), some (.int x1), none] rfl (fun _ h => h) (Nat.le_of_ble_eq_true rfl) (fun X hl hRm hEe O hN hI hQ => ?_)
  subst hl
  subst hEe
  have hk : kOk (rFX9_expr rf rl U0) 0 0 U0 := ⟨by show 0 + 8 * U0 ≤ 8 * U0; omega, by show 0 + 32 * U0 ≤ 32 * U0; omega⟩
  unfold wFX9_expr at w
  refine g_iload_n O dX9_expr_0 rfl ?_
  refine g_bipush (v := 6) O dX9_expr_1 (by decide) ?_
  refine g_icmp_lt (tgt := 45) O w dX9_expr_3 (by decide) (fun w => ?_) (fun w => ?_)
  · exact vjFX9_expr_45 O hRm hN rE hE t hT (x1) post xp hk hQ w
  · refine g_aload_n O dX9_expr_6 rfl ?_
    refine g_aload_n O dX9_expr_7 rfl ?_
    obtain ⟨b59, hp60, w⟩ := w
    refine gx_getR (lay := 7) (j := 6) O ck7 (by decide) rfl rfl hp60 (by decide) hT q988 dX9_expr_8 ?_
    refine gx_getst (i := 6) O rfl q959 dX9_expr_11 ?_
    refine gx_acmp_eq (tgt := 40) O w dX9_expr_14 (by decide) (fun w => ?_) (fun w => ?_)
    · exact vjFX9_expr_40 O hRm hN rE hE t hT (x1) t hT post xp hk hQ w
    · refine g_aload_n O dX9_expr_17 rfl ?_
      obtain ⟨b70, hp71, w⟩ := w
      refine gx_getR (lay := 7) (j := 6) O ck7 (by decide) rfl rfl hp71 (by decide) hT q988 dX9_expr_18 ?_
      refine gx_getst (i := 5) O rfl q954 dX9_expr_21 ?_
      refine gx_acmp_eq (tgt := 40) O w dX9_expr_24 (by decide) (fun w => ?_) (fun w => ?_)
      · exact vjFX9_expr_40 O hRm hN rE hE t hT (x1) t hT post xp hk hQ w
      · refine g_aload_n O dX9_expr_27 rfl ?_
        refine gx_ldc (i := 22) (tx := [40]) O rfl rfl dX9_expr_28 (fun s73 hs74 hz => ?_)
        replace w := w s73 hz
        refine g_ri0 (gr_V (lay := 7) (nA := 1) (As := [.ref s73]) (rest := [.ref t]) O hRm (kX9_is _ O.2.2.2.2.2.2.2.2 _ _ _ _ _ _ t hT s73 [40] hs74 _ w) (lw_V q1017 q1019 qs7 q135 q1020) rfl rfl (by decide +kernel) ⟨(by show 3 + 1 ≤ rf + 15; omega), (by show 8 + (2 + 11) + 56 ≤ rl + 351; omega)⟩ ck7 (by decide) rfl hT rfl rfl rfl (Nat.le_of_ble_eq_true rfl) dX9_expr_30 (kOk.f0 hk)) (fun r75 w => ?_)
        have hk := kOk.s0 hk
        refine g_if_ne (tgt := 40) O w dX9_expr_33 (by decide) (fun w => ?_) (fun w => ?_)
        · exact vjFX9_expr_40 O hRm hN rE hE t hT (x1) t hT post xp hk hQ w
        · refine g_iconst (v := 1) O dX9_expr_36 (by decide) ?_
          refine g_goto (tgt := 41) O dX9_expr_37 (by decide) ?_
          exact vjFX9_expr_41 O hRm hN rE hE t hT (x1) (1) t hT post xp hk hQ w
theorem kFx (l : Launch) (hfl : l.flags = flags0) (E : w_E) (d : Nat) : hEF l E (15 * d + 1) (351 * d + 12) (wFx E.2.2.2.2 d) := by
  induction d with
  | zero =>
    intro U z T L V P t hT x post xp w
    exact w.elim
  | succ d ih =>
    intro U z T L V P t hT x post xp w
    have h := kFX9_expr l hfl E (15 * d + 1) (351 * d + 12) (wFx E.2.2.2.2 d) ih U z T L V P t hT x post xp w
    have e1 : 15 * d + 1 + 15 = 15 * (d + 1) + 1 := by omega
    have e2 : 351 * d + 12 + 351 = 351 * (d + 1) + 12 := by omega
    show vx_Met l yX9_expr _ { frames := 15 * (d + 1) + 1, cells := 8 * U, slots := 32 * U, locals := 351 * (d + 1) + 12 } _ _ _ _ _ _
    rw [← e1, ← e2]
    exact h
-- X9_land
abbrev rFX9_land (U0 : Nat) : Room := { frames := 137, cells := 8 * U0, slots := 32 * U0, locals := 3193 }
set_option maxHeartbeats 4000000 in
theorem vjFX9_land_283 {X : Cx} {U0 : Nat} (O : Okc X cX9_land RX9 2 (some (.object "ApartBench$Land"))) (hRm : cxR X = (rFX9_land U0)) (hN : noTab X) {kc ks U z : Nat} {T L : Nat → Nat} {V : w_V} {P : w_P} (x0 : Nat) (hx0 : T x0 = 8) (x1 : Nat) (hx1 : T x1 = 3) (post : Nat → Nat → (Nat → Nat) → (Nat → Nat) → w_V → w_P → Prop) (xp : w_Xp) (hk : kOk (rFX9_land U0) kc ks U) (hQ : cxMX X (va_Qq (qFn post) (wdF (cxE X)) (w_A (cxE X))) (xF xp) (rFX9_land U0).cells (rFX9_land U0).slots) (kb : Nat → Nat → (Nat → Nat) → (Nat → Nat) → w_V → w_P → Prop) (hkb : ∀ (kc ks U z : Nat) (T L : Nat → Nat) (V : w_V) (P : w_P) (_hx0 : T x0 = 8) (_hx1 : T x1 = 3), kOk (rFX9_land U0) kc ks U → kb U z T L V P → gW X kc ks z T L V P 8 [some (.ref x0), some (.ref x1)] []) (w : jFX9_land_283 (cxE X).2.2.2.2 U z T L V P x0 x1 post xp kb) : gW X kc ks z T L V P 283 [some (.ref x0), some (.ref x1)] [] := by
  unfold jFX9_land_283 at w
  refine g_aload_n O dX9_land_283 rfl ?_
  refine gx_ldc (i := 41) (tx := [59]) O rfl rfl dX9_land_284 (fun s96 hs97 hz => ?_)
  replace w := w s96 hz
  obtain ⟨c98, U99, e100, w⟩ := w
  have hk9 := kOk.eq hk e100
  refine g_fv O hN hQ (kOk.fa hk9) (grx_V (lay := 7) (nA := 1) (As := [.ref s96]) (rest := []) O hRm (kFX9_need _ O.2.2.2.2.2.2.2.2 (cxE X) _ _ _ _ _ _ x0 hx0 s96 [59] hs97 _ xp w) (lw_V q1115 q1117 qs19 q135 q1118) rfl rfl (by decide +kernel) ⟨Nat.le_of_ble_eq_true rfl, Nat.le_of_ble_eq_true rfl⟩ ck7 (by decide) rfl hx0 rfl rfl rfl (Nat.le_of_ble_eq_true rfl) dX9_land_286 (kOk.fa hk9)) (fun z T L V101 P102 w => ?_)
  have hk103 := kOk.sa hk9
  obtain ⟨h105, h106, w⟩ := w
  refine g_goto (tgt := 8) O dX9_land_289 (by decide) ?_
  exact hkb _ _ _ _ _ _ _ _ h105 h106 hk103 w
set_option maxHeartbeats 4000000 in
theorem vjFX9_land_274 {X : Cx} {U0 : Nat} (O : Okc X cX9_land RX9 2 (some (.object "ApartBench$Land"))) (hRm : cxR X = (rFX9_land U0)) (hN : noTab X) {kc ks U z : Nat} {T L : Nat → Nat} {V : w_V} {P : w_P} (x0 : Nat) (hx0 : T x0 = 8) (x1 : Nat) (hx1 : T x1 = 3) (t0 : Int32) (t1 : Nat) (ht1 : T t1 = 8) (post : Nat → Nat → (Nat → Nat) → (Nat → Nat) → w_V → w_P → Prop) (xp : w_Xp) (hk : kOk (rFX9_land U0) kc ks U) (hQ : cxMX X (va_Qq (qFn post) (wdF (cxE X)) (w_A (cxE X))) (xF xp) (rFX9_land U0).cells (rFX9_land U0).slots) (kb : Nat → Nat → (Nat → Nat) → (Nat → Nat) → w_V → w_P → Prop) (hkb : ∀ (kc ks U z : Nat) (T L : Nat → Nat) (V : w_V) (P : w_P) (_hx0 : T x0 = 8) (_hx1 : T x1 = 3), kOk (rFX9_land U0) kc ks U → kb U z T L V P → gW X kc ks z T L V P 8 [some (.ref x0), some (.ref x1)] []) (w : jFX9_land_274 (cxE X).2.2.2.2 U z T L V P x0 x1 t0 t1 post xp kb) : gW X kc ks z T L V P 274 [some (.ref x0), some (.ref x1)] [.int t0, .ref t1] := by
  unfold jFX9_land_274 at w
  refine g_iconst (v := 2) O dX9_land_274 (by decide) ?_
  obtain ⟨c78, U79, e80, w⟩ := w
  have hk9 := kOk.eq hk e80
  refine g_fv O hN hQ (kOk.fa hk9) (grx_V (lay := 7) (nA := 2) (As := [.int t0, .int 2]) (rest := []) O hRm (kFX9_check _ O.2.2.2.2.2.2.2.2 (cxE X) _ _ _ _ _ _ t1 ht1 (t0) (2) _ xp w) (lw_V q1028 q1030 qs8 q135 q1031) rfl rfl (by decide +kernel) ⟨Nat.le_of_ble_eq_true rfl, Nat.le_of_ble_eq_true rfl⟩ ck7 (by decide) rfl ht1 rfl rfl rfl (Nat.le_of_ble_eq_true rfl) dX9_land_275 (kOk.fa hk9)) (fun z T L V81 P82 w => ?_)
  have hk83 := kOk.sa hk9
  obtain ⟨h85, h86, w⟩ := w
  refine g_aload_n O dX9_land_278 rfl ?_
  refine g_aload_n O dX9_land_279 rfl ?_
  obtain ⟨c87, U88, e89, w⟩ := w
  have hk9 := kOk.eq hk83 e89
  refine g_fv O hN hQ (kOk.fa hk9) (grx_V (lay := 7) (nA := 1) (As := [.ref x1]) (rest := []) O hRm (kFX9_judge _ O.2.2.2.2.2.2.2.2 (cxE X) _ _ _ _ _ _ x0 h85 x1 h86 _ xp w) (lw_V q1205 q1207 qs21 q135 q1208) rfl rfl (by decide +kernel) ⟨Nat.le_of_ble_eq_true rfl, Nat.le_of_ble_eq_true rfl⟩ ck7 (by decide) rfl h85 rfl rfl rfl (Nat.le_of_ble_eq_true rfl) dX9_land_280 (kOk.fa hk9)) (fun z T L V90 P91 w => ?_)
  have hk92 := kOk.sa hk9
  obtain ⟨h94, h95, w⟩ := w
  exact vjFX9_land_283 O hRm hN x0 h94 x1 h95 post xp hk92 hQ kb hkb w
set_option maxHeartbeats 4000000 in
theorem vjFX9_land_253 {X : Cx} {U0 : Nat} (O : Okc X cX9_land RX9 2 (some (.object "ApartBench$Land"))) (hRm : cxR X = (rFX9_land U0)) (hN : noTab X) {kc ks U z : Nat} {T L : Nat → Nat} {V : w_V} {P : w_P} (x0 : Nat) (hx0 : T x0 = 8) (x1 : Nat) (hx1 : T x1 = 3) (t0 : Int32) (t1 : Nat) (ht1 : T t1 = 8) (post : Nat → Nat → (Nat → Nat) → (Nat → Nat) → w_V → w_P → Prop) (xp : w_Xp) (hk : kOk (rFX9_land U0) kc ks U) (hQ : cxMX X (va_Qq (qFn post) (wdF (cxE X)) (w_A (cxE X))) (xF xp) (rFX9_land U0).cells (rFX9_land U0).slots) (kb : Nat → Nat → (Nat → Nat) → (Nat → Nat) → w_V → w_P → Prop) (hkb : ∀ (kc ks U z : Nat) (T L : Nat → Nat) (V : w_V) (P : w_P) (_hx0 : T x0 = 8) (_hx1 : T x1 = 3), kOk (rFX9_land U0) kc ks U → kb U z T L V P → gW X kc ks z T L V P 8 [some (.ref x0), some (.ref x1)] []) (w : jFX9_land_253 (cxE X).2.2.2.2 U z T L V P x0 x1 t0 t1 post xp kb) : gW X kc ks z T L V P 253 [some (.ref x0), some (.ref x1)] [.int t0, .ref t1] := by
  unfold jFX9_land_253 at w
  refine g_iconst (v := 1) O dX9_land_253 (by decide) ?_
  obtain ⟨c63, U64, e65, w⟩ := w
  have hk9 := kOk.eq hk e65
  refine g_fv O hN hQ (kOk.fa hk9) (grx_V (lay := 7) (nA := 2) (As := [.int t0, .int 1]) (rest := []) O hRm (kFX9_check _ O.2.2.2.2.2.2.2.2 (cxE X) _ _ _ _ _ _ t1 ht1 (t0) (1) _ xp w) (lw_V q1028 q1030 qs8 q135 q1031) rfl rfl (by decide +kernel) ⟨Nat.le_of_ble_eq_true rfl, Nat.le_of_ble_eq_true rfl⟩ ck7 (by decide) rfl ht1 rfl rfl rfl (Nat.le_of_ble_eq_true rfl) dX9_land_254 (kOk.fa hk9)) (fun z T L V66 P67 w => ?_)
  have hk68 := kOk.sa hk9
  obtain ⟨h70, h71, w⟩ := w
  refine g_aload_n O dX9_land_257 rfl ?_
  refine g_aload_n O dX9_land_258 rfl ?_
  obtain ⟨b72, hp73, ht74, w⟩ := w
  refine gx_getRN (lay := 2) (j := 6) O ck2 (by decide) rfl rfl hp73 (by decide) h71 q542 dX9_land_259 ?_
  refine g_ri0 (gr_V (lay := 15) (nA := 0) (As := []) (rest := [.ref x0]) O hRm (kJ2_size _ O.2.2.2.2.2.2.2.2 _ _ _ _ _ _ b72 ht74 _ w) (lw_V q1196 q792 q793 q110 q794) rfl rfl (by decide +kernel) ⟨Nat.le_of_ble_eq_true rfl, Nat.le_of_ble_eq_true rfl⟩ ck15 (by decide) rfl ht74 rfl rfl rfl (Nat.le_of_ble_eq_true rfl) dX9_land_262 (kOk.f0 hk68)) (fun r75 w => ?_)
  have hk68 := kOk.s0 hk68
  refine g_iconst (v := 5) O dX9_land_265 (by decide) ?_
  refine g_icmp_ge (tgt := 273) O w dX9_land_266 (by decide) (fun w => ?_) (fun w => ?_)
  · refine g_iconst (v := 0) O dX9_land_273 (by decide) ?_
    exact vjFX9_land_274 O hRm hN x0 h70 x1 h71 (0) x0 h70 post xp hk68 hQ kb hkb w
  · refine g_iconst (v := 1) O dX9_land_269 (by decide) ?_
    refine g_goto (tgt := 274) O dX9_land_270 (by decide) ?_
    exact vjFX9_land_274 O hRm hN x0 h70 x1 h71 (1) x0 h70 post xp hk68 hQ kb hkb w
set_option maxHeartbeats 4000000 in
theorem vjFX9_land_248 {X : Cx} {U0 : Nat} (O : Okc X cX9_land RX9 2 (some (.object "ApartBench$Land"))) (hRm : cxR X = (rFX9_land U0)) (hN : noTab X) {kc ks U z : Nat} {T L : Nat → Nat} {V : w_V} {P : w_P} (x0 : Nat) (hx0 : T x0 = 8) (x1 : Nat) (hx1 : T x1 = 3) (t0 : Nat) (ht0 : T t0 = 8) (post : Nat → Nat → (Nat → Nat) → (Nat → Nat) → w_V → w_P → Prop) (xp : w_Xp) (hk : kOk (rFX9_land U0) kc ks U) (hQ : cxMX X (va_Qq (qFn post) (wdF (cxE X)) (w_A (cxE X))) (xF xp) (rFX9_land U0).cells (rFX9_land U0).slots) (kb : Nat → Nat → (Nat → Nat) → (Nat → Nat) → w_V → w_P → Prop) (hkb : ∀ (kc ks U z : Nat) (T L : Nat → Nat) (V : w_V) (P : w_P) (_hx0 : T x0 = 8) (_hx1 : T x1 = 3), kOk (rFX9_land U0) kc ks U → kb U z T L V P → gW X kc ks z T L V P 8 [some (.ref x0), some (.ref x1)] []) (w : jFX9_land_248 (cxE X).2.2.2.2 U z T L V P x0 x1 t0 post xp kb) : gW X kc ks z T L V P 248 [some (.ref x0), some (.ref x1)] [.ref t0] := by
  unfold jFX9_land_248 at w
  refine g_iconst (v := 1) O dX9_land_248 (by decide) ?_
  refine g_goto (tgt := 253) O dX9_land_249 (by decide) ?_
  exact vjFX9_land_253 O hRm hN x0 hx0 x1 hx1 (1) t0 ht0 post xp hk hQ kb hkb w
set_option maxHeartbeats 4000000 in
theorem vjFX9_land_204 {X : Cx} {U0 : Nat} (O : Okc X cX9_land RX9 2 (some (.object "ApartBench$Land"))) (hRm : cxR X = (rFX9_land U0)) (hN : noTab X) {kc ks U z : Nat} {T L : Nat → Nat} {V : w_V} {P : w_P} (x0 : Nat) (hx0 : T x0 = 8) (x1 : Nat) (hx1 : T x1 = 3) (t0 : Int32) (t1 : Nat) (ht1 : T t1 = 8) (post : Nat → Nat → (Nat → Nat) → (Nat → Nat) → w_V → w_P → Prop) (xp : w_Xp) (hk : kOk (rFX9_land U0) kc ks U) (hQ : cxMX X (va_Qq (qFn post) (wdF (cxE X)) (w_A (cxE X))) (xF xp) (rFX9_land U0).cells (rFX9_land U0).slots) (kb : Nat → Nat → (Nat → Nat) → (Nat → Nat) → w_V → w_P → Prop) (hkb : ∀ (kc ks U z : Nat) (T L : Nat → Nat) (V : w_V) (P : w_P) (_hx0 : T x0 = 8) (_hx1 : T x1 = 3), kOk (rFX9_land U0) kc ks U → kb U z T L V P → gW X kc ks z T L V P 8 [some (.ref x0), some (.ref x1)] []) (w : jFX9_land_204 (cxE X).2.2.2.2 U z T L V P x0 x1 t0 t1 post xp kb) : gW X kc ks z T L V P 204 [some (.ref x0), some (.ref x1)] [.int t0, .ref t1] := by
  unfold jFX9_land_204 at w
  refine g_iconst (v := 2) O dX9_land_204 (by decide) ?_
  obtain ⟨c123, U124, e125, w⟩ := w
  have hk9 := kOk.eq hk e125
  refine g_fv O hN hQ (kOk.fa hk9) (grx_V (lay := 7) (nA := 2) (As := [.int t0, .int 2]) (rest := []) O hRm (kFX9_check _ O.2.2.2.2.2.2.2.2 (cxE X) _ _ _ _ _ _ t1 ht1 (t0) (2) _ xp w) (lw_V q1028 q1030 qs8 q135 q1031) rfl rfl (by decide +kernel) ⟨Nat.le_of_ble_eq_true rfl, Nat.le_of_ble_eq_true rfl⟩ ck7 (by decide) rfl ht1 rfl rfl rfl (Nat.le_of_ble_eq_true rfl) dX9_land_205 (kOk.fa hk9)) (fun z T L V126 P127 w => ?_)
  have hk128 := kOk.sa hk9
  obtain ⟨h130, h131, w⟩ := w
  refine g_aload_n O dX9_land_208 rfl ?_
  obtain ⟨c132, U133, e134, w⟩ := w
  have hk9 := kOk.eq hk128 e134
  refine g_mv (gr_V (lay := 7) (nA := 0) (As := []) (rest := []) O hRm (kFX9_go _ O.2.2.2.2.2.2.2.2 (cxE X) _ _ _ _ _ _ x0 h130 _ w) (lw_V q915 q917 qs5 q135 q918) rfl rfl (by decide +kernel) ⟨Nat.le_of_ble_eq_true rfl, Nat.le_of_ble_eq_true rfl⟩ ck7 (by decide) rfl h130 rfl rfl rfl (Nat.le_of_ble_eq_true rfl) dX9_land_209 (kOk.fa hk9)) (fun z T L V135 P136 w => ?_)
  have hk137 := kOk.sa hk9
  obtain ⟨h139, h140, w⟩ := w
  refine g_aload_n O dX9_land_212 rfl ?_
  refine g_aload_n O dX9_land_213 rfl ?_
  obtain ⟨c141, U142, e143, w⟩ := w
  have hk9 := kOk.eq hk137 e143
  refine g_fv O hN hQ (kOk.fa hk9) (grx_V (lay := 7) (nA := 1) (As := [.ref x1]) (rest := []) O hRm (kFX9_cause _ O.2.2.2.2.2.2.2.2 (cxE X) _ _ _ _ _ _ x0 h139 x1 h140 _ xp w) (lw_V q1197 q1199 qs20 q135 q1200) rfl rfl (by decide +kernel) ⟨Nat.le_of_ble_eq_true rfl, Nat.le_of_ble_eq_true rfl⟩ ck7 (by decide) rfl h139 rfl rfl rfl (Nat.le_of_ble_eq_true rfl) dX9_land_214 (kOk.fa hk9)) (fun z T L V144 P145 w => ?_)
  have hk146 := kOk.sa hk9
  obtain ⟨h148, h149, w⟩ := w
  refine g_goto (tgt := 283) O dX9_land_217 (by decide) ?_
  exact vjFX9_land_283 O hRm hN x0 h148 x1 h149 post xp hk146 hQ kb hkb w
set_option maxHeartbeats 4000000 in
theorem vjFX9_land_115 {X : Cx} {U0 : Nat} (O : Okc X cX9_land RX9 2 (some (.object "ApartBench$Land"))) (hRm : cxR X = (rFX9_land U0)) (hN : noTab X) {kc ks U z : Nat} {T L : Nat → Nat} {V : w_V} {P : w_P} (x0 : Nat) (hx0 : T x0 = 8) (x1 : Nat) (hx1 : T x1 = 3) (t0 : Int32) (t1 : Nat) (ht1 : T t1 = 8) (post : Nat → Nat → (Nat → Nat) → (Nat → Nat) → w_V → w_P → Prop) (xp : w_Xp) (hk : kOk (rFX9_land U0) kc ks U) (hQ : cxMX X (va_Qq (qFn post) (wdF (cxE X)) (w_A (cxE X))) (xF xp) (rFX9_land U0).cells (rFX9_land U0).slots) (kb : Nat → Nat → (Nat → Nat) → (Nat → Nat) → w_V → w_P → Prop) (hkb : ∀ (kc ks U z : Nat) (T L : Nat → Nat) (V : w_V) (P : w_P) (_hx0 : T x0 = 8) (_hx1 : T x1 = 3), kOk (rFX9_land U0) kc ks U → kb U z T L V P → gW X kc ks z T L V P 8 [some (.ref x0), some (.ref x1)] []) (w : jFX9_land_115 (cxE X).2.2.2.2 U z T L V P x0 x1 t0 t1 post xp kb) : gW X kc ks z T L V P 115 [some (.ref x0), some (.ref x1)] [.int t0, .ref t1] := by
  unfold jFX9_land_115 at w
  refine g_iconst (v := 2) O dX9_land_115 (by decide) ?_
  obtain ⟨c171, U172, e173, w⟩ := w
  have hk9 := kOk.eq hk e173
  refine g_fv O hN hQ (kOk.fa hk9) (grx_V (lay := 7) (nA := 2) (As := [.int t0, .int 2]) (rest := []) O hRm (kFX9_check _ O.2.2.2.2.2.2.2.2 (cxE X) _ _ _ _ _ _ t1 ht1 (t0) (2) _ xp w) (lw_V q1028 q1030 qs8 q135 q1031) rfl rfl (by decide +kernel) ⟨Nat.le_of_ble_eq_true rfl, Nat.le_of_ble_eq_true rfl⟩ ck7 (by decide) rfl ht1 rfl rfl rfl (Nat.le_of_ble_eq_true rfl) dX9_land_116 (kOk.fa hk9)) (fun z T L V174 P175 w => ?_)
  have hk176 := kOk.sa hk9
  obtain ⟨h178, h179, w⟩ := w
  refine g_aload_n O dX9_land_119 rfl ?_
  obtain ⟨c180, U181, e182, w⟩ := w
  have hk9 := kOk.eq hk176 e182
  refine g_mv (gr_V (lay := 7) (nA := 0) (As := []) (rest := []) O hRm (kFX9_go _ O.2.2.2.2.2.2.2.2 (cxE X) _ _ _ _ _ _ x0 h178 _ w) (lw_V q915 q917 qs5 q135 q918) rfl rfl (by decide +kernel) ⟨Nat.le_of_ble_eq_true rfl, Nat.le_of_ble_eq_true rfl⟩ ck7 (by decide) rfl h178 rfl rfl rfl (Nat.le_of_ble_eq_true rfl) dX9_land_120 (kOk.fa hk9)) (fun z T L V183 P184 w => ?_)
  have hk185 := kOk.sa hk9
  obtain ⟨h187, h188, w⟩ := w
  refine g_aload_n O dX9_land_123 rfl ?_
  refine g_aload_n O dX9_land_124 rfl ?_
  obtain ⟨c189, U190, e191, w⟩ := w
  have hk9 := kOk.eq hk185 e191
  refine g_fv O hN hQ (kOk.fa hk9) (grx_V (lay := 7) (nA := 1) (As := [.ref x1]) (rest := []) O hRm (kFX9_road _ O.2.2.2.2.2.2.2.2 (cxE X) _ _ _ _ _ _ x0 h187 x1 h188 _ xp w) (lw_V q1057 q1059 qs9 q135 q1060) rfl rfl (by decide +kernel) ⟨Nat.le_of_ble_eq_true rfl, Nat.le_of_ble_eq_true rfl⟩ ck7 (by decide) rfl h187 rfl rfl rfl (Nat.le_of_ble_eq_true rfl) dX9_land_125 (kOk.fa hk9)) (fun z T L V192 P193 w => ?_)
  have hk194 := kOk.sa hk9
  obtain ⟨h196, h197, w⟩ := w
  refine g_goto (tgt := 283) O dX9_land_128 (by decide) ?_
  exact vjFX9_land_283 O hRm hN x0 h196 x1 h197 post xp hk194 hQ kb hkb w
set_option maxHeartbeats 4000000 in
theorem vjFX9_land_78 {X : Cx} {U0 : Nat} (O : Okc X cX9_land RX9 2 (some (.object "ApartBench$Land"))) (hRm : cxR X = (rFX9_land U0)) (hN : noTab X) {kc ks U z : Nat} {T L : Nat → Nat} {V : w_V} {P : w_P} (x0 : Nat) (hx0 : T x0 = 8) (x1 : Nat) (hx1 : T x1 = 3) (post : Nat → Nat → (Nat → Nat) → (Nat → Nat) → w_V → w_P → Prop) (xp : w_Xp) (hk : kOk (rFX9_land U0) kc ks U) (hQ : cxMX X (va_Qq (qFn post) (wdF (cxE X)) (w_A (cxE X))) (xF xp) (rFX9_land U0).cells (rFX9_land U0).slots) (kb : Nat → Nat → (Nat → Nat) → (Nat → Nat) → w_V → w_P → Prop) (hkb : ∀ (kc ks U z : Nat) (T L : Nat → Nat) (V : w_V) (P : w_P) (_hx0 : T x0 = 8) (_hx1 : T x1 = 3), kOk (rFX9_land U0) kc ks U → kb U z T L V P → gW X kc ks z T L V P 8 [some (.ref x0), some (.ref x1)] []) (w : jFX9_land_78 (cxE X).2.2.2.2 U z T L V P x0 x1 post xp kb) : gW X kc ks z T L V P 78 [some (.ref x0), some (.ref x1)] [] := by
  unfold jFX9_land_78 at w
  refine g_aload_n O dX9_land_78 rfl ?_
  refine g_dup O dX9_land_79 rfl ?_
  refine gx_getIN (lay := 2) (j := 0) O ck2 (by decide) rfl rfl (by decide) hx1 q526 dX9_land_80 ?_
  refine g_iconst (v := 1) O dX9_land_83 (by decide) ?_
  refine g_iadd O dX9_land_84 ?_
  refine gx_putIN (lay := 2) (j := 0) (ty := .int) O ck2 (by decide) rfl rfl (by decide) hx1 q526 rfl rfl rfl rfl dX9_land_85 ?_
  refine g_nV w (fun V221 w _ => ?_)
  refine g_goto (tgt := 283) O dX9_land_88 (by decide) ?_
  exact vjFX9_land_283 O hRm hN x0 hx0 x1 hx1 post xp hk hQ kb hkb w
set_option maxHeartbeats 4000000 in
theorem vjFX9_land_42 {X : Cx} {U0 : Nat} (O : Okc X cX9_land RX9 2 (some (.object "ApartBench$Land"))) (hRm : cxR X = (rFX9_land U0)) (hN : noTab X) {kc ks U z : Nat} {T L : Nat → Nat} {V : w_V} {P : w_P} (x0 : Nat) (hx0 : T x0 = 8) (x1 : Nat) (hx1 : T x1 = 3) (t0 : Int32) (t1 : Nat) (ht1 : T t1 = 8) (post : Nat → Nat → (Nat → Nat) → (Nat → Nat) → w_V → w_P → Prop) (xp : w_Xp) (hk : kOk (rFX9_land U0) kc ks U) (hQ : cxMX X (va_Qq (qFn post) (wdF (cxE X)) (w_A (cxE X))) (xF xp) (rFX9_land U0).cells (rFX9_land U0).slots) (kb : Nat → Nat → (Nat → Nat) → (Nat → Nat) → w_V → w_P → Prop) (hkb : ∀ (kc ks U z : Nat) (T L : Nat → Nat) (V : w_V) (P : w_P) (_hx0 : T x0 = 8) (_hx1 : T x1 = 3), kOk (rFX9_land U0) kc ks U → kb U z T L V P → gW X kc ks z T L V P 8 [some (.ref x0), some (.ref x1)] []) (w : jFX9_land_42 (cxE X).2.2.2.2 U z T L V P x0 x1 t0 t1 post xp kb) : gW X kc ks z T L V P 42 [some (.ref x0), some (.ref x1)] [.int t0, .ref t1] := by
  unfold jFX9_land_42 at w
  refine g_iconst (v := 2) O dX9_land_42 (by decide) ?_
  obtain ⟨c198, U199, e200, w⟩ := w
  have hk9 := kOk.eq hk e200
  refine g_fv O hN hQ (kOk.fa hk9) (grx_V (lay := 7) (nA := 2) (As := [.int t0, .int 2]) (rest := []) O hRm (kFX9_check _ O.2.2.2.2.2.2.2.2 (cxE X) _ _ _ _ _ _ t1 ht1 (t0) (2) _ xp w) (lw_V q1028 q1030 qs8 q135 q1031) rfl rfl (by decide +kernel) ⟨Nat.le_of_ble_eq_true rfl, Nat.le_of_ble_eq_true rfl⟩ ck7 (by decide) rfl ht1 rfl rfl rfl (Nat.le_of_ble_eq_true rfl) dX9_land_43 (kOk.fa hk9)) (fun z T L V201 P202 w => ?_)
  have hk203 := kOk.sa hk9
  obtain ⟨h205, h206, w⟩ := w
  refine g_aload_n O dX9_land_46 rfl ?_
  obtain ⟨c207, U208, e209, w⟩ := w
  have hk9 := kOk.eq hk203 e209
  refine g_mv (gr_V (lay := 7) (nA := 0) (As := []) (rest := []) O hRm (kFX9_go _ O.2.2.2.2.2.2.2.2 (cxE X) _ _ _ _ _ _ x0 h205 _ w) (lw_V q915 q917 qs5 q135 q918) rfl rfl (by decide +kernel) ⟨Nat.le_of_ble_eq_true rfl, Nat.le_of_ble_eq_true rfl⟩ ck7 (by decide) rfl h205 rfl rfl rfl (Nat.le_of_ble_eq_true rfl) dX9_land_47 (kOk.fa hk9)) (fun z T L V210 P211 w => ?_)
  have hk212 := kOk.sa hk9
  obtain ⟨h214, h215, w⟩ := w
  refine g_aload_n O dX9_land_50 rfl ?_
  refine gx_ldc (i := 18) (tx := [105, 110, 110]) O rfl rfl dX9_land_51 (fun s216 hs217 hz => ?_)
  replace w := w s216 hz
  refine g_ri0 (gr_V (lay := 7) (nA := 1) (As := [.ref s216]) (rest := []) O hRm (kX9_is _ O.2.2.2.2.2.2.2.2 _ _ _ _ _ _ x0 h214 s216 [105, 110, 110] hs217 _ w) (lw_V q1017 q1019 qs7 q135 q1020) rfl rfl (by decide +kernel) ⟨Nat.le_of_ble_eq_true rfl, Nat.le_of_ble_eq_true rfl⟩ ck7 (by decide) rfl h214 rfl rfl rfl (Nat.le_of_ble_eq_true rfl) dX9_land_53 (kOk.f0 hk212)) (fun r218 w => ?_)
  have hk212 := kOk.s0 hk212
  refine g_if_eq (tgt := 78) O w dX9_land_56 (by decide) (fun w => ?_) (fun w => ?_)
  · exact vjFX9_land_78 O hRm hN x0 h214 x1 h215 post xp hk212 hQ kb hkb w
  · refine g_aload_n O dX9_land_59 rfl ?_
    refine g_dup O dX9_land_60 rfl ?_
    refine gx_getIN (lay := 2) (j := 3) O ck2 (by decide) rfl rfl (by decide) h215 q533 dX9_land_61 ?_
    refine g_iconst (v := 1) O dX9_land_64 (by decide) ?_
    refine g_aload_n O dX9_land_65 rfl ?_
    refine gx_getIN (lay := 2) (j := 0) O ck2 (by decide) rfl rfl (by decide) h215 q526 dX9_land_66 ?_
    refine g_ishl O dX9_land_69 ?_
    refine g_ior O dX9_land_70 ?_
    refine gx_putIN (lay := 2) (j := 3) (ty := .int) O ck2 (by decide) rfl rfl (by decide) h215 q533 rfl rfl rfl rfl dX9_land_71 ?_
    refine g_nV w (fun V222 w _ => ?_)
    refine g_aload_n O dX9_land_74 rfl ?_
    obtain ⟨c223, U224, e225, w⟩ := w
    have hk9 := kOk.eq hk212 e225
    refine g_mv (gr_V (lay := 7) (nA := 0) (As := []) (rest := []) O hRm (kFX9_go _ O.2.2.2.2.2.2.2.2 (cxE X) _ _ _ _ _ _ x0 h214 _ w) (lw_V q915 q917 qs5 q135 q918) rfl rfl (by decide +kernel) ⟨Nat.le_of_ble_eq_true rfl, Nat.le_of_ble_eq_true rfl⟩ ck7 (by decide) rfl h214 rfl rfl rfl (Nat.le_of_ble_eq_true rfl) dX9_land_75 (kOk.fa hk9)) (fun z T L V226 P227 w => ?_)
    have hk228 := kOk.sa hk9
    obtain ⟨h230, h231, w⟩ := w
    exact vjFX9_land_78 O hRm hN x0 h230 x1 h231 post xp hk228 hQ kb hkb w
set_option maxHeartbeats 4000000 in
theorem vlFX9_land_8 {X : Cx} {U0 : Nat} (O : Okc X cX9_land RX9 2 (some (.object "ApartBench$Land"))) (hRm : cxR X = (rFX9_land U0)) (hN : noTab X) (x0 : Nat) (x1 : Nat) (post : Nat → Nat → (Nat → Nat) → (Nat → Nat) → w_V → w_P → Prop) (xp : w_Xp) (hQ : cxMX X (va_Qq (qFn post) (wdF (cxE X)) (w_A (cxE X))) (xF xp) (rFX9_land U0).cells (rFX9_land U0).slots) (ke_292 : Nat → Nat → (Nat → Nat) → (Nat → Nat) → w_V → w_P → Prop) (hke_292 : ∀ (kc ks U z : Nat) (T L : Nat → Nat) (V : w_V) (P : w_P) (_hx1 : T x1 = 3), kOk (rFX9_land U0) kc ks U → ke_292 U z T L V P → gW X kc ks z T L V P 292 [none, some (.ref x1)] []) : ∀ (n kc ks U z : Nat) (T L : Nat → Nat) (V : w_V) (P : w_P) (hx0 : T x0 = 8) (hx1 : T x1 = 3), kOk (rFX9_land U0) kc ks U → lFX9_land_8 (cxE X).2.2.2.2 x0 x1 post xp ke_292 n U z T L V P → gW X kc ks z T L V P 8 [some (.ref x0), some (.ref x1)] [] := by
  intro n
  induction n with
  | zero =>
    intro kc ks U z T L V P hx0 hx1 hk w
    exact w.elim
  | succ n ih =>
    intro kc ks U z T L V P hx0 hx1 hk w
    unfold lFX9_land_8 at w
    refine g_aload_n O dX9_land_8 rfl ?_
    obtain ⟨b18, hp19, w⟩ := w
    refine gx_getR (lay := 7) (j := 6) O ck7 (by decide) rfl rfl hp19 (by decide) hx0 q988 dX9_land_9 ?_
    refine gx_getst (i := 9) O rfl q923 dX9_land_12 ?_
    refine gx_acmp_eq (tgt := 292) O w dX9_land_15 (by decide) (fun w => ?_) (fun w => ?_)
    · refine g_drop [0] (lv' := [none, some (.ref x1)]) rfl ?_
      exact hke_292 _ _ _ _ _ _ _ _ hx1 hk w
    · refine g_aload_n O dX9_land_18 rfl ?_
      refine gx_ldc (i := 17) (tx := [116, 111, 119, 110]) O rfl rfl dX9_land_19 (fun s21 hs22 hz => ?_)
      replace w := w s21 hz
      refine g_ri0 (gr_V (lay := 7) (nA := 1) (As := [.ref s21]) (rest := []) O hRm (kX9_is _ O.2.2.2.2.2.2.2.2 _ _ _ _ _ _ x0 hx0 s21 [116, 111, 119, 110] hs22 _ w) (lw_V q1017 q1019 qs7 q135 q1020) rfl rfl (by decide +kernel) ⟨Nat.le_of_ble_eq_true rfl, Nat.le_of_ble_eq_true rfl⟩ ck7 (by decide) rfl hx0 rfl rfl rfl (Nat.le_of_ble_eq_true rfl) dX9_land_21 (kOk.f0 hk)) (fun r23 w => ?_)
      have hk := kOk.s0 hk
      refine g_if_eq (tgt := 91) O w dX9_land_24 (by decide) (fun w => ?_) (fun w => ?_)
      · refine g_aload_n O dX9_land_91 rfl ?_
        refine gx_ldc (i := 19) (tx := [114, 111, 97, 100]) O rfl rfl dX9_land_92 (fun s26 hs27 hz => ?_)
        replace w := w s26 hz
        refine g_ri0 (gr_V (lay := 7) (nA := 1) (As := [.ref s26]) (rest := []) O hRm (kX9_is _ O.2.2.2.2.2.2.2.2 _ _ _ _ _ _ x0 hx0 s26 [114, 111, 97, 100] hs27 _ w) (lw_V q1017 q1019 qs7 q135 q1020) rfl rfl (by decide +kernel) ⟨Nat.le_of_ble_eq_true rfl, Nat.le_of_ble_eq_true rfl⟩ ck7 (by decide) rfl hx0 rfl rfl rfl (Nat.le_of_ble_eq_true rfl) dX9_land_94 (kOk.f0 hk)) (fun r28 w => ?_)
        have hk := kOk.s0 hk
        refine g_if_eq (tgt := 131) O w dX9_land_97 (by decide) (fun w => ?_) (fun w => ?_)
        · refine g_aload_n O dX9_land_131 rfl ?_
          refine gx_ldc (i := 20) (tx := [103, 111, 115, 115, 105, 112]) O rfl rfl dX9_land_132 (fun s31 hs32 hz => ?_)
          replace w := w s31 hz
          refine g_iconst (v := 0) O dX9_land_134 (by decide) ?_
          obtain ⟨c33, U34, e35, w⟩ := w
          have hk9 := kOk.eq hk e35
          refine g_fi O hN hQ (kOk.fa hk9) (grx_V (lay := 7) (nA := 2) (As := [.ref s31, .int 0]) (rest := []) O hRm (kFX9_begins _ O.2.2.2.2.2.2.2.2 (cxE X) _ _ _ _ _ _ x0 hx0 s31 [103, 111, 115, 115, 105, 112] hs32 (0) _ xp w) (lw_V q1070 q1072 qs12 q135 q1073) rfl rfl (by decide +kernel) ⟨Nat.le_of_ble_eq_true rfl, Nat.le_of_ble_eq_true rfl⟩ ck7 (by decide) rfl hx0 rfl rfl rfl (Nat.le_of_ble_eq_true rfl) dX9_land_135 (kOk.fa hk9)) (fun r39 z T L V36 P37 w => ?_)
          have hk38 := kOk.sa hk9
          obtain ⟨h40, h41, w⟩ := w
          refine g_if_eq (tgt := 155) O w dX9_land_138 (by decide) (fun w => ?_) (fun w => ?_)
          · refine g_aload_n O dX9_land_155 rfl ?_
            refine gx_ldc (i := 21) (tx := [108, 97, 119]) O rfl rfl dX9_land_156 (fun s42 hs43 hz => ?_)
            replace w := w s42 hz
            refine g_iconst (v := 1) O dX9_land_158 (by decide) ?_
            obtain ⟨c44, U45, e46, w⟩ := w
            have hk9 := kOk.eq hk38 e46
            refine g_fi O hN hQ (kOk.fa hk9) (grx_V (lay := 7) (nA := 2) (As := [.ref s42, .int 1]) (rest := []) O hRm (kFX9_begins _ O.2.2.2.2.2.2.2.2 (cxE X) _ _ _ _ _ _ x0 h40 s42 [108, 97, 119] hs43 (1) _ xp w) (lw_V q1070 q1072 qs12 q135 q1073) rfl rfl (by decide +kernel) ⟨Nat.le_of_ble_eq_true rfl, Nat.le_of_ble_eq_true rfl⟩ ck7 (by decide) rfl h40 rfl rfl rfl (Nat.le_of_ble_eq_true rfl) dX9_land_159 (kOk.fa hk9)) (fun r50 z T L V47 P48 w => ?_)
            have hk49 := kOk.sa hk9
            obtain ⟨h51, h52, w⟩ := w
            refine g_if_eq (tgt := 177) O w dX9_land_162 (by decide) (fun w => ?_) (fun w => ?_)
            · refine g_aload_n O dX9_land_177 rfl ?_
              refine gx_ldc (i := 37) (tx := [99, 97, 115, 101]) O rfl rfl dX9_land_178 (fun s53 hs54 hz => ?_)
              replace w := w s53 hz
              refine g_ri0 (gr_V (lay := 7) (nA := 1) (As := [.ref s53]) (rest := []) O hRm (kX9_is _ O.2.2.2.2.2.2.2.2 _ _ _ _ _ _ x0 h51 s53 [99, 97, 115, 101] hs54 _ w) (lw_V q1017 q1019 qs7 q135 q1020) rfl rfl (by decide +kernel) ⟨Nat.le_of_ble_eq_true rfl, Nat.le_of_ble_eq_true rfl⟩ ck7 (by decide) rfl h51 rfl rfl rfl (Nat.le_of_ble_eq_true rfl) dX9_land_180 (kOk.f0 hk49)) (fun r55 w => ?_)
              have hk49 := kOk.s0 hk49
              refine g_if_eq (tgt := 220) O w dX9_land_183 (by decide) (fun w => ?_) (fun w => ?_)
              · refine g_aload_n O dX9_land_220 rfl ?_
                refine g_aload_n O dX9_land_221 rfl ?_
                refine gx_ldc (i := 38) (tx := [106, 117, 100, 103, 101]) O rfl rfl dX9_land_222 (fun s58 hs59 hz => ?_)
                replace w := w s58 hz
                refine g_ri0 (gr_V (lay := 7) (nA := 1) (As := [.ref s58]) (rest := [.ref x0]) O hRm (kX9_is _ O.2.2.2.2.2.2.2.2 _ _ _ _ _ _ x0 h51 s58 [106, 117, 100, 103, 101] hs59 _ w) (lw_V q1017 q1019 qs7 q135 q1020) rfl rfl (by decide +kernel) ⟨Nat.le_of_ble_eq_true rfl, Nat.le_of_ble_eq_true rfl⟩ ck7 (by decide) rfl h51 rfl rfl rfl (Nat.le_of_ble_eq_true rfl) dX9_land_224 (kOk.f0 hk49)) (fun r60 w => ?_)
                have hk49 := kOk.s0 hk49
                refine g_if_ne (tgt := 248) O w dX9_land_227 (by decide) (fun w => ?_) (fun w => ?_)
                · exact vjFX9_land_248 O hRm hN x0 h51 x1 h52 x0 h51 post xp hk49 hQ (lFX9_land_8 (cxE X).2.2.2.2 x0 x1 post xp ke_292 n) ih w
                · refine g_aload_n O dX9_land_230 rfl ?_
                  refine gx_ldc (i := 39) (tx := [100, 101, 97, 102]) O rfl rfl dX9_land_231 (fun s107 hs108 hz => ?_)
                  replace w := w s107 hz
                  refine g_ri0 (gr_V (lay := 7) (nA := 1) (As := [.ref s107]) (rest := [.ref x0]) O hRm (kX9_is _ O.2.2.2.2.2.2.2.2 _ _ _ _ _ _ x0 h51 s107 [100, 101, 97, 102] hs108 _ w) (lw_V q1017 q1019 qs7 q135 q1020) rfl rfl (by decide +kernel) ⟨Nat.le_of_ble_eq_true rfl, Nat.le_of_ble_eq_true rfl⟩ ck7 (by decide) rfl h51 rfl rfl rfl (Nat.le_of_ble_eq_true rfl) dX9_land_233 (kOk.f0 hk49)) (fun r109 w => ?_)
                  have hk49 := kOk.s0 hk49
                  refine g_if_ne (tgt := 248) O w dX9_land_236 (by decide) (fun w => ?_) (fun w => ?_)
                  · exact vjFX9_land_248 O hRm hN x0 h51 x1 h52 x0 h51 post xp hk49 hQ (lFX9_land_8 (cxE X).2.2.2.2 x0 x1 post xp ke_292 n) ih w
                  · refine g_aload_n O dX9_land_239 rfl ?_
                    refine gx_ldc (i := 40) (tx := [119, 105, 115, 101]) O rfl rfl dX9_land_240 (fun s112 hs113 hz => ?_)
                    replace w := w s112 hz
                    refine g_ri0 (gr_V (lay := 7) (nA := 1) (As := [.ref s112]) (rest := [.ref x0]) O hRm (kX9_is _ O.2.2.2.2.2.2.2.2 _ _ _ _ _ _ x0 h51 s112 [119, 105, 115, 101] hs113 _ w) (lw_V q1017 q1019 qs7 q135 q1020) rfl rfl (by decide +kernel) ⟨Nat.le_of_ble_eq_true rfl, Nat.le_of_ble_eq_true rfl⟩ ck7 (by decide) rfl h51 rfl rfl rfl (Nat.le_of_ble_eq_true rfl) dX9_land_242 (kOk.f0 hk49)) (fun r114 w => ?_)
                    have hk49 := kOk.s0 hk49
                    refine g_if_eq (tgt := 252) O w dX9_land_245 (by decide) (fun w => ?_) (fun w => ?_)
                    · refine g_iconst (v := 0) O dX9_land_252 (by decide) ?_
                      exact vjFX9_land_253 O hRm hN x0 h51 x1 h52 (0) x0 h51 post xp hk49 hQ (lFX9_land_8 (cxE X).2.2.2.2 x0 x1 post xp ke_292 n) ih w
                    · exact vjFX9_land_248 O hRm hN x0 h51 x1 h52 x0 h51 post xp hk49 hQ (lFX9_land_8 (cxE X).2.2.2.2 x0 x1 post xp ke_292 n) ih w
              · refine g_aload_n O dX9_land_186 rfl ?_
                refine g_aload_n O dX9_land_187 rfl ?_
                obtain ⟨b117, hp118, ht119, w⟩ := w
                refine gx_getRN (lay := 2) (j := 7) O ck2 (by decide) rfl rfl hp118 (by decide) h52 q546 dX9_land_188 ?_
                refine g_ri0 (gr_V (lay := 15) (nA := 0) (As := []) (rest := [.ref x0]) O hRm (kJ2_size _ O.2.2.2.2.2.2.2.2 _ _ _ _ _ _ b117 ht119 _ w) (lw_V q1196 q792 q793 q110 q794) rfl rfl (by decide +kernel) ⟨Nat.le_of_ble_eq_true rfl, Nat.le_of_ble_eq_true rfl⟩ ck15 (by decide) rfl ht119 rfl rfl rfl (Nat.le_of_ble_eq_true rfl) dX9_land_191 (kOk.f0 hk49)) (fun r120 w => ?_)
                have hk49 := kOk.s0 hk49
                refine g_bipush (v := 6) O dX9_land_194 (by decide) ?_
                refine g_icmp_ge (tgt := 203) O w dX9_land_196 (by decide) (fun w => ?_) (fun w => ?_)
                · refine g_iconst (v := 0) O dX9_land_203 (by decide) ?_
                  exact vjFX9_land_204 O hRm hN x0 h51 x1 h52 (0) x0 h51 post xp hk49 hQ (lFX9_land_8 (cxE X).2.2.2.2 x0 x1 post xp ke_292 n) ih w
                · refine g_iconst (v := 1) O dX9_land_199 (by decide) ?_
                  refine g_goto (tgt := 204) O dX9_land_200 (by decide) ?_
                  exact vjFX9_land_204 O hRm hN x0 h51 x1 h52 (1) x0 h51 post xp hk49 hQ (lFX9_land_8 (cxE X).2.2.2.2 x0 x1 post xp ke_292 n) ih w
            · refine g_aload_n O dX9_land_165 rfl ?_
              refine g_aload_n O dX9_land_166 rfl ?_
              refine g_iconst (v := 0) O dX9_land_167 (by decide) ?_
              obtain ⟨c150, U151, e152, w⟩ := w
              have hk9 := kOk.eq hk49 e152
              refine g_fq O hN hQ (kOk.fa hk9) (grx_V (lay := 7) (nA := 1) (As := [.int 0]) (rest := [.ref x1]) O hRm (kFx _ O.2.2.2.2.2.2.2.2 (cxE X) 9 _ _ _ _ _ _ x0 h51 (0) _ xp w) (lw_V q1075 q1077 qs13 q135 q1078) rfl rfl (by decide +kernel) ⟨Nat.le_of_ble_eq_true rfl, Nat.le_of_ble_eq_true rfl⟩ ck7 (by decide) rfl h51 rfl rfl rfl (Nat.le_of_ble_eq_true rfl) dX9_land_168 (kOk.fa hk9)) (fun r156 z T L V153 P154 w => ?_)
              have hk155 := kOk.sa hk9
              obtain ⟨h157, h158, hr159, w⟩ := w
              refine gx_putRN (lay := 2) (j := 8) (x := (some r156)) O ck2 (by decide) rfl rfl (by decide) h157 q548 rfl rfl rfl rfl dX9_land_171 ?_
              refine g_nP w (fun P160 w _ => ?_)
              refine g_goto (tgt := 283) O dX9_land_174 (by decide) ?_
              exact vjFX9_land_283 O hRm hN x0 h158 x1 h157 post xp hk155 hQ (lFX9_land_8 (cxE X).2.2.2.2 x0 x1 post xp ke_292 n) ih w
          · refine g_aload_n O dX9_land_141 rfl ?_
            refine g_aload_n O dX9_land_142 rfl ?_
            refine g_iconst (v := 1) O dX9_land_143 (by decide) ?_
            refine g_bipush (v := 40) O dX9_land_144 (by decide) ?_
            obtain ⟨c161, U162, e163, w⟩ := w
            have hk9 := kOk.eq hk38 e163
            refine g_fi O hN hQ (kOk.fa hk9) (grx_V (lay := 7) (nA := 2) (As := [.int 1, .int 40]) (rest := [.ref x1]) O hRm (kFX9_number _ O.2.2.2.2.2.2.2.2 (cxE X) _ _ _ _ _ _ x0 h40 (1) (40) _ xp w) (lw_V q1065 q1067 qs11 q135 q1068) rfl rfl (by decide +kernel) ⟨Nat.le_of_ble_eq_true rfl, Nat.le_of_ble_eq_true rfl⟩ ck7 (by decide) rfl h40 rfl rfl rfl (Nat.le_of_ble_eq_true rfl) dX9_land_146 (kOk.fa hk9)) (fun r167 z T L V164 P165 w => ?_)
            have hk166 := kOk.sa hk9
            obtain ⟨h168, h169, w⟩ := w
            refine gx_putIN (lay := 2) (j := 2) (ty := .int) O ck2 (by decide) rfl rfl (by decide) h168 q530 rfl rfl rfl rfl dX9_land_149 ?_
            refine g_nV w (fun V170 w _ => ?_)
            refine g_goto (tgt := 283) O dX9_land_152 (by decide) ?_
            exact vjFX9_land_283 O hRm hN x0 h169 x1 h168 post xp hk166 hQ (lFX9_land_8 (cxE X).2.2.2.2 x0 x1 post xp ke_292 n) ih w
        · refine g_aload_n O dX9_land_100 rfl ?_
          refine g_aload_n O dX9_land_101 rfl ?_
          refine gx_getIN (lay := 2) (j := 1) O ck2 (by decide) rfl rfl (by decide) hx1 q527 dX9_land_102 ?_
          refine g_bipush (v := 14) O dX9_land_105 (by decide) ?_
          refine g_icmp_ge (tgt := 114) O w dX9_land_107 (by decide) (fun w => ?_) (fun w => ?_)
          · refine g_iconst (v := 0) O dX9_land_114 (by decide) ?_
            exact vjFX9_land_115 O hRm hN x0 hx0 x1 hx1 (0) x0 hx0 post xp hk hQ (lFX9_land_8 (cxE X).2.2.2.2 x0 x1 post xp ke_292 n) ih w
          · refine g_iconst (v := 1) O dX9_land_110 (by decide) ?_
            refine g_goto (tgt := 115) O dX9_land_111 (by decide) ?_
            exact vjFX9_land_115 O hRm hN x0 hx0 x1 hx1 (1) x0 hx0 post xp hk hQ (lFX9_land_8 (cxE X).2.2.2.2 x0 x1 post xp ke_292 n) ih w
      · refine g_aload_n O dX9_land_27 rfl ?_
        refine g_aload_n O dX9_land_28 rfl ?_
        refine gx_getIN (lay := 2) (j := 0) O ck2 (by decide) rfl rfl (by decide) hx1 q526 dX9_land_29 ?_
        refine g_bipush (v := 9) O dX9_land_32 (by decide) ?_
        refine g_icmp_ge (tgt := 41) O w dX9_land_34 (by decide) (fun w => ?_) (fun w => ?_)
        · refine g_iconst (v := 0) O dX9_land_41 (by decide) ?_
          exact vjFX9_land_42 O hRm hN x0 hx0 x1 hx1 (0) x0 hx0 post xp hk hQ (lFX9_land_8 (cxE X).2.2.2.2 x0 x1 post xp ke_292 n) ih w
        · refine g_iconst (v := 1) O dX9_land_37 (by decide) ?_
          refine g_goto (tgt := 42) O dX9_land_38 (by decide) ?_
          exact vjFX9_land_42 O hRm hN x0 hx0 x1 hx1 (1) x0 hx0 post xp hk hQ (lFX9_land_8 (cxE X).2.2.2.2 x0 x1 post xp ke_292 n) ih w
set_option maxHeartbeats 4000000 in
theorem kFX9_land (l : Launch) (hfl : l.flags = flags0) (E : w_E) (U0 z : Nat) (T L : Nat → Nat) (V : w_V) (P : w_P) (t : Nat) (hT : T t = 8) (post : Nat → Nat → (Nat → Nat) → (Nat → Nat) → w_V → w_P → Prop) (xp : w_Xp) (w : wFX9_land E.2.2.2.2 U0 z T L V P t post xp) : vx_Met l yX9_land (ws_ yX9_land cX9_land 2 (some (.object "ApartBench$Land"))) (rFX9_land U0) (va_Pc [.ref t] (fun U => kenv E U ∧ wdW E (z, T, L, V, P) U.heap)) (va_Qq (qFn post) (wdF E) (w_A E)) (xcX E (xF xp)) (8 * U0) (32 * U0) (w_A E) := by
  refine g_startF (w := (z, T, L, V, P)) hfl (by decide +kernel) rfl [some (.ref t), none] rfl (fun _ h => h) (Nat.le_of_ble_eq_true rfl) (fun X hl hRm hEe O hN hI hQ => ?_)
  subst hl
  subst hEe
  have hk : kOk (rFX9_land U0) 0 0 U0 := ⟨by show 0 + 8 * U0 ≤ 8 * U0; omega, by show 0 + 32 * U0 ≤ 32 * U0; omega⟩
  unfold wFX9_land at w
  obtain ⟨U6, e7, w⟩ := w
  have hk9 := kOk.eq hk e7
  refine gq_new (lay := 52) (u := 1) O hRm ck2 (by decide) rfl (by decide +kernel) q1014 q156 q107 hk9 (by decide) (by decide) dX9_land_0 (fun o1 z T L V2 P3 hk4 hn5 => ?_)
  replace w := w o1 z T L V2 P3 hn5
  obtain ⟨h8, w⟩ := w
  refine g_dup O dX9_land_3 rfl ?_
  obtain ⟨c9, U10, e11, w⟩ := w
  have hk9 := kOk.eq hk4 e11
  refine g_mv (gr_IN (nA := 0) (As := []) (rest := [.ref o1]) O hRm (kFX2_init _ O.2.2.2.2.2.2.2.2 (cxE X) _ _ _ _ _ _ o1 hn5.t _ w) (lw_meth q159) q1015 q158 q107 rfl rfl rfl (by decide +kernel) ⟨Nat.le_of_ble_eq_true rfl, Nat.le_of_ble_eq_true rfl⟩ rfl rfl rfl (Nat.le_of_ble_eq_true rfl) dX9_land_4 (kOk.fa hk9)) (fun z T L V12 P13 w => ?_)
  have hk14 := kOk.sa hk9
  obtain ⟨h16, h17, w⟩ := w
  refine g_astore_n O dX9_land_7 (Nat.le_of_ble_eq_true rfl) rfl (lv' := [some (.ref t), some (.ref o1)]) rfl ?_
  obtain ⟨n240, w⟩ := w
  refine vlFX9_land_8 O hRm hN t o1 post xp hQ _ (fun kc ks U234 z T L V232 P233 h236 hk235 w => ?_) n240 _ _ _ _ _ _ _ _ h17 h16 hk14 w
  refine g_aload_n O dX9_land_292 rfl ?_
  refine g_rv1 (gr_V (lay := 2) (nA := 0) (As := []) (rest := []) O hRm (kX2_measures _ O.2.2.2.2.2.2.2.2 _ _ _ _ _ _ o1 h236 _ w) (lw_V q1250 q783 q784 q107 q785) rfl rfl (by decide +kernel) ⟨Nat.le_of_ble_eq_true rfl, Nat.le_of_ble_eq_true rfl⟩ ck2 (by decide) rfl h236 rfl rfl rfl (Nat.le_of_ble_eq_true rfl) dX9_land_293 (kOk.f0 hk235)) (fun V238 w => ?_)
  have hk235 := kOk.s0 hk235
  refine g_aload_n O dX9_land_296 rfl ?_
  exact gt_aret (r := some o1) (f := fun u => u) (u := (z, T, L, V238, P233)) O hQ (kOk.m hk235) (by first | exact Or.inl ⟨_, rfl⟩ | exact Or.inr ⟨_, rfl⟩) rfl ⟨_, rfl, w⟩ dX9_land_297
-- X1_init
abbrev rFX1_init (U0 : Nat) : Room := { frames := 9, cells := 8 * U0, slots := 32 * U0, locals := 212 }
set_option maxHeartbeats 4000000 in
theorem kFX1_init (l : Launch) (hfl : l.flags = flags0) (E : w_E) (U0 z : Nat) (T L : Nat → Nat) (V : w_V) (P : w_P) (t : Nat) (hT : T t = 52) (post : Nat → (Nat → Nat) → (Nat → Nat) → w_V → w_P → Prop) (w : wFX1_init E.2.2.2.2 U0 z T L V P t post) : Met l yX1_init (ws_ yX1_init cX1_init 1 none) (rFX1_init U0) (va_Pc [.ref t] (fun U => kenv E U ∧ wdW E (z, T, L, V, P) U.heap)) (va_Qv (qF0 post) (wdF E) (w_A E)) (8 * U0) (32 * U0) (w_A E) := by
  refine g_startN (w := (z, T, L, V, P)) hfl (by decide +kernel) rfl [some (.ref t)] rfl (fun _ h => h) (Nat.le_of_ble_eq_true rfl) (fun X hl hRm hEe O hI hQ => ?_)
  subst hl
  subst hEe
  have hk : kOk (rFX1_init U0) 0 0 U0 := ⟨by show 0 + 8 * U0 ≤ 8 * U0; omega, by show 0 + 32 * U0 ≤ 32 * U0; omega⟩
  unfold wFX1_init at w
  refine g_aload_n O dX1_init_0 rfl ?_
  refine gc_objInit O hRm q152 (Nat.le_of_ble_eq_true rfl) (Nat.le_of_ble_eq_true rfl) rfl dX1_init_1 ?_
  refine g_aload_n O dX1_init_4 rfl ?_
  obtain ⟨U6, e7, w⟩ := w
  have hk9 := kOk.eq hk e7
  refine gq_new (lay := 52) (u := 1) O hRm ck2 (by decide) rfl (by decide +kernel) q155 q156 q107 hk9 (by decide) (by decide) dX1_init_5 (fun o1 z T L V2 P3 hk4 hn5 => ?_)
  replace w := w o1 z T L V2 P3 hn5
  obtain ⟨h8, w⟩ := w
  refine g_dup O dX1_init_8 rfl ?_
  obtain ⟨c9, U10, e11, w⟩ := w
  have hk9 := kOk.eq hk4 e11
  refine g_mv (gr_IN (nA := 0) (As := []) (rest := [.ref o1, .ref t]) O hRm (kFX2_init _ O.2.2.2.2.2.2.2.2 (cxE X) _ _ _ _ _ _ o1 hn5.t _ w) (lw_meth q159) q157 q158 q107 rfl rfl rfl (by decide +kernel) ⟨Nat.le_of_ble_eq_true rfl, Nat.le_of_ble_eq_true rfl⟩ rfl rfl rfl (Nat.le_of_ble_eq_true rfl) dX1_init_9 (kOk.fa hk9)) (fun z T L V12 P13 w => ?_)
  have hk14 := kOk.sa hk9
  obtain ⟨h16, h17, w⟩ := w
  refine gx_putR (lay := 51) (j := 0) (x := (some o1)) O ck1 (by decide) rfl rfl (by decide) h17 q810 rfl rfl rfl rfl dX1_init_12 ?_
  refine g_nP w (fun P18 w _ => ?_)
  refine g_aload_n O dX1_init_15 rfl ?_
  obtain ⟨U24, e25, w⟩ := w
  have hk9 := kOk.eq hk14 e25
  refine gq_new (lay := 54) (u := 1) O hRm ck4 (by decide) rfl (by decide +kernel) q571 q572 q130 hk9 (by decide) (by decide) dX1_init_16 (fun o19 z T L V20 P21 hk22 hn23 => ?_)
  replace w := w o19 z T L V20 P21 hn23
  obtain ⟨h26, w⟩ := w
  refine g_dup O dX1_init_19 rfl ?_
  obtain ⟨c27, U28, e29, w⟩ := w
  have hk9 := kOk.eq hk22 e29
  refine g_mv (gr_I (nA := 0) (As := []) (rest := [.ref o19, .ref t]) O hRm (kFX5_init _ O.2.2.2.2.2.2.2.2 (cxE X) _ _ _ _ _ _ o19 hn23.t _ w) (lw_meth q575) q573 q574 q130 rfl rfl rfl (by decide +kernel) ⟨Nat.le_of_ble_eq_true rfl, Nat.le_of_ble_eq_true rfl⟩ rfl rfl rfl (Nat.le_of_ble_eq_true rfl) dX1_init_20 (kOk.fa hk9)) (fun z T L V30 P31 w => ?_)
  have hk32 := kOk.sa hk9
  obtain ⟨h34, h35, w⟩ := w
  refine gx_putRF (lay := 51) (j := 1) (x := (some o19)) O hI ck1 (by decide) rfl rfl (by decide) h35 q811 rfl rfl rfl (by first | exact Or.inl ⟨_, rfl⟩ | exact Or.inr ⟨_, rfl⟩) dX1_init_23 ?_
  refine g_nP w (fun P36 w _ => ?_)
  refine g_aload_n O dX1_init_26 rfl ?_
  obtain ⟨U42, e43, w⟩ := w
  have hk9 := kOk.eq hk32 e43
  refine gq_new (lay := 54) (u := 1) O hRm ck4 (by decide) rfl (by decide +kernel) q571 q572 q130 hk9 (by decide) (by decide) dX1_init_27 (fun o37 z T L V38 P39 hk40 hn41 => ?_)
  replace w := w o37 z T L V38 P39 hn41
  obtain ⟨h44, w⟩ := w
  refine g_dup O dX1_init_30 rfl ?_
  obtain ⟨c45, U46, e47, w⟩ := w
  have hk9 := kOk.eq hk40 e47
  refine g_mv (gr_I (nA := 0) (As := []) (rest := [.ref o37, .ref t]) O hRm (kFX5_init _ O.2.2.2.2.2.2.2.2 (cxE X) _ _ _ _ _ _ o37 hn41.t _ w) (lw_meth q575) q573 q574 q130 rfl rfl rfl (by decide +kernel) ⟨Nat.le_of_ble_eq_true rfl, Nat.le_of_ble_eq_true rfl⟩ rfl rfl rfl (Nat.le_of_ble_eq_true rfl) dX1_init_31 (kOk.fa hk9)) (fun z T L V48 P49 w => ?_)
  have hk50 := kOk.sa hk9
  obtain ⟨h52, h53, w⟩ := w
  refine gx_putRF (lay := 51) (j := 2) (x := (some o37)) O hI ck1 (by decide) rfl rfl (by decide) h53 q812 rfl rfl rfl (by first | exact Or.inl ⟨_, rfl⟩ | exact Or.inr ⟨_, rfl⟩) dX1_init_34 ?_
  refine g_nP w (fun P54 w _ => ?_)
  refine g_aload_n O dX1_init_37 rfl ?_
  refine g_aload_n O dX1_init_38 rfl ?_
  obtain ⟨b55, hp56, ht57, w⟩ := w
  refine gx_getR (lay := 51) (j := 1) O ck1 (by decide) rfl rfl hp56 (by decide) h53 q811 dX1_init_39 ?_
  obtain ⟨b58, hp59, ht60, w⟩ := w
  refine gx_getRN (lay := 4) (j := 0) O ck4 (by decide) rfl rfl hp59 (by decide) ht57 q698 dX1_init_42 ?_
  refine gx_putRF (lay := 51) (j := 3) (x := (some b58)) O hI ck1 (by decide) rfl rfl (by decide) h53 q813 rfl rfl rfl (by first | exact Or.inl ⟨_, rfl⟩ | exact Or.inr ⟨_, rfl⟩) dX1_init_45 ?_
  refine g_nP w (fun P61 w _ => ?_)
  refine g_aload_n O dX1_init_48 rfl ?_
  obtain ⟨U67, e68, w⟩ := w
  have hk9 := kOk.eq hk50 e68
  refine gq_new (lay := 55) (u := 1) O hRm ck5 (by decide) rfl (by decide +kernel) q731 q578 q131 hk9 (by decide) (by decide) dX1_init_49 (fun o62 z T L V63 P64 hk65 hn66 => ?_)
  replace w := w o62 z T L V63 P64 hn66
  obtain ⟨h69, w⟩ := w
  refine g_dup O dX1_init_52 rfl ?_
  obtain ⟨c70, U71, e72, w⟩ := w
  have hk9 := kOk.eq hk65 e72
  refine g_mv (gr_IN (nA := 0) (As := []) (rest := [.ref o62, .ref t]) O hRm (kFX6_init _ O.2.2.2.2.2.2.2.2 (cxE X) _ _ _ _ _ _ o62 hn66.t _ w) (lw_meth q581) q732 q580 q131 rfl rfl rfl (by decide +kernel) ⟨Nat.le_of_ble_eq_true rfl, Nat.le_of_ble_eq_true rfl⟩ rfl rfl rfl (Nat.le_of_ble_eq_true rfl) dX1_init_53 (kOk.fa hk9)) (fun z T L V73 P74 w => ?_)
  have hk75 := kOk.sa hk9
  obtain ⟨h77, h78, w⟩ := w
  refine gx_putRF (lay := 51) (j := 4) (x := (some o62)) O hI ck1 (by decide) rfl rfl (by decide) h78 q814 rfl rfl rfl (by first | exact Or.inl ⟨_, rfl⟩ | exact Or.inr ⟨_, rfl⟩) dX1_init_56 ?_
  refine g_nP w (fun P79 w _ => ?_)
  refine g_aload_n O dX1_init_59 rfl ?_
  obtain ⟨U85, e86, w⟩ := w
  have hk9 := kOk.eq hk75 e86
  refine gq_new (lay := 56) (u := 1) O hRm ck6 (by decide) rfl (by decide +kernel) q733 q734 q132 hk9 (by decide) (by decide) dX1_init_60 (fun o80 z T L V81 P82 hk83 hn84 => ?_)
  replace w := w o80 z T L V81 P82 hn84
  obtain ⟨h87, w⟩ := w
  refine g_dup O dX1_init_63 rfl ?_
  refine g_aload_n O dX1_init_64 rfl ?_
  obtain ⟨b88, hp89, ht90, w⟩ := w
  refine gx_getR (lay := 51) (j := 0) O ck1 (by decide) rfl rfl hp89 (by decide) h87 q810 dX1_init_65 ?_
  refine g_aload_n O dX1_init_68 rfl ?_
  obtain ⟨b91, hp92, ht93, w⟩ := w
  refine gx_getR (lay := 51) (j := 4) O ck1 (by decide) rfl rfl hp92 (by decide) h87 q814 dX1_init_69 ?_
  obtain ⟨c94, U95, e96, w⟩ := w
  have hk9 := kOk.eq hk83 e96
  refine g_mv (gr_I (nA := 2) (As := [.ref b88, .ref b91]) (rest := [.ref o80, .ref t]) O hRm (kFX7_init _ O.2.2.2.2.2.2.2.2 (cxE X) _ _ _ _ _ _ o80 hn84.t b88 ht90 b91 ht93 _ w) (lw_meth q737) q735 q736 q132 rfl rfl rfl (by decide +kernel) ⟨Nat.le_of_ble_eq_true rfl, Nat.le_of_ble_eq_true rfl⟩ rfl rfl rfl (Nat.le_of_ble_eq_true rfl) dX1_init_72 (kOk.fa hk9)) (fun z T L V97 P98 w => ?_)
  have hk99 := kOk.sa hk9
  obtain ⟨h101, h102, w⟩ := w
  refine gx_putR (lay := 51) (j := 5) (x := (some o80)) O ck1 (by decide) rfl rfl (by decide) h102 q815 rfl rfl rfl rfl dX1_init_75 ?_
  refine g_nP w (fun P103 w _ => ?_)
  refine g_aload_n O dX1_init_78 rfl ?_
  refine g_sipush (v := 600) O dX1_init_79 (by decide) ?_
  obtain ⟨U109, e110, w⟩ := w
  have hk9 := kOk.eq hk99 e110
  refine gq_newB (N := 600) (u := 19) O hRm q250 rfl (by decide) hk9 (by decide) (by decide) dX1_init_82 (fun o104 z T L V105 P106 hk107 hn108 => ?_)
  replace w := w o104 z T L V105 P106 hn108
  obtain ⟨h111, w⟩ := w
  refine gx_putRF (lay := 51) (j := 7) (x := (some o104)) O hI ck1 (by decide) rfl rfl (by decide) h111 q817 rfl rfl rfl (by first | exact Or.inl ⟨_, rfl⟩ | exact Or.inr ⟨_, rfl⟩) dX1_init_84 ?_
  refine g_nP w (fun P112 w _ => ?_)
  refine gq_seal (c := 1) (by decide) rfl w (fun T V113 hT114 w => ?_)
  refine g_aload_n O dX1_init_87 rfl ?_
  refine g_iconst (v := (-1)) O dX1_init_88 (by decide) ?_
  refine gx_putI (lay := 1) (j := 9) (ty := .int) O ck1 (by decide) rfl rfl (by decide) hT114 q819 rfl rfl rfl rfl dX1_init_89 ?_
  refine g_nV w (fun V115 w _ => ?_)
  refine g_aload_n O dX1_init_92 rfl ?_
  obtain ⟨b116, hp117, ht118, w⟩ := w
  refine gx_getR (lay := 1) (j := 0) O ck1 (by decide) rfl rfl hp117 (by decide) hT114 q810 dX1_init_93 ?_
  refine g_rv1 (gr_V (lay := 2) (nA := 0) (As := []) (rest := []) O hRm (kX2_measures _ O.2.2.2.2.2.2.2.2 _ _ _ _ _ _ b116 ht118 _ w) (lw_V q782 q783 q784 q107 q785) rfl rfl (by decide +kernel) ⟨Nat.le_of_ble_eq_true rfl, Nat.le_of_ble_eq_true rfl⟩ ck2 (by decide) rfl ht118 rfl rfl rfl (Nat.le_of_ble_eq_true rfl) dX1_init_96 (kOk.f0 hk107)) (fun V120 w => ?_)
  have hk107 := kOk.s0 hk107
  refine g_aload_n O dX1_init_99 rfl ?_
  obtain ⟨b122, hp123, ht124, w⟩ := w
  refine gx_getR (lay := 1) (j := 3) O ck1 (by decide) rfl rfl hp123 (by decide) hT114 q813 dX1_init_100 ?_
  refine g_aload_n O dX1_init_103 rfl ?_
  obtain ⟨b125, hp126, ht127, w⟩ := w
  refine gx_getR (lay := 1) (j := 0) O ck1 (by decide) rfl rfl hp126 (by decide) hT114 q810 dX1_init_104 ?_
  refine g_rv1 (gr_V (lay := 5) (nA := 1) (As := [.ref b125]) (rest := []) O hRm (kX6_begins _ O.2.2.2.2.2.2.2.2 _ _ _ _ _ _ b122 ht124 b125 ht127 _ w) (lw_V q787 q788 q789 q131 q790) rfl rfl (by decide +kernel) ⟨Nat.le_of_ble_eq_true rfl, Nat.le_of_ble_eq_true rfl⟩ ck5 (by decide) rfl ht124 rfl rfl rfl (Nat.le_of_ble_eq_true rfl) dX1_init_107 (kOk.f0 hk107)) (fun V129 w => ?_)
  have hk107 := kOk.s0 hk107
  exact gm2_vret O hQ (kOk.m hk107) w dX1_init_110
-- X1_game
abbrev rFX1_game (U0 : Nat) : Room := { frames := 1251, cells := 8 * U0, slots := 32 * U0, locals := 37420 }
set_option maxHeartbeats 4000000 in
theorem vlFX1_game_35 {X : Cx} {U0 : Nat} (O : Okc X cX1_game RX1 10 (some .int)) (hRm : cxR X = (rFX1_game U0)) (hN : noTab X) (x0 : Nat) (x1 : Int32) (x2 : Int32) (x3 : Int32) (dx4 ax4 kx4 nx4 : Nat) (post : Int32 → Nat → (Nat → Nat) → (Nat → Nat) → w_V → w_P → Prop) (xp : w_Xp) (hQ : cxMX X (va_Qi (qF1 post) (wdF (cxE X)) (w_A (cxE X))) (xF xp) (rFX1_game U0).cells (rFX1_game U0).slots) (ke_67 : Nat → Nat → (Nat → Nat) → (Nat → Nat) → w_V → w_P → Prop) (hke_67 : ∀ (kc ks U z : Nat) (T L : Nat → Nat) (V : w_V) (P : w_P) (_hx4 : hArr T L dx4 ax4 kx4 nx4 2) (_gx4 : nx4 < 2147483648), kOk (rFX1_game U0) kc ks U → ke_67 U z T L V P → gW X kc ks z T L V P 67 [none, none, some (.int x2), some (.int x3), some (.ref dx4), none, none, none, none, none] []) : ∀ (n kc ks U z : Nat) (T L : Nat → Nat) (V : w_V) (P : w_P) (x5 : Int32) (hx0 : T x0 = 2) (hx4 : hArr T L dx4 ax4 kx4 nx4 2) (gx4 : nx4 < 2147483648), kOk (rFX1_game U0) kc ks U → lFX1_game_35 (cxE X).2.2.2.2 x0 x1 x2 x3 dx4 ax4 kx4 nx4 post xp ke_67 n U z T L V P x5 → gW X kc ks z T L V P 35 [some (.ref x0), some (.int x1), some (.int x2), some (.int x3), some (.ref dx4), some (.int x5), none, none, none, none] [] := by
  intro n
  induction n with
  | zero =>
    intro kc ks U z T L V P x5 hx0 hx4 gx4 hk w
    exact w.elim
  | succ n ih =>
    intro kc ks U z T L V P x5 hx0 hx4 gx4 hk w
    unfold lFX1_game_35 at w
    refine g_iload O dX1_game_35 rfl ?_
    refine g_iload_n O dX1_game_37 rfl ?_
    refine g_iload_n O dX1_game_38 rfl ?_
    refine g_imul O dX1_game_39 ?_
    refine g_icmp_ge (tgt := 67) O w dX1_game_40 (by decide) (fun w => ?_) (fun w => ?_)
    · refine g_drop [0, 1, 5] (lv' := [none, none, some (.int x2), some (.int x3), some (.ref dx4), none, none, none, none, none]) rfl ?_
      exact hke_67 _ _ _ _ _ _ _ _ hx4 gx4 hk w
    · refine g_aload O dX1_game_43 rfl ?_
      refine g_iload O dX1_game_45 rfl ?_
      refine g_aload_n O dX1_game_47 rfl ?_
      refine g_iload_n O dX1_game_48 rfl ?_
      refine g_iload O dX1_game_49 rfl ?_
      refine g_iload_n O dX1_game_51 rfl ?_
      obtain ⟨hz28, w⟩ := w
      refine g_idiv O hz28 dX1_game_52 ?_
      refine g_iload O dX1_game_53 rfl ?_
      refine g_iload_n O dX1_game_55 rfl ?_
      obtain ⟨hz29, w⟩ := w
      refine g_irem O hz29 dX1_game_56 ?_
      refine g_ri1 (gr_V (lay := 1) (nA := 3) (As := [.int x1, .int (x5 / x3), .int (x5 - x5 / x3 * x3)]) (rest := [.int x5, .ref dx4]) O hRm (kX1_wins _ O.2.2.2.2.2.2.2.2 _ _ _ _ _ _ x0 hx0 (x1) ((x5 / x3)) ((x5 - x5 / x3 * x3)) _ w) (lw_V q1696 q1698 qs47 q106 q1699) rfl rfl (by decide +kernel) ⟨Nat.le_of_ble_eq_true rfl, Nat.le_of_ble_eq_true rfl⟩ ck1 (by decide) rfl hx0 rfl rfl rfl (Nat.le_of_ble_eq_true rfl) dX1_game_57 (kOk.f0 hk)) (fun r30 V31 w => ?_)
      have hk := kOk.s0 hk
      obtain ⟨i33, hi34, e35, w⟩ := w
      refine gx_zast (a := ax4) (kk0 := kx4) (len := nx4) (nn := i33) O hx4 hi34 gx4 e35 dX1_game_60 ?_
      refine g_nV w (fun V36 w _ => ?_)
      refine g_iinc (v := (x5 + 1)) O dX1_game_61 rfl rfl rfl (lv' := [some (.ref x0), some (.int x1), some (.int x2), some (.int x3), some (.ref dx4), some (.int (x5 + 1)), none, none, none, none]) rfl ?_
      refine g_goto (tgt := 35) O dX1_game_64 (by decide) ?_
      exact ih _ _ _ _ _ _ _ _ ((x5 + 1)) hx0 hx4 gx4 hk w
set_option maxHeartbeats 4000000 in
theorem vjFX1_game_147 {X : Cx} {U0 : Nat} (O : Okc X cX1_game RX1 10 (some .int)) (hRm : cxR X = (rFX1_game U0)) (hN : noTab X) {kc ks U z : Nat} {T L : Nat → Nat} {V : w_V} {P : w_P} (x2 : Int32) (x3 : Int32) (dx4 ax4 kx4 nx4 : Nat) (hx4 : hArr T L dx4 ax4 kx4 nx4 2) (gx4 : nx4 < 2147483648) (x5 : Int32) (x6 : Int32) (x7 : Int32) (x9 : Int32) (t0 : Int32) (post : Int32 → Nat → (Nat → Nat) → (Nat → Nat) → w_V → w_P → Prop) (xp : w_Xp) (hk : kOk (rFX1_game U0) kc ks U) (hQ : cxMX X (va_Qi (qF1 post) (wdF (cxE X)) (w_A (cxE X))) (xF xp) (rFX1_game U0).cells (rFX1_game U0).slots) (kb : Nat → Nat → (Nat → Nat) → (Nat → Nat) → w_V → w_P → Int32 → Int32 → Prop) (hkb : ∀ (kc ks U z : Nat) (T L : Nat → Nat) (V : w_V) (P : w_P) (y8 : Int32) (y9 : Int32) (_hx4 : hArr T L dx4 ax4 kx4 nx4 2) (_gx4 : nx4 < 2147483648), kOk (rFX1_game U0) kc ks U → kb U z T L V P y8 y9 → gW X kc ks z T L V P 90 [none, none, some (.int x2), some (.int x3), some (.ref dx4), some (.int x5), some (.int x6), some (.int x7), some (.int y8), some (.int y9)] []) (w : jFX1_game_147 (cxE X).2.2.2.2 U z T L V P x2 x3 dx4 ax4 kx4 nx4 x5 x6 x7 x9 t0 post xp kb) : gW X kc ks z T L V P 147 [none, none, some (.int x2), some (.int x3), some (.ref dx4), some (.int x5), some (.int x6), some (.int x7), none, some (.int x9)] [.int t0] := by
  unfold jFX1_game_147 at w
  refine g_istore O dX1_game_147 (Nat.le_of_ble_eq_true rfl) rfl (lv' := [none, none, some (.int x2), some (.int x3), some (.ref dx4), some (.int x5), some (.int x6), some (.int x7), some (.int t0), some (.int x9)]) rfl ?_
  refine g_iinc (v := (x9 + 1)) O dX1_game_149 rfl rfl rfl (lv' := [none, none, some (.int x2), some (.int x3), some (.ref dx4), some (.int x5), some (.int x6), some (.int x7), some (.int t0), some (.int (x9 + 1))]) rfl ?_
  refine g_goto (tgt := 90) O dX1_game_152 (by decide) ?_
  exact hkb _ _ _ _ _ _ _ _ (t0) ((x9 + 1)) hx4 gx4 hk w
set_option maxHeartbeats 4000000 in
theorem vjFX1_game_146 {X : Cx} {U0 : Nat} (O : Okc X cX1_game RX1 10 (some .int)) (hRm : cxR X = (rFX1_game U0)) (hN : noTab X) {kc ks U z : Nat} {T L : Nat → Nat} {V : w_V} {P : w_P} (x2 : Int32) (x3 : Int32) (dx4 ax4 kx4 nx4 : Nat) (hx4 : hArr T L dx4 ax4 kx4 nx4 2) (gx4 : nx4 < 2147483648) (x5 : Int32) (x6 : Int32) (x7 : Int32) (x9 : Int32) (post : Int32 → Nat → (Nat → Nat) → (Nat → Nat) → w_V → w_P → Prop) (xp : w_Xp) (hk : kOk (rFX1_game U0) kc ks U) (hQ : cxMX X (va_Qi (qF1 post) (wdF (cxE X)) (w_A (cxE X))) (xF xp) (rFX1_game U0).cells (rFX1_game U0).slots) (kb : Nat → Nat → (Nat → Nat) → (Nat → Nat) → w_V → w_P → Int32 → Int32 → Prop) (hkb : ∀ (kc ks U z : Nat) (T L : Nat → Nat) (V : w_V) (P : w_P) (y8 : Int32) (y9 : Int32) (_hx4 : hArr T L dx4 ax4 kx4 nx4 2) (_gx4 : nx4 < 2147483648), kOk (rFX1_game U0) kc ks U → kb U z T L V P y8 y9 → gW X kc ks z T L V P 90 [none, none, some (.int x2), some (.int x3), some (.ref dx4), some (.int x5), some (.int x6), some (.int x7), some (.int y8), some (.int y9)] []) (w : jFX1_game_146 (cxE X).2.2.2.2 U z T L V P x2 x3 dx4 ax4 kx4 nx4 x5 x6 x7 x9 post xp kb) : gW X kc ks z T L V P 146 [none, none, some (.int x2), some (.int x3), some (.ref dx4), some (.int x5), some (.int x6), some (.int x7), none, some (.int x9)] [] := by
  unfold jFX1_game_146 at w
  refine g_iconst (v := 0) O dX1_game_146 (by decide) ?_
  exact vjFX1_game_147 O hRm hN (x2) (x3) (dx4) ax4 kx4 nx4 hx4 gx4 (x5) (x6) (x7) (x9) (0) post xp hk hQ kb hkb w
set_option maxHeartbeats 4000000 in
theorem vjFX1_game_142 {X : Cx} {U0 : Nat} (O : Okc X cX1_game RX1 10 (some .int)) (hRm : cxR X = (rFX1_game U0)) (hN : noTab X) {kc ks U z : Nat} {T L : Nat → Nat} {V : w_V} {P : w_P} (x2 : Int32) (x3 : Int32) (dx4 ax4 kx4 nx4 : Nat) (hx4 : hArr T L dx4 ax4 kx4 nx4 2) (gx4 : nx4 < 2147483648) (x5 : Int32) (x6 : Int32) (x7 : Int32) (x9 : Int32) (post : Int32 → Nat → (Nat → Nat) → (Nat → Nat) → w_V → w_P → Prop) (xp : w_Xp) (hk : kOk (rFX1_game U0) kc ks U) (hQ : cxMX X (va_Qi (qF1 post) (wdF (cxE X)) (w_A (cxE X))) (xF xp) (rFX1_game U0).cells (rFX1_game U0).slots) (kb : Nat → Nat → (Nat → Nat) → (Nat → Nat) → w_V → w_P → Int32 → Int32 → Prop) (hkb : ∀ (kc ks U z : Nat) (T L : Nat → Nat) (V : w_V) (P : w_P) (y8 : Int32) (y9 : Int32) (_hx4 : hArr T L dx4 ax4 kx4 nx4 2) (_gx4 : nx4 < 2147483648), kOk (rFX1_game U0) kc ks U → kb U z T L V P y8 y9 → gW X kc ks z T L V P 90 [none, none, some (.int x2), some (.int x3), some (.ref dx4), some (.int x5), some (.int x6), some (.int x7), some (.int y8), some (.int y9)] []) (w : jFX1_game_142 (cxE X).2.2.2.2 U z T L V P x2 x3 dx4 ax4 kx4 nx4 x5 x6 x7 x9 post xp kb) : gW X kc ks z T L V P 142 [none, none, some (.int x2), some (.int x3), some (.ref dx4), some (.int x5), some (.int x6), some (.int x7), none, some (.int x9)] [] := by
  unfold jFX1_game_142 at w
  refine g_iconst (v := 1) O dX1_game_142 (by decide) ?_
  refine g_goto (tgt := 147) O dX1_game_143 (by decide) ?_
  exact vjFX1_game_147 O hRm hN (x2) (x3) (dx4) ax4 kx4 nx4 hx4 gx4 (x5) (x6) (x7) (x9) (1) post xp hk hQ kb hkb w
set_option maxHeartbeats 4000000 in
theorem vlFX1_game_90 {X : Cx} {U0 : Nat} (O : Okc X cX1_game RX1 10 (some .int)) (hRm : cxR X = (rFX1_game U0)) (hN : noTab X) (x2 : Int32) (x3 : Int32) (dx4 ax4 kx4 nx4 : Nat) (x5 : Int32) (x6 : Int32) (x7 : Int32) (post : Int32 → Nat → (Nat → Nat) → (Nat → Nat) → w_V → w_P → Prop) (xp : w_Xp) (hQ : cxMX X (va_Qi (qF1 post) (wdF (cxE X)) (w_A (cxE X))) (xF xp) (rFX1_game U0).cells (rFX1_game U0).slots) (ke_155 : Nat → Nat → (Nat → Nat) → (Nat → Nat) → w_V → w_P → Int32 → Prop) (hke_155 : ∀ (kc ks U z : Nat) (T L : Nat → Nat) (V : w_V) (P : w_P) (y8 : Int32) (_hx4 : hArr T L dx4 ax4 kx4 nx4 2) (_gx4 : nx4 < 2147483648), kOk (rFX1_game U0) kc ks U → ke_155 U z T L V P y8 → gW X kc ks z T L V P 155 [none, none, some (.int x2), some (.int x3), some (.ref dx4), some (.int x5), some (.int x6), some (.int x7), some (.int y8), none] []) : ∀ (n kc ks U z : Nat) (T L : Nat → Nat) (V : w_V) (P : w_P) (x8 : Int32) (x9 : Int32) (hx4 : hArr T L dx4 ax4 kx4 nx4 2) (gx4 : nx4 < 2147483648), kOk (rFX1_game U0) kc ks U → lFX1_game_90 (cxE X).2.2.2.2 x2 x3 dx4 ax4 kx4 nx4 x5 x6 x7 post xp ke_155 n U z T L V P x8 x9 → gW X kc ks z T L V P 90 [none, none, some (.int x2), some (.int x3), some (.ref dx4), some (.int x5), some (.int x6), some (.int x7), some (.int x8), some (.int x9)] [] := by
  intro n
  induction n with
  | zero =>
    intro kc ks U z T L V P x8 x9 hx4 gx4 hk w
    exact w.elim
  | succ n ih =>
    intro kc ks U z T L V P x8 x9 hx4 gx4 hk w
    unfold lFX1_game_90 at w
    refine g_iload O dX1_game_90 rfl ?_
    refine g_iload_n O dX1_game_92 rfl ?_
    refine g_icmp_ge (tgt := 155) O w dX1_game_93 (by decide) (fun w => ?_) (fun w => ?_)
    · refine g_drop [9] (lv' := [none, none, some (.int x2), some (.int x3), some (.ref dx4), some (.int x5), some (.int x6), some (.int x7), some (.int x8), none]) rfl ?_
      exact hke_155 _ _ _ _ _ _ _ _ (x8) hx4 gx4 hk w
    · refine g_iload O dX1_game_96 rfl ?_
      refine g_if_eq (tgt := 146) O w dX1_game_98 (by decide) (fun w => ?_) (fun w => ?_)
      · refine g_drop [8] (lv' := [none, none, some (.int x2), some (.int x3), some (.ref dx4), some (.int x5), some (.int x6), some (.int x7), none, some (.int x9)]) rfl ?_
        exact vjFX1_game_146 O hRm hN (x2) (x3) (dx4) ax4 kx4 nx4 hx4 gx4 (x5) (x6) (x7) (x9) post xp hk hQ (lFX1_game_90 (cxE X).2.2.2.2 x2 x3 dx4 ax4 kx4 nx4 x5 x6 x7 post xp ke_155 n) ih w
      · refine g_aload O dX1_game_101 rfl ?_
        refine g_iload O dX1_game_103 rfl ?_
        obtain ⟨i45, hi46, e47, w⟩ := w
        refine gx_zald (a := ax4) (kk0 := kx4) (len := nx4) (nn := i45) O hx4 hi46 gx4 e47 dX1_game_105 ?_
        refine g_if_eq (tgt := 127) O w dX1_game_106 (by decide) (fun w => ?_) (fun w => ?_)
        · refine g_aload O dX1_game_127 rfl ?_
          refine g_iload O dX1_game_129 rfl ?_
          refine g_iload_n O dX1_game_131 rfl ?_
          refine g_imul O dX1_game_132 ?_
          refine g_iload O dX1_game_133 rfl ?_
          refine g_iload_n O dX1_game_135 rfl ?_
          obtain ⟨hz48, w⟩ := w
          refine g_irem O hz48 dX1_game_136 ?_
          refine g_iadd O dX1_game_137 ?_
          obtain ⟨i49, hi50, e51, w⟩ := w
          refine gx_zald (a := ax4) (kk0 := kx4) (len := nx4) (nn := i49) O hx4 hi50 gx4 e51 dX1_game_138 ?_
          refine g_if_ne (tgt := 146) O w dX1_game_139 (by decide) (fun w => ?_) (fun w => ?_)
          · refine g_drop [8] (lv' := [none, none, some (.int x2), some (.int x3), some (.ref dx4), some (.int x5), some (.int x6), some (.int x7), none, some (.int x9)]) rfl ?_
            exact vjFX1_game_146 O hRm hN (x2) (x3) (dx4) ax4 kx4 nx4 hx4 gx4 (x5) (x6) (x7) (x9) post xp hk hQ (lFX1_game_90 (cxE X).2.2.2.2 x2 x3 dx4 ax4 kx4 nx4 x5 x6 x7 post xp ke_155 n) ih w
          · refine g_drop [8] (lv' := [none, none, some (.int x2), some (.int x3), some (.ref dx4), some (.int x5), some (.int x6), some (.int x7), none, some (.int x9)]) rfl ?_
            exact vjFX1_game_142 O hRm hN (x2) (x3) (dx4) ax4 kx4 nx4 hx4 gx4 (x5) (x6) (x7) (x9) post xp hk hQ (lFX1_game_90 (cxE X).2.2.2.2 x2 x3 dx4 ax4 kx4 nx4 x5 x6 x7 post xp ke_155 n) ih w
        · refine g_aload O dX1_game_109 rfl ?_
          refine g_iload O dX1_game_111 rfl ?_
          refine g_iload_n O dX1_game_113 rfl ?_
          obtain ⟨hz52, w⟩ := w
          refine g_idiv O hz52 dX1_game_114 ?_
          refine g_iload_n O dX1_game_115 rfl ?_
          refine g_imul O dX1_game_116 ?_
          refine g_iload O dX1_game_117 rfl ?_
          refine g_iadd O dX1_game_119 ?_
          obtain ⟨i53, hi54, e55, w⟩ := w
          refine gx_zald (a := ax4) (kk0 := kx4) (len := nx4) (nn := i53) O hx4 hi54 gx4 e55 dX1_game_120 ?_
          refine g_if_eq (tgt := 146) O w dX1_game_121 (by decide) (fun w => ?_) (fun w => ?_)
          · refine g_drop [8] (lv' := [none, none, some (.int x2), some (.int x3), some (.ref dx4), some (.int x5), some (.int x6), some (.int x7), none, some (.int x9)]) rfl ?_
            exact vjFX1_game_146 O hRm hN (x2) (x3) (dx4) ax4 kx4 nx4 hx4 gx4 (x5) (x6) (x7) (x9) post xp hk hQ (lFX1_game_90 (cxE X).2.2.2.2 x2 x3 dx4 ax4 kx4 nx4 x5 x6 x7 post xp ke_155 n) ih w
          · refine g_goto (tgt := 142) O dX1_game_124 (by decide) ?_
            refine g_drop [8] (lv' := [none, none, some (.int x2), some (.int x3), some (.ref dx4), some (.int x5), some (.int x6), some (.int x7), none, some (.int x9)]) rfl ?_
            exact vjFX1_game_142 O hRm hN (x2) (x3) (dx4) ax4 kx4 nx4 hx4 gx4 (x5) (x6) (x7) (x9) post xp hk hQ (lFX1_game_90 (cxE X).2.2.2.2 x2 x3 dx4 ax4 kx4 nx4 x5 x6 x7 post xp ke_155 n) ih w
set_option maxHeartbeats 4000000 in
theorem vjFX1_game_186 {X : Cx} {U0 : Nat} (O : Okc X cX1_game RX1 10 (some .int)) (hRm : cxR X = (rFX1_game U0)) (hN : noTab X) {kc ks U z : Nat} {T L : Nat → Nat} {V : w_V} {P : w_P} (x2 : Int32) (x3 : Int32) (dx4 ax4 kx4 nx4 : Nat) (hx4 : hArr T L dx4 ax4 kx4 nx4 2) (gx4 : nx4 < 2147483648) (x5 : Int32) (x6 : Int32) (x7 : Int32) (post : Int32 → Nat → (Nat → Nat) → (Nat → Nat) → w_V → w_P → Prop) (xp : w_Xp) (hk : kOk (rFX1_game U0) kc ks U) (hQ : cxMX X (va_Qi (qF1 post) (wdF (cxE X)) (w_A (cxE X))) (xF xp) (rFX1_game U0).cells (rFX1_game U0).slots) (kb : Nat → Nat → (Nat → Nat) → (Nat → Nat) → w_V → w_P → Int32 → Int32 → Int32 → Prop) (hkb : ∀ (kc ks U z : Nat) (T L : Nat → Nat) (V : w_V) (P : w_P) (y5 : Int32) (y6 : Int32) (y7 : Int32) (_hx4 : hArr T L dx4 ax4 kx4 nx4 2) (_gx4 : nx4 < 2147483648), kOk (rFX1_game U0) kc ks U → kb U z T L V P y5 y6 y7 → gW X kc ks z T L V P 76 [none, none, some (.int x2), some (.int x3), some (.ref dx4), some (.int y5), some (.int y6), some (.int y7), none, none] []) (w : jFX1_game_186 (cxE X).2.2.2.2 U z T L V P x2 x3 dx4 ax4 kx4 nx4 x5 x6 x7 post xp kb) : gW X kc ks z T L V P 186 [none, none, some (.int x2), some (.int x3), some (.ref dx4), some (.int x5), some (.int x6), some (.int x7), none, none] [] := by
  unfold jFX1_game_186 at w
  refine g_iinc (v := (x7 + 1)) O dX1_game_186 rfl rfl rfl (lv' := [none, none, some (.int x2), some (.int x3), some (.ref dx4), some (.int x5), some (.int x6), some (.int (x7 + 1)), none, none]) rfl ?_
  refine g_goto (tgt := 76) O dX1_game_189 (by decide) ?_
  exact hkb _ _ _ _ _ _ _ _ (x5) (x6) ((x7 + 1)) hx4 gx4 hk w
set_option maxHeartbeats 4000000 in
theorem vlFX1_game_76 {X : Cx} {U0 : Nat} (O : Okc X cX1_game RX1 10 (some .int)) (hRm : cxR X = (rFX1_game U0)) (hN : noTab X) (x2 : Int32) (x3 : Int32) (dx4 ax4 kx4 nx4 : Nat) (post : Int32 → Nat → (Nat → Nat) → (Nat → Nat) → w_V → w_P → Prop) (xp : w_Xp) (hQ : cxMX X (va_Qi (qF1 post) (wdF (cxE X)) (w_A (cxE X))) (xF xp) (rFX1_game U0).cells (rFX1_game U0).slots) (ke_192 : Nat → Nat → (Nat → Nat) → (Nat → Nat) → w_V → w_P → Int32 → Int32 → Prop) (hke_192 : ∀ (kc ks U z : Nat) (T L : Nat → Nat) (V : w_V) (P : w_P) (y5 : Int32) (y6 : Int32), kOk (rFX1_game U0) kc ks U → ke_192 U z T L V P y5 y6 → gW X kc ks z T L V P 192 [none, none, some (.int x2), none, none, some (.int y5), some (.int y6), none, none, none] []) : ∀ (n kc ks U z : Nat) (T L : Nat → Nat) (V : w_V) (P : w_P) (x5 : Int32) (x6 : Int32) (x7 : Int32) (hx4 : hArr T L dx4 ax4 kx4 nx4 2) (gx4 : nx4 < 2147483648), kOk (rFX1_game U0) kc ks U → lFX1_game_76 (cxE X).2.2.2.2 x2 x3 dx4 ax4 kx4 nx4 post xp ke_192 n U z T L V P x5 x6 x7 → gW X kc ks z T L V P 76 [none, none, some (.int x2), some (.int x3), some (.ref dx4), some (.int x5), some (.int x6), some (.int x7), none, none] [] := by
  intro n
  induction n with
  | zero =>
    intro kc ks U z T L V P x5 x6 x7 hx4 gx4 hk w
    exact w.elim
  | succ n ih =>
    intro kc ks U z T L V P x5 x6 x7 hx4 gx4 hk w
    unfold lFX1_game_76 at w
    refine g_iload O dX1_game_76 rfl ?_
    refine g_iload_n O dX1_game_78 rfl ?_
    refine g_iload_n O dX1_game_79 rfl ?_
    refine g_imul O dX1_game_80 ?_
    refine g_icmp_ge (tgt := 192) O w dX1_game_81 (by decide) (fun w => ?_) (fun w => ?_)
    · refine g_drop [3, 4, 7] (lv' := [none, none, some (.int x2), none, none, some (.int x5), some (.int x6), none, none, none]) rfl ?_
      exact hke_192 _ _ _ _ _ _ _ _ (x5) (x6) hk w
    · refine g_iconst (v := 1) O dX1_game_84 (by decide) ?_
      refine g_istore O dX1_game_85 (Nat.le_of_ble_eq_true rfl) rfl (lv' := [none, none, some (.int x2), some (.int x3), some (.ref dx4), some (.int x5), some (.int x6), some (.int x7), some (.int 1), none]) rfl ?_
      refine g_iconst (v := 0) O dX1_game_87 (by decide) ?_
      refine g_istore O dX1_game_88 (Nat.le_of_ble_eq_true rfl) rfl (lv' := [none, none, some (.int x2), some (.int x3), some (.ref dx4), some (.int x5), some (.int x6), some (.int x7), some (.int 1), some (.int 0)]) rfl ?_
      obtain ⟨n70, w⟩ := w
      refine vlFX1_game_90 O hRm hN (x2) (x3) (dx4) ax4 kx4 nx4 (x5) (x6) (x7) post xp hQ _ (fun kc ks U58 z T L V56 P57 y67 h62 g63 hk59 w => ?_) n70 _ _ _ _ _ _ _ _ (1) (0) hx4 gx4 hk w
      refine g_iload O dX1_game_155 rfl ?_
      refine g_if_ne (tgt := 163) O w dX1_game_157 (by decide) (fun w => ?_) (fun w => ?_)
      · refine g_iinc (v := (x5 + 1)) O dX1_game_163 rfl rfl rfl (lv' := [none, none, some (.int x2), some (.int x3), some (.ref dx4), some (.int (x5 + 1)), some (.int x6), some (.int x7), some (.int y67), none]) rfl ?_
        refine g_iload O dX1_game_166 rfl ?_
        refine g_iconst (v := (-1)) O dX1_game_168 (by decide) ?_
        refine g_icmp_ne (tgt := 186) O w dX1_game_169 (by decide) (fun w => ?_) (fun w => ?_)
        · refine g_drop [8] (lv' := [none, none, some (.int x2), some (.int x3), some (.ref dx4), some (.int (x5 + 1)), some (.int x6), some (.int x7), none, none]) rfl ?_
          exact vjFX1_game_186 O hRm hN (x2) (x3) (dx4) ax4 kx4 nx4 h62 g63 ((x5 + 1)) (x6) (x7) post xp hk59 hQ (lFX1_game_76 (cxE X).2.2.2.2 x2 x3 dx4 ax4 kx4 nx4 post xp ke_192 n) ih w
        · refine g_bipush (v := 10) O dX1_game_172 (by decide) ?_
          refine g_iload O dX1_game_174 rfl ?_
          refine g_iload_n O dX1_game_176 rfl ?_
          obtain ⟨hz68, w⟩ := w
          refine g_idiv O hz68 dX1_game_177 ?_
          refine g_imul O dX1_game_178 ?_
          refine g_iload O dX1_game_179 rfl ?_
          refine g_iload_n O dX1_game_181 rfl ?_
          obtain ⟨hz69, w⟩ := w
          refine g_irem O hz69 dX1_game_182 ?_
          refine g_iadd O dX1_game_183 ?_
          refine g_istore O dX1_game_184 (Nat.le_of_ble_eq_true rfl) rfl (lv' := [none, none, some (.int x2), some (.int x3), some (.ref dx4), some (.int (x5 + 1)), some (.int ((10 * (x7 / x3)) + (x7 - x7 / x3 * x3))), some (.int x7), some (.int y67), none]) rfl ?_
          refine g_drop [8] (lv' := [none, none, some (.int x2), some (.int x3), some (.ref dx4), some (.int (x5 + 1)), some (.int ((10 * (x7 / x3)) + (x7 - x7 / x3 * x3))), some (.int x7), none, none]) rfl ?_
          exact vjFX1_game_186 O hRm hN (x2) (x3) (dx4) ax4 kx4 nx4 h62 g63 ((x5 + 1)) (((10 * (x7 / x3)) + (x7 - x7 / x3 * x3))) (x7) post xp hk59 hQ (lFX1_game_76 (cxE X).2.2.2.2 x2 x3 dx4 ax4 kx4 nx4 post xp ke_192 n) ih w
      · refine g_goto (tgt := 186) O dX1_game_160 (by decide) ?_
        refine g_drop [8] (lv' := [none, none, some (.int x2), some (.int x3), some (.ref dx4), some (.int x5), some (.int x6), some (.int x7), none, none]) rfl ?_
        exact vjFX1_game_186 O hRm hN (x2) (x3) (dx4) ax4 kx4 nx4 h62 g63 (x5) (x6) (x7) post xp hk59 hQ (lFX1_game_76 (cxE X).2.2.2.2 x2 x3 dx4 ax4 kx4 nx4 post xp ke_192 n) ih w
set_option maxHeartbeats 4000000 in
theorem kFX1_game (l : Launch) (hfl : l.flags = flags0) (E : w_E) (U0 z : Nat) (T L : Nat → Nat) (V : w_V) (P : w_P) (t : Nat) (hT : T t = 2) (x1 : Int32) (x2 : Int32) (post : Int32 → Nat → (Nat → Nat) → (Nat → Nat) → w_V → w_P → Prop) (xp : w_Xp) (w : wFX1_game E.2.2.2.2 U0 z T L V P t x1 x2 post xp) : vx_Met l yX1_game (ws_ yX1_game cX1_game 10 (some .int)) (rFX1_game U0) (va_Pc [.ref t, .int x1, .int x2] (fun U => kenv E U ∧ wdW E (z, T, L, V, P) U.heap)) (va_Qi (qF1 post) (wdF E) (w_A E)) (xcX E (xF xp)) (8 * U0) (32 * U0) (w_A E) := by
  refine g_startF (w := (z, T, L, V, P)) hfl (by decide +kernel) rfl [some (.ref t), some (.int x1), some (.int x2), none, none, none, none, none, none, none] rfl (fun _ h => h) (Nat.le_of_ble_eq_true rfl) (fun X hl hRm hEe O hN hI hQ => ?_)
  subst hl
  subst hEe
  have hk : kOk (rFX1_game U0) 0 0 U0 := ⟨by show 0 + 8 * U0 ≤ 8 * U0; omega, by show 0 + 32 * U0 ≤ 32 * U0; omega⟩
  unfold wFX1_game at w
  refine g_aload_n O dX1_game_0 rfl ?_
  refine g_iload_n O dX1_game_1 rfl ?_
  obtain ⟨U1, e2, w⟩ := w
  have hk9 := kOk.eq hk e2
  refine g_bv0 (c := 1) O hN hQ (kOk.fa hk9) (grx_V (lay := 1) (nA := 1) (As := [.int x1]) (rest := []) O hRm (kX1_caseAt _ O.2.2.2.2.2.2.2.2 (cxE X) z T L V P t hT (x1) _ (xFB z T L xp) w) (lw_V q1502 q1504 qs40 q106 q1505) rfl rfl (by decide +kernel) ⟨Nat.le_of_ble_eq_true rfl, Nat.le_of_ble_eq_true rfl⟩ ck1 (by decide) rfl hT rfl rfl rfl (Nat.le_of_ble_eq_true rfl) dX1_game_2 (kOk.fa hk9)) (fun w => ?_)
  have hk3 := kOk.sa hk9
  refine g_iload_n O dX1_game_5 rfl ?_
  refine g_iconst (v := 0) O dX1_game_6 (by decide) ?_
  refine g_iconst (v := 1) O dX1_game_7 (by decide) ?_
  refine g_ri0 (gr_S (nA := 3) (As := [.int x2, .int 0, .int 1]) (rest := []) O hRm (kX1_within _ O.2.2.2.2.2.2.2.2 _ _ _ _ _ _ (x2) (0) (1) _ w) (lw_S q1259 q1260 q106 q1261) rfl rfl (by decide +kernel) ⟨Nat.le_of_ble_eq_true rfl, Nat.le_of_ble_eq_true rfl⟩ rfl rfl rfl (Nat.le_of_ble_eq_true rfl) dX1_game_8 (kOk.f0 hk3)) (fun r4 w => ?_)
  have hk3 := kOk.s0 hk3
  obtain ⟨U7, e8, w⟩ := w
  have hk9 := kOk.eq hk3 e8
  refine g_bv0 (c := 1) O hN hQ (kOk.fa hk9) (grx_S (nA := 1) (As := [.int r4]) (rest := []) O hRm (kX1_there _ O.2.2.2.2.2.2.2.2 (cxE X) z T L V P (r4) _ (xFB z T L xp) w) (lw_S q1262 q1263 q106 q1264) rfl rfl (by decide +kernel) ⟨Nat.le_of_ble_eq_true rfl, Nat.le_of_ble_eq_true rfl⟩ rfl rfl rfl (Nat.le_of_ble_eq_true rfl) dX1_game_11 (kOk.fa hk9)) (fun w => ?_)
  have hk9 := kOk.sa hk9
  refine g_aload_n O dX1_game_14 rfl ?_
  obtain ⟨b10, hp11, ht12, w⟩ := w
  refine gx_getR (lay := 1) (j := 0) O ck1 (by decide) rfl rfl hp11 (by decide) hT q810 dX1_game_15 ?_
  obtain ⟨b13, hp14, ht15, w⟩ := w
  refine gx_getRN (lay := 2) (j := 6) O ck2 (by decide) rfl rfl hp14 (by decide) ht12 q541 dX1_game_18 ?_
  refine g_ri0 (gr_V (lay := 15) (nA := 0) (As := []) (rest := []) O hRm (kJ2_size _ O.2.2.2.2.2.2.2.2 _ _ _ _ _ _ b13 ht15 _ w) (lw_V q1280 q792 q793 q110 q794) rfl rfl (by decide +kernel) ⟨Nat.le_of_ble_eq_true rfl, Nat.le_of_ble_eq_true rfl⟩ ck15 (by decide) rfl ht15 rfl rfl rfl (Nat.le_of_ble_eq_true rfl) dX1_game_21 (kOk.f0 hk9)) (fun r16 w => ?_)
  have hk9 := kOk.s0 hk9
  refine g_istore_n O dX1_game_24 (Nat.le_of_ble_eq_true rfl) rfl (lv' := [some (.ref t), some (.int x1), some (.int x2), some (.int r16), none, none, none, none, none, none]) rfl ?_
  refine g_iload_n O dX1_game_25 rfl ?_
  refine g_iload_n O dX1_game_26 rfl ?_
  refine g_imul O dX1_game_27 ?_
  obtain ⟨n19, u80, U25, e81, e82, e83, e84, e26, w⟩ := w
  have hk9 := kOk.eq hk9 e26
  refine gq_newZ O hRm q730 e81 e82 hk9 e83 e84 dX1_game_28 (fun o20 z T L V21 P22 hk23 hn24 => ?_)
  replace w := w o20 z T L V21 P22 hn24
  obtain ⟨h27, w⟩ := w
  refine g_astore O dX1_game_30 (Nat.le_of_ble_eq_true rfl) rfl (lv' := [some (.ref t), some (.int x1), some (.int x2), some (.int r16), some (.ref o20), none, none, none, none, none]) rfl ?_
  refine g_iconst (v := 0) O dX1_game_32 (by decide) ?_
  refine g_istore O dX1_game_33 (Nat.le_of_ble_eq_true rfl) rfl (lv' := [some (.ref t), some (.int x1), some (.int x2), some (.int r16), some (.ref o20), some (.int 0), none, none, none, none]) rfl ?_
  obtain ⟨n79, w⟩ := w
  refine vlFX1_game_35 O hRm hN t (x1) (x2) (r16) (o20) o20 0 n19 post xp hQ _ (fun kc ks U39 z T L V37 P38 h43 g44 hk40 w => ?_) n79 _ _ _ _ _ _ _ _ (0) h27 (hn24.a (by decide)) (by omega) hk23 w
  refine g_iconst (v := 0) O dX1_game_67 (by decide) ?_
  refine g_istore O dX1_game_68 (Nat.le_of_ble_eq_true rfl) rfl (lv' := [none, none, some (.int x2), some (.int r16), some (.ref o20), some (.int 0), none, none, none, none]) rfl ?_
  refine g_iconst (v := (-1)) O dX1_game_70 (by decide) ?_
  refine g_istore O dX1_game_71 (Nat.le_of_ble_eq_true rfl) rfl (lv' := [none, none, some (.int x2), some (.int r16), some (.ref o20), some (.int 0), some (.int (-1)), none, none, none]) rfl ?_
  refine g_iconst (v := 0) O dX1_game_73 (by decide) ?_
  refine g_istore O dX1_game_74 (Nat.le_of_ble_eq_true rfl) rfl (lv' := [none, none, some (.int x2), some (.int r16), some (.ref o20), some (.int 0), some (.int (-1)), some (.int 0), none, none]) rfl ?_
  obtain ⟨n78, w⟩ := w
  refine vlFX1_game_76 O hRm hN (x2) (r16) (o20) o20 0 n19 post xp hQ _ (fun kc ks U73 z T L V71 P72 y76 y77 hk74 w => ?_) n78 _ _ _ _ _ _ _ _ (0) ((-1)) (0) h43 g44 hk40 w
  refine g_iload_n O dX1_game_192 rfl ?_
  refine g_if_ne (tgt := 201) O w dX1_game_193 (by decide) (fun w => ?_) (fun w => ?_)
  · refine g_iload O dX1_game_201 rfl ?_
    exact gt_iret (f := fun u => u) (u := (z, T, L, V71, P72)) O hQ (kOk.m hk74) rfl rfl w dX1_game_203
  · refine g_iload O dX1_game_196 rfl ?_
    refine g_goto (tgt := 203) O dX1_game_198 (by decide) ?_
    exact gt_iret (f := fun u => u) (u := (z, T, L, V71, P72)) O hQ (kOk.m hk74) rfl rfl w dX1_game_203
