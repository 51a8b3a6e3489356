/-! printed by gen/ggen.py out of the given decode rows: walks of ApartBench.land and of the constructor of ApartBenchModel -/
set_option maxRecDepth 100000
-- X1_land
abbrev rFX1_land (U0 : Nat) : Room := { frames := 138, cells := 8 * U0, slots := 32 * U0, locals := 3214 }
set_option maxHeartbeats 4000000 in
theorem vjFX1_land_17 {X : Cx} {U0 : Nat} (O : Okc X cX1_land RX1 3 (some .int)) (hRm : cxR X = (rFX1_land U0)) (hTb : hTab X [(30, 49, 52, 113)]) {kc ks U z : Nat} {T L : Nat → Nat} {V : w_V} {P : w_P} (x0 : Nat) (hx0 : T x0 = 2) (x1 : Int32) (t0 : Int32) (post : Int32 → Nat → (Nat → Nat) → (Nat → Nat) → w_V → w_P → Prop) (xp : w_Xp) (hk : kOk (rFX1_land U0) kc ks U) (hQ : cxMX X (va_Qi (qF1 post) (wdF (cxE X)) (w_A (cxE X))) (xF xp) (rFX1_land U0).cells (rFX1_land U0).slots) (w : jFX1_land_17 (cxE X).2.2.2.2 U z T L V P x0 x1 t0 post xp) : gW X kc ks z T L V P 17 [some (.ref x0), some (.int x1), none] [.int t0] := by
  unfold jFX1_land_17 at w
  obtain ⟨U1, e2, w⟩ := w
  have hk9 := kOk.eq hk e2
  refine gh_bv0 (c := 1) O hTb (by decide) hQ (kOk.fa hk9) (grx_S (nA := 1) (As := [.int t0]) (rest := []) O hRm (kX1_right _ O.2.2.2.2.2.2.2.2 (cxE X) z T L V P (t0) _ (xFB z T L xp) w) (lw_S q894 q895 q106 q896) rfl rfl (by decide +kernel) ⟨Nat.le_of_ble_eq_true rfl, Nat.le_of_ble_eq_true rfl⟩ rfl rfl rfl (Nat.le_of_ble_eq_true rfl) dX1_land_17 (kOk.fa hk9)) (fun w => ?_)
  have hk3 := kOk.sa hk9
  refine g_aload_n O dX1_land_20 rfl ?_
  refine g_iconst (v := 0) O dX1_land_21 (by decide) ?_
  refine gx_putI (lay := 1) (j := 8) (ty := .int) O ck1 (by decide) rfl rfl (by decide) hx0 q818 rfl rfl rfl rfl dX1_land_22 ?_
  refine g_nV w (fun V4 w _ => ?_)
  refine g_aload_n O dX1_land_25 rfl ?_
  refine g_iconst (v := (-1)) O dX1_land_26 (by decide) ?_
  refine gx_putI (lay := 1) (j := 9) (ty := .int) O ck1 (by decide) rfl rfl (by decide) hx0 q819 rfl rfl rfl rfl dX1_land_27 ?_
  refine g_nV w (fun V5 w _ => ?_)
  refine g_aload_n O dX1_land_30 rfl ?_
  obtain ⟨U11, e12, w⟩ := w
  have hk9 := kOk.eq hk3 e12
  refine gq_new (lay := 57) (u := 1) O hRm ck7 (by decide) rfl (by decide +kernel) q908 q909 q135 hk9 (by decide) (by decide) dX1_land_31 (fun o6 z T L V7 P8 hk9 hn10 => ?_)
  replace w := w o6 z T L V7 P8 hn10
  obtain ⟨h13, w⟩ := w
  refine g_dup O dX1_land_34 rfl ?_
  refine g_aload_n O dX1_land_35 rfl ?_
  refine gx_getA (lay := 1) (j := 7) O ck1 (by decide) rfl rfl (by decide) h13 q817 dX1_land_36 ?_
  refine g_iload_n O dX1_land_39 rfl ?_
  obtain ⟨c14, U15, e16, w⟩ := w
  have hk9 := kOk.eq hk9 e16
  refine g_mv (gr_I (nA := 2) (As := [.ref (x0 + 450), .int x1]) (rest := [.ref o6, .ref x0]) O hRm (kFX9_init _ O.2.2.2.2.2.2.2.2 (cxE X) _ _ _ _ _ _ o6 hn10.t ((x0 + 450)) x0 8 600 (ha_own (lay := 1) (j := 7) (off := 450) (ty := 1) (len := 600) (by decide) h13 rfl (by decide)) (by decide) (x1) _ w) (lw_meth q912) q910 q911 q135 rfl rfl rfl (by decide +kernel) ⟨Nat.le_of_ble_eq_true rfl, Nat.le_of_ble_eq_true rfl⟩ rfl rfl rfl (Nat.le_of_ble_eq_true rfl) dX1_land_40 (kOk.fa hk9)) (fun z T L V17 P18 w => ?_)
  have hk19 := kOk.sa hk9
  obtain ⟨h21, h22, w⟩ := w
  obtain ⟨c23, U24, e25, w⟩ := w
  have hk9 := kOk.eq hk19 e25
  refine gh_fq (grx_V (lay := 7) (nA := 0) (As := []) (rest := [.ref x0]) O hRm (kFX9_land _ O.2.2.2.2.2.2.2.2 (cxE X) _ _ _ _ _ _ o6 h21 _ _ w) (lw_V q1010 q1011 q1012 q135 q1013) rfl rfl (by decide +kernel) ⟨Nat.le_of_ble_eq_true rfl, Nat.le_of_ble_eq_true rfl⟩ ck7 (by decide) rfl h21 rfl rfl rfl (Nat.le_of_ble_eq_true rfl) dX1_land_43 (kOk.fa hk9)) (fun qx75 En9 z T L V77 P78 w => ?_) (fun r29 z T L V26 P27 w => ?_)
  · have hk80 := kOk.sa hk9
    obtain ⟨e9, hq79, w⟩ := w
    subst e9
    obtain ⟨h81, w⟩ := w
    refine gh_catch1 O hTb (by decide) (by decide) q893 q1034 ?_
    refine g_astore_n O dX1_land_52 (Nat.le_of_ble_eq_true rfl) rfl (lv' := [some (.ref x0), some (.int x1), some (.ref qx75)]) rfl ?_
    refine g_aload_n O dX1_land_53 rfl ?_
    refine g_aload_n O dX1_land_54 rfl ?_
    refine gx_getIN (lay := 16) (j := 1) O ck16 (by decide) rfl rfl (by decide) hq79 q1048 dX1_land_55 ?_
    refine gx_putI (lay := 1) (j := 9) (ty := .int) O ck1 (by decide) rfl rfl (by decide) h81 q819 rfl rfl rfl rfl dX1_land_58 ?_
    refine g_nV w (fun V82 w _ => ?_)
    refine g_aload_n O dX1_land_61 rfl ?_
    obtain ⟨b83, hp84, ht85, w⟩ := w
    refine gx_getR (lay := 1) (j := 1) O ck1 (by decide) rfl rfl hp84 (by decide) h81 q811 dX1_land_62 ?_
    refine gx_getAN (lay := 4) (j := 4) O ck4 (by decide) rfl rfl (by decide) ht85 q706 dX1_land_65 ?_
    refine g_iconst (v := 0) O dX1_land_68 (by decide) ?_
    refine g_dup2 O dX1_land_69 rfl rfl ?_
    refine gx_iald (a := b83) (kk0 := 5) (len := 3) (nn := 0) O (ha_own (lay := 4) (j := 4) (off := 10) (ty := 0) (len := 3) (by decide) ht85 rfl (by decide)) (by decide) (by decide) rfl dX1_land_70 ?_
    refine g_iconst (v := 1) O dX1_land_71 (by decide) ?_
    refine g_iadd O dX1_land_72 ?_
    refine gx_iast (a := b83) (kk0 := 5) (len := 3) (nn := 0) O (ha_own (lay := 4) (j := 4) (off := 10) (ty := 0) (len := 3) (by decide) ht85 rfl (by decide)) (by decide) (by decide) rfl dX1_land_73 ?_
    refine g_nV w (fun V86 w _ => ?_)
    refine g_aload_n O dX1_land_74 rfl ?_
    refine gx_getIN (lay := 16) (j := 0) O ck16 (by decide) rfl rfl (by decide) hq79 q1046 dX1_land_75 ?_
    exact gt_iret (f := fun u => u) (u := (z, T, L, V86, P78)) O hQ (kOk.m hk80) rfl rfl w dX1_land_78
  · have hk28 := kOk.sa hk9
    obtain ⟨h30, hr31, w⟩ := w
    refine gx_putR (lay := 1) (j := 0) (x := (some r29)) O ck1 (by decide) rfl rfl (by decide) h30 q810 rfl rfl rfl rfl dX1_land_46 ?_
    refine g_nP w (fun P32 w _ => ?_)
    refine g_goto (tgt := 79) O dX1_land_49 (by decide) ?_
    refine g_aload_n O dX1_land_79 rfl ?_
    obtain ⟨b33, hp34, ht35, w⟩ := w
    refine gx_getR (lay := 1) (j := 3) O ck1 (by decide) rfl rfl hp34 (by decide) h30 q813 dX1_land_80 ?_
    refine g_aload_n O dX1_land_83 rfl ?_
    obtain ⟨b36, hp37, ht38, w⟩ := w
    refine gx_getR (lay := 1) (j := 0) O ck1 (by decide) rfl rfl hp37 (by decide) h30 q810 dX1_land_84 ?_
    refine g_rv1 (gr_V (lay := 5) (nA := 1) (As := [.ref b36]) (rest := []) O hRm (kX6_begins _ O.2.2.2.2.2.2.2.2 _ _ _ _ _ _ b33 ht35 b36 ht38 _ w) (lw_V q787 q788 q789 q131 q790) rfl rfl (by decide +kernel) ⟨Nat.le_of_ble_eq_true rfl, Nat.le_of_ble_eq_true rfl⟩ ck5 (by decide) rfl ht35 rfl rfl rfl (Nat.le_of_ble_eq_true rfl) dX1_land_87 (kOk.f0 hk28)) (fun V40 w => ?_)
    have hk28 := kOk.s0 hk28
    refine g_aload_n O dX1_land_90 rfl ?_
    obtain ⟨U47, e48, w⟩ := w
    have hk9 := kOk.eq hk28 e48
    refine gq_new (lay := 56) (u := 1) O hRm ck6 (by decide) rfl (by decide +kernel) q733 q734 q132 hk9 (by decide) (by decide) dX1_land_91 (fun o42 z T L V43 P44 hk45 hn46 => ?_)
    replace w := w o42 z T L V43 P44 hn46
    obtain ⟨h49, w⟩ := w
    refine g_dup O dX1_land_94 rfl ?_
    refine g_aload_n O dX1_land_95 rfl ?_
    obtain ⟨b50, hp51, ht52, w⟩ := w
    refine gx_getR (lay := 1) (j := 0) O ck1 (by decide) rfl rfl hp51 (by decide) h49 q810 dX1_land_96 ?_
    refine g_aload_n O dX1_land_99 rfl ?_
    obtain ⟨b53, hp54, ht55, w⟩ := w
    refine gx_getR (lay := 1) (j := 4) O ck1 (by decide) rfl rfl hp54 (by decide) h49 q814 dX1_land_100 ?_
    obtain ⟨c56, U57, e58, w⟩ := w
    have hk9 := kOk.eq hk45 e58
    refine g_mv (gr_I (nA := 2) (As := [.ref b50, .ref b53]) (rest := [.ref o42, .ref x0]) O hRm (kFX7_init _ O.2.2.2.2.2.2.2.2 (cxE X) _ _ _ _ _ _ o42 hn46.t b50 ht52 b53 ht55 _ w) (lw_meth q737) q735 q736 q132 rfl rfl rfl (by decide +kernel) ⟨Nat.le_of_ble_eq_true rfl, Nat.le_of_ble_eq_true rfl⟩ rfl rfl rfl (Nat.le_of_ble_eq_true rfl) dX1_land_103 (kOk.fa hk9)) (fun z T L V59 P60 w => ?_)
    have hk61 := kOk.sa hk9
    obtain ⟨h63, h64, w⟩ := w
    refine gx_putR (lay := 1) (j := 5) (x := (some o42)) O ck1 (by decide) rfl rfl (by decide) h64 q815 rfl rfl rfl rfl dX1_land_106 ?_
    refine g_nP w (fun P65 w _ => ?_)
    refine g_aload_n O dX1_land_109 rfl ?_
    obtain ⟨b66, hp67, ht68, w⟩ := w
    refine gx_getR (lay := 1) (j := 1) O ck1 (by decide) rfl rfl hp67 (by decide) h64 q811 dX1_land_110 ?_
    refine g_iconst (v := 0) O dX1_land_113 (by decide) ?_
    refine gx_putIN (lay := 4) (j := 6) (ty := .int) O ck4 (by decide) rfl rfl (by decide) ht68 q710 rfl rfl rfl rfl dX1_land_114 ?_
    refine g_nV w (fun V69 w _ => ?_)
    refine g_aload_n O dX1_land_117 rfl ?_
    obtain ⟨b70, hp71, ht72, w⟩ := w
    refine gx_getR (lay := 1) (j := 1) O ck1 (by decide) rfl rfl hp71 (by decide) h64 q811 dX1_land_118 ?_
    refine g_iconst (v := 0) O dX1_land_121 (by decide) ?_
    refine gx_putIN (lay := 4) (j := 7) (ty := .int) O ck4 (by decide) rfl rfl (by decide) ht72 q712 rfl rfl rfl rfl dX1_land_122 ?_
    refine g_nV w (fun V73 w _ => ?_)
    refine g_aload_n O dX1_land_125 rfl ?_
    refine g_iconst (v := 0) O dX1_land_126 (by decide) ?_
    refine gx_putI (lay := 1) (j := 6) (ty := .boolean) O ck1 (by decide) rfl rfl (by decide) h64 q816 rfl rfl rfl rfl dX1_land_127 ?_
    refine g_nV w (fun V74 w _ => ?_)
    refine g_iconst (v := 0) O dX1_land_130 (by decide) ?_
    exact gt_iret (f := fun u => u) (u := (z, T, L, V74, P65)) O hQ (kOk.m hk61) rfl rfl w dX1_land_131
set_option maxHeartbeats 4000000 in
theorem vjFX1_land_16 {X : Cx} {U0 : Nat} (O : Okc X cX1_land RX1 3 (some .int)) (hRm : cxR X = (rFX1_land U0)) (hTb : hTab X [(30, 49, 52, 113)]) {kc ks U z : Nat} {T L : Nat → Nat} {V : w_V} {P : w_P} (x0 : Nat) (hx0 : T x0 = 2) (x1 : Int32) (post : Int32 → Nat → (Nat → Nat) → (Nat → Nat) → w_V → w_P → Prop) (xp : w_Xp) (hk : kOk (rFX1_land U0) kc ks U) (hQ : cxMX X (va_Qi (qF1 post) (wdF (cxE X)) (w_A (cxE X))) (xF xp) (rFX1_land U0).cells (rFX1_land U0).slots) (w : jFX1_land_16 (cxE X).2.2.2.2 U z T L V P x0 x1 post xp) : gW X kc ks z T L V P 16 [some (.ref x0), some (.int x1), none] [] := by
  unfold jFX1_land_16 at w
  refine g_iconst (v := 0) O dX1_land_16 (by decide) ?_
  exact vjFX1_land_17 O hRm hTb x0 hx0 (x1) (0) post xp hk hQ w
set_option maxHeartbeats 4000000 in
theorem kFX1_land (l : Launch) (hfl : l.flags = flags0) (E : w_E) (U0 z : Nat) (T L : Nat → Nat) (V : w_V) (P : w_P) (t : Nat) (hT : T t = 2) (x1 : Int32) (post : Int32 → Nat → (Nat → Nat) → (Nat → Nat) → w_V → w_P → Prop) (xp : w_Xp) (w : wFX1_land E.2.2.2.2 U0 z T L V P t x1 post xp) : vx_Met l yX1_land (wsW_ yX1_land cX1_land 3 (some .int) [(30, 49, 52, 113)]) (rFX1_land U0) (va_Pc [.ref t, .int x1] (fun U => kenv E U ∧ wdW E (z, T, L, V, P) U.heap)) (va_Qi (qF1 post) (wdF E) (w_A E)) (xcX E (xF xp)) (8 * U0) (32 * U0) (w_A E) := by
  refine g_startH (w := (z, T, L, V, P)) hfl (by decide +kernel) rfl [some (.ref t), some (.int x1), none] rfl (fun _ h => h) (Nat.le_of_ble_eq_true rfl) (fun X hl hRm hEe O hTb hQ => ?_)
  subst hl
  subst hEe
  have hk : kOk (rFX1_land U0) 0 0 U0 := ⟨by show 0 + 8 * U0 ≤ 8 * U0; omega, by show 0 + 32 * U0 ≤ 32 * U0; omega⟩
  unfold wFX1_land at w
  refine g_iload_n O dX1_land_0 rfl ?_
  refine g_if_lt (tgt := 16) O w dX1_land_1 (by decide) (fun w => ?_) (fun w => ?_)
  · exact vjFX1_land_16 O hRm hTb t hT (x1) post xp hk hQ w
  · refine g_iload_n O dX1_land_4 rfl ?_
    refine g_aload_n O dX1_land_5 rfl ?_
    refine gx_getI (lay := 1) (j := 8) O ck1 (by decide) rfl rfl (by decide) hT q818 dX1_land_6 ?_
    refine g_icmp_gt (tgt := 16) O w dX1_land_9 (by decide) (fun w => ?_) (fun w => ?_)
    · exact vjFX1_land_16 O hRm hTb t hT (x1) post xp hk hQ w
    · refine g_iconst (v := 1) O dX1_land_12 (by decide) ?_
      refine g_goto (tgt := 17) O dX1_land_13 (by decide) ?_
      exact vjFX1_land_17 O hRm hTb t hT (x1) (1) post xp hk hQ w
-- X8_init
abbrev rFX8_init (U0 : Nat) : Room := { frames := 2, cells := 8 * U0, slots := 32 * U0, locals := 60 }
set_option maxHeartbeats 4000000 in
theorem kFX8_init (l : Launch) (hfl : l.flags = flags0) (E : w_E) (U0 z : Nat) (T L : Nat → Nat) (V : w_V) (P : w_P) (t : Nat) (hT : T t = 51) (post : Nat → (Nat → Nat) → (Nat → Nat) → w_V → w_P → Prop) (w : wFX8_init E U0 z T L V P t post) : Met l yX8_init (ws_ yX8_init cX8_init 1 none) (rFX8_init U0) (va_Pc [.ref t] (fun U => kenv E U ∧ wdW E (z, T, L, V, P) U.heap)) (va_Qv (qF0 post) (wdF E) (w_A E)) (8 * U0) (32 * U0) (w_A E) := by
  refine g_startN (w := (z, T, L, V, P)) hfl (by decide +kernel) rfl [some (.ref t)] rfl (fun _ h => h) (Nat.le_of_ble_eq_true rfl) (fun X hl hRm hEe O hI hQ => ?_)
  subst hl
  subst hEe
  have hk : kOk (rFX8_init U0) 0 0 U0 := ⟨by show 0 + 8 * U0 ≤ 8 * U0; omega, by show 0 + 32 * U0 ≤ 32 * U0; omega⟩
  unfold wFX8_init at w
  refine g_aload_n O dX8_init_0 rfl ?_
  refine gc_objInit O hRm q1717 (Nat.le_of_ble_eq_true rfl) (Nat.le_of_ble_eq_true rfl) rfl dX8_init_1 ?_
  refine g_aload_n O dX8_init_4 rfl ?_
  refine g_iconst (v := 3) O dX8_init_5 (by decide) ?_
  obtain ⟨U6, e7, w⟩ := w
  have hk9 := kOk.eq hk e7
  refine gq_anew (ty := 5) (N := 3) (u := 1) O hRm rfl (by decide) q1718 q1719 rfl (by decide) hk9 (by decide) (by decide) dX8_init_6 (fun o1 z T L V2 P3 hk4 hn5 => ?_)
  replace w := w o1 z T L V2 P3 hn5
  obtain ⟨h8, w⟩ := w
  refine g_dup O dX8_init_9 rfl ?_
  refine g_iconst (v := 0) O dX8_init_10 (by decide) ?_
  refine gx_ldc (i := 0) (tx := [106, 117, 100, 103, 101]) O rfl rfl dX8_init_11 (fun s9 hs10 hz => ?_)
  replace w := w s9 hs10 hz
  obtain ⟨i11, hi12, g13, e14, w⟩ := w
  refine gl_aastS (nn := i11) O hn5.t hi12 g13 e14 hs10 dX8_init_13 ?_
  refine g_nP w (fun P15 w _ => ?_)
  refine g_dup O dX8_init_14 rfl ?_
  refine g_iconst (v := 1) O dX8_init_15 (by decide) ?_
  refine gx_ldc (i := 1) (tx := [100, 101, 97, 102]) O rfl rfl dX8_init_16 (fun s16 hs17 hz => ?_)
  replace w := w s16 hs17 hz
  obtain ⟨i18, hi19, g20, e21, w⟩ := w
  refine gl_aastS (nn := i18) O hn5.t hi19 g20 e21 hs17 dX8_init_18 ?_
  refine g_nP w (fun P22 w _ => ?_)
  refine g_dup O dX8_init_19 rfl ?_
  refine g_iconst (v := 2) O dX8_init_20 (by decide) ?_
  refine gx_ldc (i := 2) (tx := [119, 105, 115, 101]) O rfl rfl dX8_init_21 (fun s23 hs24 hz => ?_)
  replace w := w s23 hs24 hz
  obtain ⟨i25, hi26, g27, e28, w⟩ := w
  refine gl_aastS (nn := i25) O hn5.t hi26 g27 e28 hs24 dX8_init_23 ?_
  refine g_nP w (fun P29 w _ => ?_)
  refine gx_putRF (lay := 50) (j := 0) (x := (some o1)) O hI ck0 (by decide) rfl rfl (by decide) h8 q1728 rfl rfl rfl (by first | exact Or.inl ⟨_, rfl⟩ | exact Or.inr ⟨_, rfl⟩) dX8_init_24 ?_
  refine g_nP w (fun P30 w _ => ?_)
  refine g_aload_n O dX8_init_27 rfl ?_
  refine g_iconst (v := 5) O dX8_init_28 (by decide) ?_
  obtain ⟨U36, e37, w⟩ := w
  have hk9 := kOk.eq hk4 e37
  refine gq_anew (ty := 5) (N := 5) (u := 1) O hRm rfl (by decide) q1718 q1719 rfl (by decide) hk9 (by decide) (by decide) dX8_init_29 (fun o31 z T L V32 P33 hk34 hn35 => ?_)
  replace w := w o31 z T L V32 P33 hn35
  obtain ⟨h38, w⟩ := w
  refine g_dup O dX8_init_32 rfl ?_
  refine g_iconst (v := 0) O dX8_init_33 (by decide) ?_
  refine gx_ldc (i := 3) (tx := [112, 114, 111, 111, 102]) O rfl rfl dX8_init_34 (fun s39 hs40 hz => ?_)
  replace w := w s39 hs40 hz
  obtain ⟨i41, hi42, g43, e44, w⟩ := w
  refine gl_aastS (nn := i41) O hn35.t hi42 g43 e44 hs40 dX8_init_36 ?_
  refine g_nP w (fun P45 w _ => ?_)
  refine g_dup O dX8_init_37 rfl ?_
  refine g_iconst (v := 1) O dX8_init_38 (by decide) ?_
  refine gx_ldc (i := 4) (tx := [104, 97, 114, 115, 104]) O rfl rfl dX8_init_39 (fun s46 hs47 hz => ?_)
  replace w := w s46 hs47 hz
  obtain ⟨i48, hi49, g50, e51, w⟩ := w
  refine gl_aastS (nn := i48) O hn35.t hi49 g50 e51 hs47 dX8_init_41 ?_
  refine g_nP w (fun P52 w _ => ?_)
  refine g_dup O dX8_init_42 rfl ?_
  refine g_iconst (v := 2) O dX8_init_43 (by decide) ?_
  refine gx_ldc (i := 5) (tx := [100, 97, 121]) O rfl rfl dX8_init_44 (fun s53 hs54 hz => ?_)
  replace w := w s53 hs54 hz
  obtain ⟨i55, hi56, g57, e58, w⟩ := w
  refine gl_aastS (nn := i55) O hn35.t hi56 g57 e58 hs54 dX8_init_46 ?_
  refine g_nP w (fun P59 w _ => ?_)
  refine g_dup O dX8_init_47 rfl ?_
  refine g_iconst (v := 3) O dX8_init_48 (by decide) ?_
  refine gx_ldc (i := 6) (tx := [116, 111, 119, 110]) O rfl rfl dX8_init_49 (fun s60 hs61 hz => ?_)
  replace w := w s60 hs61 hz
  obtain ⟨i62, hi63, g64, e65, w⟩ := w
  refine gl_aastS (nn := i62) O hn35.t hi63 g64 e65 hs61 dX8_init_51 ?_
  refine g_nP w (fun P66 w _ => ?_)
  refine g_dup O dX8_init_52 rfl ?_
  refine g_iconst (v := 4) O dX8_init_53 (by decide) ?_
  refine gx_ldc (i := 7) (tx := [115, 97, 105, 100]) O rfl rfl dX8_init_54 (fun s67 hs68 hz => ?_)
  replace w := w s67 hs68 hz
  obtain ⟨i69, hi70, g71, e72, w⟩ := w
  refine gl_aastS (nn := i69) O hn35.t hi70 g71 e72 hs68 dX8_init_56 ?_
  refine g_nP w (fun P73 w _ => ?_)
  refine gx_putRF (lay := 50) (j := 1) (x := (some o31)) O hI ck0 (by decide) rfl rfl (by decide) h38 q1729 rfl rfl rfl (by first | exact Or.inl ⟨_, rfl⟩ | exact Or.inr ⟨_, rfl⟩) dX8_init_57 ?_
  refine g_nP w (fun P74 w _ => ?_)
  refine g_aload_n O dX8_init_60 rfl ?_
  refine g_bipush (v := 14) O dX8_init_61 (by decide) ?_
  obtain ⟨U80, e81, w⟩ := w
  have hk9 := kOk.eq hk34 e81
  refine gq_newI (N := 14) (u := 1) O hRm q249 rfl (by decide) hk9 (by decide) (by decide) dX8_init_63 (fun o75 z T L V76 P77 hk78 hn79 => ?_)
  replace w := w o75 z T L V76 P77 hn79
  obtain ⟨h82, w⟩ := w
  refine g_dup O dX8_init_65 rfl ?_
  refine g_iconst (v := 0) O dX8_init_66 (by decide) ?_
  refine g_iconst (v := 0) O dX8_init_67 (by decide) ?_
  refine gx_iast (a := o75) (kk0 := 0) (len := 14) (nn := 0) O (hn79.a (by decide)) (by decide) (by omega) rfl dX8_init_68 ?_
  refine g_nV w (fun V83 w _ => ?_)
  refine g_dup O dX8_init_69 rfl ?_
  refine g_iconst (v := 1) O dX8_init_70 (by decide) ?_
  refine g_iconst (v := 0) O dX8_init_71 (by decide) ?_
  refine gx_iast (a := o75) (kk0 := 0) (len := 14) (nn := 1) O (hn79.a (by decide)) (by decide) (by omega) rfl dX8_init_72 ?_
  refine g_nV w (fun V84 w _ => ?_)
  refine g_dup O dX8_init_73 rfl ?_
  refine g_iconst (v := 2) O dX8_init_74 (by decide) ?_
  refine g_iconst (v := 0) O dX8_init_75 (by decide) ?_
  refine gx_iast (a := o75) (kk0 := 0) (len := 14) (nn := 2) O (hn79.a (by decide)) (by decide) (by omega) rfl dX8_init_76 ?_
  refine g_nV w (fun V85 w _ => ?_)
  refine g_dup O dX8_init_77 rfl ?_
  refine g_iconst (v := 3) O dX8_init_78 (by decide) ?_
  refine g_bipush (v := 10) O dX8_init_79 (by decide) ?_
  refine gx_iast (a := o75) (kk0 := 0) (len := 14) (nn := 3) O (hn79.a (by decide)) (by decide) (by omega) rfl dX8_init_81 ?_
  refine g_nV w (fun V86 w _ => ?_)
  refine g_dup O dX8_init_82 rfl ?_
  refine g_iconst (v := 4) O dX8_init_83 (by decide) ?_
  refine g_iconst (v := 0) O dX8_init_84 (by decide) ?_
  refine gx_iast (a := o75) (kk0 := 0) (len := 14) (nn := 4) O (hn79.a (by decide)) (by decide) (by omega) rfl dX8_init_85 ?_
  refine g_nV w (fun V87 w _ => ?_)
  refine g_dup O dX8_init_86 rfl ?_
  refine g_iconst (v := 5) O dX8_init_87 (by decide) ?_
  refine g_iconst (v := 0) O dX8_init_88 (by decide) ?_
  refine gx_iast (a := o75) (kk0 := 0) (len := 14) (nn := 5) O (hn79.a (by decide)) (by decide) (by omega) rfl dX8_init_89 ?_
  refine g_nV w (fun V88 w _ => ?_)
  refine g_dup O dX8_init_90 rfl ?_
  refine g_bipush (v := 6) O dX8_init_91 (by decide) ?_
  refine g_iconst (v := 0) O dX8_init_93 (by decide) ?_
  refine gx_iast (a := o75) (kk0 := 0) (len := 14) (nn := 6) O (hn79.a (by decide)) (by decide) (by omega) rfl dX8_init_94 ?_
  refine g_nV w (fun V89 w _ => ?_)
  refine g_dup O dX8_init_95 rfl ?_
  refine g_bipush (v := 7) O dX8_init_96 (by decide) ?_
  refine g_iconst (v := 0) O dX8_init_98 (by decide) ?_
  refine gx_iast (a := o75) (kk0 := 0) (len := 14) (nn := 7) O (hn79.a (by decide)) (by decide) (by omega) rfl dX8_init_99 ?_
  refine g_nV w (fun V90 w _ => ?_)
  refine g_dup O dX8_init_100 rfl ?_
  refine g_bipush (v := 8) O dX8_init_101 (by decide) ?_
  refine g_iconst (v := 0) O dX8_init_103 (by decide) ?_
  refine gx_iast (a := o75) (kk0 := 0) (len := 14) (nn := 8) O (hn79.a (by decide)) (by decide) (by omega) rfl dX8_init_104 ?_
  refine g_nV w (fun V91 w _ => ?_)
  refine g_dup O dX8_init_105 rfl ?_
  refine g_bipush (v := 9) O dX8_init_106 (by decide) ?_
  refine g_iconst (v := 0) O dX8_init_108 (by decide) ?_
  refine gx_iast (a := o75) (kk0 := 0) (len := 14) (nn := 9) O (hn79.a (by decide)) (by decide) (by omega) rfl dX8_init_109 ?_
  refine g_nV w (fun V92 w _ => ?_)
  refine g_dup O dX8_init_110 rfl ?_
  refine g_bipush (v := 10) O dX8_init_111 (by decide) ?_
  refine g_bipush (v := 10) O dX8_init_113 (by decide) ?_
  refine gx_iast (a := o75) (kk0 := 0) (len := 14) (nn := 10) O (hn79.a (by decide)) (by decide) (by omega) rfl dX8_init_115 ?_
  refine g_nV w (fun V93 w _ => ?_)
  refine g_dup O dX8_init_116 rfl ?_
  refine g_bipush (v := 11) O dX8_init_117 (by decide) ?_
  refine g_iconst (v := 0) O dX8_init_119 (by decide) ?_
  refine gx_iast (a := o75) (kk0 := 0) (len := 14) (nn := 11) O (hn79.a (by decide)) (by decide) (by omega) rfl dX8_init_120 ?_
  refine g_nV w (fun V94 w _ => ?_)
  refine g_dup O dX8_init_121 rfl ?_
  refine g_bipush (v := 12) O dX8_init_122 (by decide) ?_
  refine g_iconst (v := 0) O dX8_init_124 (by decide) ?_
  refine gx_iast (a := o75) (kk0 := 0) (len := 14) (nn := 12) O (hn79.a (by decide)) (by decide) (by omega) rfl dX8_init_125 ?_
  refine g_nV w (fun V95 w _ => ?_)
  refine g_dup O dX8_init_126 rfl ?_
  refine g_bipush (v := 13) O dX8_init_127 (by decide) ?_
  refine g_iconst (v := 0) O dX8_init_129 (by decide) ?_
  refine gx_iast (a := o75) (kk0 := 0) (len := 14) (nn := 13) O (hn79.a (by decide)) (by decide) (by omega) rfl dX8_init_130 ?_
  refine g_nV w (fun V96 w _ => ?_)
  refine gx_putRF (lay := 50) (j := 3) (x := (some o75)) O hI ck0 (by decide) rfl rfl (by decide) h82 q1731 rfl rfl rfl (by first | exact Or.inl ⟨_, rfl⟩ | exact Or.inr ⟨_, rfl⟩) dX8_init_131 ?_
  refine g_nP w (fun P97 w _ => ?_)
  refine g_aload_n O dX8_init_134 rfl ?_
  refine g_sipush (v := 162) O dX8_init_135 (by decide) ?_
  obtain ⟨U103, e104, w⟩ := w
  have hk9 := kOk.eq hk78 e104
  refine gq_newI (N := 162) (u := 6) O hRm q249 rfl (by decide) hk9 (by decide) (by decide) dX8_init_138 (fun o98 z T L V99 P100 hk101 hn102 => ?_)
  replace w := w o98 z T L V99 P100 hn102
  obtain ⟨h105, w⟩ := w
  refine gx_putRF (lay := 50) (j := 4) (x := (some o98)) O hI ck0 (by decide) rfl rfl (by decide) h105 q1732 rfl rfl rfl (by first | exact Or.inl ⟨_, rfl⟩ | exact Or.inr ⟨_, rfl⟩) dX8_init_140 ?_
  refine g_nP w (fun P106 w _ => ?_)
  refine g_aload_n O dX8_init_143 rfl ?_
  refine g_bipush (v := 10) O dX8_init_144 (by decide) ?_
  obtain ⟨U112, e113, w⟩ := w
  have hk9 := kOk.eq hk101 e113
  refine gq_newI (N := 10) (u := 1) O hRm q249 rfl (by decide) hk9 (by decide) (by decide) dX8_init_146 (fun o107 z T L V108 P109 hk110 hn111 => ?_)
  replace w := w o107 z T L V108 P109 hn111
  obtain ⟨h114, w⟩ := w
  refine gx_putRF (lay := 50) (j := 5) (x := (some o107)) O hI ck0 (by decide) rfl rfl (by decide) h114 q1733 rfl rfl rfl (by first | exact Or.inl ⟨_, rfl⟩ | exact Or.inr ⟨_, rfl⟩) dX8_init_148 ?_
  refine g_nP w (fun P115 w _ => ?_)
  refine g_aload_n O dX8_init_151 rfl ?_
  refine g_bipush (v := 10) O dX8_init_152 (by decide) ?_
  obtain ⟨U121, e122, w⟩ := w
  have hk9 := kOk.eq hk110 e122
  refine gq_newI (N := 10) (u := 1) O hRm q249 rfl (by decide) hk9 (by decide) (by decide) dX8_init_154 (fun o116 z T L V117 P118 hk119 hn120 => ?_)
  replace w := w o116 z T L V117 P118 hn120
  obtain ⟨h123, w⟩ := w
  refine gx_putRF (lay := 50) (j := 6) (x := (some o116)) O hI ck0 (by decide) rfl rfl (by decide) h123 q1734 rfl rfl rfl (by first | exact Or.inl ⟨_, rfl⟩ | exact Or.inr ⟨_, rfl⟩) dX8_init_156 ?_
  refine g_nP w (fun P124 w _ => ?_)
  refine g_aload_n O dX8_init_159 rfl ?_
  refine g_bipush (v := 10) O dX8_init_160 (by decide) ?_
  obtain ⟨U130, e131, w⟩ := w
  have hk9 := kOk.eq hk119 e131
  refine gq_newI (N := 10) (u := 1) O hRm q249 rfl (by decide) hk9 (by decide) (by decide) dX8_init_162 (fun o125 z T L V126 P127 hk128 hn129 => ?_)
  replace w := w o125 z T L V126 P127 hn129
  obtain ⟨h132, w⟩ := w
  refine gx_putRF (lay := 50) (j := 7) (x := (some o125)) O hI ck0 (by decide) rfl rfl (by decide) h132 q1735 rfl rfl rfl (by first | exact Or.inl ⟨_, rfl⟩ | exact Or.inr ⟨_, rfl⟩) dX8_init_164 ?_
  refine g_nP w (fun P133 w _ => ?_)
  refine g_aload_n O dX8_init_167 rfl ?_
  refine g_bipush (v := 10) O dX8_init_168 (by decide) ?_
  obtain ⟨U139, e140, w⟩ := w
  have hk9 := kOk.eq hk128 e140
  refine gq_newI (N := 10) (u := 1) O hRm q249 rfl (by decide) hk9 (by decide) (by decide) dX8_init_170 (fun o134 z T L V135 P136 hk137 hn138 => ?_)
  replace w := w o134 z T L V135 P136 hn138
  obtain ⟨h141, w⟩ := w
  refine gx_putRF (lay := 50) (j := 8) (x := (some o134)) O hI ck0 (by decide) rfl rfl (by decide) h141 q1736 rfl rfl rfl (by first | exact Or.inl ⟨_, rfl⟩ | exact Or.inr ⟨_, rfl⟩) dX8_init_172 ?_
  refine g_nP w (fun P142 w _ => ?_)
  refine g_aload_n O dX8_init_175 rfl ?_
  refine g_bipush (v := 70) O dX8_init_176 (by decide) ?_
  obtain ⟨U148, e149, w⟩ := w
  have hk9 := kOk.eq hk137 e149
  refine gq_newI (N := 70) (u := 3) O hRm q249 rfl (by decide) hk9 (by decide) (by decide) dX8_init_178 (fun o143 z T L V144 P145 hk146 hn147 => ?_)
  replace w := w o143 z T L V144 P145 hn147
  obtain ⟨h150, w⟩ := w
  refine gx_putRF (lay := 50) (j := 9) (x := (some o143)) O hI ck0 (by decide) rfl rfl (by decide) h150 q1737 rfl rfl rfl (by first | exact Or.inl ⟨_, rfl⟩ | exact Or.inr ⟨_, rfl⟩) dX8_init_180 ?_
  refine g_nP w (fun P151 w _ => ?_)
  refine g_aload_n O dX8_init_183 rfl ?_
  refine g_bipush (v := 108) O dX8_init_184 (by decide) ?_
  obtain ⟨U157, e158, w⟩ := w
  have hk9 := kOk.eq hk146 e158
  refine gq_newI (N := 108) (u := 4) O hRm q249 rfl (by decide) hk9 (by decide) (by decide) dX8_init_186 (fun o152 z T L V153 P154 hk155 hn156 => ?_)
  replace w := w o152 z T L V153 P154 hn156
  obtain ⟨h159, w⟩ := w
  refine gx_putRF (lay := 50) (j := 10) (x := (some o152)) O hI ck0 (by decide) rfl rfl (by decide) h159 q1738 rfl rfl rfl (by first | exact Or.inl ⟨_, rfl⟩ | exact Or.inr ⟨_, rfl⟩) dX8_init_188 ?_
  refine g_nP w (fun P160 w _ => ?_)
  refine g_aload_n O dX8_init_191 rfl ?_
  refine g_sipush (v := 1200) O dX8_init_192 (by decide) ?_
  obtain ⟨U166, e167, w⟩ := w
  have hk9 := kOk.eq hk155 e167
  refine gq_newI (N := 1200) (u := 38) O hRm q249 rfl (by decide) hk9 (by decide) (by decide) dX8_init_195 (fun o161 z T L V162 P163 hk164 hn165 => ?_)
  replace w := w o161 z T L V162 P163 hn165
  obtain ⟨h168, w⟩ := w
  refine gx_putRF (lay := 50) (j := 11) (x := (some o161)) O hI ck0 (by decide) rfl rfl (by decide) h168 q1739 rfl rfl rfl (by first | exact Or.inl ⟨_, rfl⟩ | exact Or.inr ⟨_, rfl⟩) dX8_init_197 ?_
  refine g_nP w (fun P169 w _ => ?_)
  refine g_aload_n O dX8_init_200 rfl ?_
  refine g_iconst (v := 3) O dX8_init_201 (by decide) ?_
  obtain ⟨U175, e176, w⟩ := w
  have hk9 := kOk.eq hk164 e176
  refine gq_newI (N := 3) (u := 1) O hRm q249 rfl (by decide) hk9 (by decide) (by decide) dX8_init_202 (fun o170 z T L V171 P172 hk173 hn174 => ?_)
  replace w := w o170 z T L V171 P172 hn174
  obtain ⟨h177, w⟩ := w
  refine gx_putRF (lay := 50) (j := 12) (x := (some o170)) O hI ck0 (by decide) rfl rfl (by decide) h177 q1740 rfl rfl rfl (by first | exact Or.inl ⟨_, rfl⟩ | exact Or.inr ⟨_, rfl⟩) dX8_init_204 ?_
  refine g_nP w (fun P178 w _ => ?_)
  refine g_aload_n O dX8_init_207 rfl ?_
  refine g_sipush (v := 600) O dX8_init_208 (by decide) ?_
  obtain ⟨U184, e185, w⟩ := w
  have hk9 := kOk.eq hk173 e185
  refine gq_newI (N := 600) (u := 19) O hRm q249 rfl (by decide) hk9 (by decide) (by decide) dX8_init_211 (fun o179 z T L V180 P181 hk182 hn183 => ?_)
  replace w := w o179 z T L V180 P181 hn183
  obtain ⟨h186, w⟩ := w
  refine gx_putRF (lay := 50) (j := 13) (x := (some o179)) O hI ck0 (by decide) rfl rfl (by decide) h186 q1741 rfl rfl rfl (by first | exact Or.inl ⟨_, rfl⟩ | exact Or.inr ⟨_, rfl⟩) dX8_init_213 ?_
  refine g_nP w (fun P187 w _ => ?_)
  refine g_aload_n O dX8_init_216 rfl ?_
  refine g_iconst (v := (-1)) O dX8_init_217 (by decide) ?_
  refine gx_putI (lay := 50) (j := 23) (ty := .int) O ck0 (by decide) rfl rfl (by decide) h186 q1751 rfl rfl rfl rfl dX8_init_218 ?_
  refine g_nV w (fun V188 w _ => ?_)
  refine g_aload_n O dX8_init_221 rfl ?_
  refine g_bipush (v := 81) O dX8_init_222 (by decide) ?_
  obtain ⟨U194, e195, w⟩ := w
  have hk9 := kOk.eq hk182 e195
  refine gq_newI (N := 81) (u := 3) O hRm q249 rfl (by decide) hk9 (by decide) (by decide) dX8_init_224 (fun o189 z T L V190 P191 hk192 hn193 => ?_)
  replace w := w o189 z T L V190 P191 hn193
  obtain ⟨h196, w⟩ := w
  refine gx_putRF (lay := 50) (j := 24) (x := (some o189)) O hI ck0 (by decide) rfl rfl (by decide) h196 q1752 rfl rfl rfl (by first | exact Or.inl ⟨_, rfl⟩ | exact Or.inr ⟨_, rfl⟩) dX8_init_226 ?_
  refine g_nP w (fun P197 w _ => ?_)
  refine g_aload_n O dX8_init_229 rfl ?_
  refine g_bipush (v := 15) O dX8_init_230 (by decide) ?_
  obtain ⟨U203, e204, w⟩ := w
  have hk9 := kOk.eq hk192 e204
  refine gq_newI (N := 15) (u := 1) O hRm q249 rfl (by decide) hk9 (by decide) (by decide) dX8_init_232 (fun o198 z T L V199 P200 hk201 hn202 => ?_)
  replace w := w o198 z T L V199 P200 hn202
  obtain ⟨h205, w⟩ := w
  refine gx_putRF (lay := 50) (j := 25) (x := (some o198)) O hI ck0 (by decide) rfl rfl (by decide) h205 q1753 rfl rfl rfl (by first | exact Or.inl ⟨_, rfl⟩ | exact Or.inr ⟨_, rfl⟩) dX8_init_234 ?_
  refine g_nP w (fun P206 w _ => ?_)
  refine g_aload_n O dX8_init_237 rfl ?_
  refine g_bipush (v := 12) O dX8_init_238 (by decide) ?_
  obtain ⟨U212, e213, w⟩ := w
  have hk9 := kOk.eq hk201 e213
  refine gq_newI (N := 12) (u := 1) O hRm q249 rfl (by decide) hk9 (by decide) (by decide) dX8_init_240 (fun o207 z T L V208 P209 hk210 hn211 => ?_)
  replace w := w o207 z T L V208 P209 hn211
  obtain ⟨h214, w⟩ := w
  refine gx_putRF (lay := 50) (j := 26) (x := (some o207)) O hI ck0 (by decide) rfl rfl (by decide) h214 q1754 rfl rfl rfl (by first | exact Or.inl ⟨_, rfl⟩ | exact Or.inr ⟨_, rfl⟩) dX8_init_242 ?_
  refine g_nP w (fun P215 w _ => ?_)
  refine g_aload_n O dX8_init_245 rfl ?_
  refine g_bipush (v := 18) O dX8_init_246 (by decide) ?_
  obtain ⟨U221, e222, w⟩ := w
  have hk9 := kOk.eq hk210 e222
  refine gq_newI (N := 18) (u := 1) O hRm q249 rfl (by decide) hk9 (by decide) (by decide) dX8_init_248 (fun o216 z T L V217 P218 hk219 hn220 => ?_)
  replace w := w o216 z T L V217 P218 hn220
  obtain ⟨h223, w⟩ := w
  refine gx_putRF (lay := 50) (j := 27) (x := (some o216)) O hI ck0 (by decide) rfl rfl (by decide) h223 q1755 rfl rfl rfl (by first | exact Or.inl ⟨_, rfl⟩ | exact Or.inr ⟨_, rfl⟩) dX8_init_250 ?_
  refine g_nP w (fun P224 w _ => ?_)
  refine g_aload_n O dX8_init_253 rfl ?_
  refine g_sipush (v := 1800) O dX8_init_254 (by decide) ?_
  obtain ⟨U230, e231, w⟩ := w
  have hk9 := kOk.eq hk219 e231
  refine gq_newI (N := 1800) (u := 57) O hRm q249 rfl (by decide) hk9 (by decide) (by decide) dX8_init_257 (fun o225 z T L V226 P227 hk228 hn229 => ?_)
  replace w := w o225 z T L V226 P227 hn229
  obtain ⟨h232, w⟩ := w
  refine gx_putRF (lay := 50) (j := 28) (x := (some o225)) O hI ck0 (by decide) rfl rfl (by decide) h232 q1756 rfl rfl rfl (by first | exact Or.inl ⟨_, rfl⟩ | exact Or.inr ⟨_, rfl⟩) dX8_init_259 ?_
  refine g_nP w (fun P233 w _ => ?_)
  refine g_aload_n O dX8_init_262 rfl ?_
  refine g_iconst (v := 5) O dX8_init_263 (by decide) ?_
  obtain ⟨U239, e240, w⟩ := w
  have hk9 := kOk.eq hk228 e240
  refine gq_newI (N := 5) (u := 1) O hRm q249 rfl (by decide) hk9 (by decide) (by decide) dX8_init_264 (fun o234 z T L V235 P236 hk237 hn238 => ?_)
  replace w := w o234 z T L V235 P236 hn238
  obtain ⟨h241, w⟩ := w
  refine gx_putRF (lay := 50) (j := 35) (x := (some o234)) O hI ck0 (by decide) rfl rfl (by decide) h241 q1763 rfl rfl rfl (by first | exact Or.inl ⟨_, rfl⟩ | exact Or.inr ⟨_, rfl⟩) dX8_init_266 ?_
  refine g_nP w (fun P242 w _ => ?_)
  refine g_aload_n O dX8_init_269 rfl ?_
  refine g_bipush (v := 64) O dX8_init_270 (by decide) ?_
  obtain ⟨U248, e249, w⟩ := w
  have hk9 := kOk.eq hk237 e249
  refine gq_newI (N := 64) (u := 2) O hRm q249 rfl (by decide) hk9 (by decide) (by decide) dX8_init_272 (fun o243 z T L V244 P245 hk246 hn247 => ?_)
  replace w := w o243 z T L V244 P245 hn247
  obtain ⟨h250, w⟩ := w
  refine gx_putRF (lay := 50) (j := 36) (x := (some o243)) O hI ck0 (by decide) rfl rfl (by decide) h250 q1764 rfl rfl rfl (by first | exact Or.inl ⟨_, rfl⟩ | exact Or.inr ⟨_, rfl⟩) dX8_init_274 ?_
  refine g_nP w (fun P251 w _ => ?_)
  refine g_aload_n O dX8_init_277 rfl ?_
  refine g_bipush (v := 35) O dX8_init_278 (by decide) ?_
  obtain ⟨U257, e258, w⟩ := w
  have hk9 := kOk.eq hk246 e258
  refine gq_newI (N := 35) (u := 2) O hRm q249 rfl (by decide) hk9 (by decide) (by decide) dX8_init_280 (fun o252 z T L V253 P254 hk255 hn256 => ?_)
  replace w := w o252 z T L V253 P254 hn256
  obtain ⟨h259, w⟩ := w
  refine gx_putRF (lay := 50) (j := 37) (x := (some o252)) O hI ck0 (by decide) rfl rfl (by decide) h259 q1765 rfl rfl rfl (by first | exact Or.inl ⟨_, rfl⟩ | exact Or.inr ⟨_, rfl⟩) dX8_init_282 ?_
  refine g_nP w (fun P260 w _ => ?_)
  refine g_aload_n O dX8_init_285 rfl ?_
  refine g_bipush (v := 35) O dX8_init_286 (by decide) ?_
  obtain ⟨U266, e267, w⟩ := w
  have hk9 := kOk.eq hk255 e267
  refine gq_newI (N := 35) (u := 2) O hRm q249 rfl (by decide) hk9 (by decide) (by decide) dX8_init_288 (fun o261 z T L V262 P263 hk264 hn265 => ?_)
  replace w := w o261 z T L V262 P263 hn265
  obtain ⟨h268, w⟩ := w
  refine gx_putRF (lay := 50) (j := 38) (x := (some o261)) O hI ck0 (by decide) rfl rfl (by decide) h268 q1766 rfl rfl rfl (by first | exact Or.inl ⟨_, rfl⟩ | exact Or.inr ⟨_, rfl⟩) dX8_init_290 ?_
  refine g_nP w (fun P269 w _ => ?_)
  refine g_aload_n O dX8_init_293 rfl ?_
  refine g_bipush (v := 25) O dX8_init_294 (by decide) ?_
  obtain ⟨U275, e276, w⟩ := w
  have hk9 := kOk.eq hk264 e276
  refine gq_newI (N := 25) (u := 1) O hRm q249 rfl (by decide) hk9 (by decide) (by decide) dX8_init_296 (fun o270 z T L V271 P272 hk273 hn274 => ?_)
  replace w := w o270 z T L V271 P272 hn274
  obtain ⟨h277, w⟩ := w
  refine gx_putRF (lay := 50) (j := 39) (x := (some o270)) O hI ck0 (by decide) rfl rfl (by decide) h277 q1767 rfl rfl rfl (by first | exact Or.inl ⟨_, rfl⟩ | exact Or.inr ⟨_, rfl⟩) dX8_init_298 ?_
  refine g_nP w (fun P278 w _ => ?_)
  refine g_aload_n O dX8_init_301 rfl ?_
  refine g_iconst (v := (-1)) O dX8_init_302 (by decide) ?_
  refine gx_putI (lay := 50) (j := 40) (ty := .int) O ck0 (by decide) rfl rfl (by decide) h277 q1768 rfl rfl rfl rfl dX8_init_303 ?_
  refine g_nV w (fun V279 w _ => ?_)
  refine g_aload_n O dX8_init_306 rfl ?_
  refine g_iconst (v := (-1)) O dX8_init_307 (by decide) ?_
  refine gx_putI (lay := 50) (j := 43) (ty := .int) O ck0 (by decide) rfl rfl (by decide) h277 q1771 rfl rfl rfl rfl dX8_init_308 ?_
  refine g_nV w (fun V280 w _ => ?_)
  refine g_aload_n O dX8_init_311 rfl ?_
  refine g_bipush (v := 30) O dX8_init_312 (by decide) ?_
  obtain ⟨U286, e287, w⟩ := w
  have hk9 := kOk.eq hk273 e287
  refine gq_newI (N := 30) (u := 1) O hRm q249 rfl (by decide) hk9 (by decide) (by decide) dX8_init_314 (fun o281 z T L V282 P283 hk284 hn285 => ?_)
  replace w := w o281 z T L V282 P283 hn285
  obtain ⟨h288, w⟩ := w
  refine gx_putRF (lay := 50) (j := 44) (x := (some o281)) O hI ck0 (by decide) rfl rfl (by decide) h288 q1772 rfl rfl rfl (by first | exact Or.inl ⟨_, rfl⟩ | exact Or.inr ⟨_, rfl⟩) dX8_init_316 ?_
  refine g_nP w (fun P289 w _ => ?_)
  refine g_aload_n O dX8_init_319 rfl ?_
  refine g_bipush (v := 30) O dX8_init_320 (by decide) ?_
  obtain ⟨U295, e296, w⟩ := w
  have hk9 := kOk.eq hk284 e296
  refine gq_newI (N := 30) (u := 1) O hRm q249 rfl (by decide) hk9 (by decide) (by decide) dX8_init_322 (fun o290 z T L V291 P292 hk293 hn294 => ?_)
  replace w := w o290 z T L V291 P292 hn294
  obtain ⟨h297, w⟩ := w
  refine gx_putRF (lay := 50) (j := 45) (x := (some o290)) O hI ck0 (by decide) rfl rfl (by decide) h297 q1773 rfl rfl rfl (by first | exact Or.inl ⟨_, rfl⟩ | exact Or.inr ⟨_, rfl⟩) dX8_init_324 ?_
  refine g_nP w (fun P298 w _ => ?_)
  refine g_aload_n O dX8_init_327 rfl ?_
  refine g_bipush (v := 30) O dX8_init_328 (by decide) ?_
  obtain ⟨U304, e305, w⟩ := w
  have hk9 := kOk.eq hk293 e305
  refine gq_newI (N := 30) (u := 1) O hRm q249 rfl (by decide) hk9 (by decide) (by decide) dX8_init_330 (fun o299 z T L V300 P301 hk302 hn303 => ?_)
  replace w := w o299 z T L V300 P301 hn303
  obtain ⟨h306, w⟩ := w
  refine gx_putRF (lay := 50) (j := 46) (x := (some o299)) O hI ck0 (by decide) rfl rfl (by decide) h306 q1774 rfl rfl rfl (by first | exact Or.inl ⟨_, rfl⟩ | exact Or.inr ⟨_, rfl⟩) dX8_init_332 ?_
  refine g_nP w (fun P307 w _ => ?_)
  refine g_aload_n O dX8_init_335 rfl ?_
  refine g_bipush (v := 30) O dX8_init_336 (by decide) ?_
  obtain ⟨U313, e314, w⟩ := w
  have hk9 := kOk.eq hk302 e314
  refine gq_newI (N := 30) (u := 1) O hRm q249 rfl (by decide) hk9 (by decide) (by decide) dX8_init_338 (fun o308 z T L V309 P310 hk311 hn312 => ?_)
  replace w := w o308 z T L V309 P310 hn312
  obtain ⟨h315, w⟩ := w
  refine gx_putRF (lay := 50) (j := 47) (x := (some o308)) O hI ck0 (by decide) rfl rfl (by decide) h315 q1775 rfl rfl rfl (by first | exact Or.inl ⟨_, rfl⟩ | exact Or.inr ⟨_, rfl⟩) dX8_init_340 ?_
  refine g_nP w (fun P316 w _ => ?_)
  refine g_aload_n O dX8_init_343 rfl ?_
  refine g_bipush (v := 6) O dX8_init_344 (by decide) ?_
  obtain ⟨U322, e323, w⟩ := w
  have hk9 := kOk.eq hk311 e323
  refine gq_newI (N := 6) (u := 1) O hRm q249 rfl (by decide) hk9 (by decide) (by decide) dX8_init_346 (fun o317 z T L V318 P319 hk320 hn321 => ?_)
  replace w := w o317 z T L V318 P319 hn321
  obtain ⟨h324, w⟩ := w
  refine gx_putRF (lay := 50) (j := 48) (x := (some o317)) O hI ck0 (by decide) rfl rfl (by decide) h324 q1776 rfl rfl rfl (by first | exact Or.inl ⟨_, rfl⟩ | exact Or.inr ⟨_, rfl⟩) dX8_init_348 ?_
  refine g_nP w (fun P325 w _ => ?_)
  refine g_aload_n O dX8_init_351 rfl ?_
  refine g_bipush (v := 6) O dX8_init_352 (by decide) ?_
  obtain ⟨U331, e332, w⟩ := w
  have hk9 := kOk.eq hk320 e332
  refine gq_newI (N := 6) (u := 1) O hRm q249 rfl (by decide) hk9 (by decide) (by decide) dX8_init_354 (fun o326 z T L V327 P328 hk329 hn330 => ?_)
  replace w := w o326 z T L V327 P328 hn330
  obtain ⟨h333, w⟩ := w
  refine gx_putRF (lay := 50) (j := 49) (x := (some o326)) O hI ck0 (by decide) rfl rfl (by decide) h333 q1777 rfl rfl rfl (by first | exact Or.inl ⟨_, rfl⟩ | exact Or.inr ⟨_, rfl⟩) dX8_init_356 ?_
  refine g_nP w (fun P334 w _ => ?_)
  refine g_aload_n O dX8_init_359 rfl ?_
  refine g_bipush (v := 8) O dX8_init_360 (by decide) ?_
  obtain ⟨U340, e341, w⟩ := w
  have hk9 := kOk.eq hk329 e341
  refine gq_newI (N := 8) (u := 1) O hRm q249 rfl (by decide) hk9 (by decide) (by decide) dX8_init_362 (fun o335 z T L V336 P337 hk338 hn339 => ?_)
  replace w := w o335 z T L V336 P337 hn339
  obtain ⟨h342, w⟩ := w
  refine gx_putRF (lay := 50) (j := 50) (x := (some o335)) O hI ck0 (by decide) rfl rfl (by decide) h342 q1778 rfl rfl rfl (by first | exact Or.inl ⟨_, rfl⟩ | exact Or.inr ⟨_, rfl⟩) dX8_init_364 ?_
  refine g_nP w (fun P343 w _ => ?_)
  refine g_aload_n O dX8_init_367 rfl ?_
  refine g_bipush (v := 8) O dX8_init_368 (by decide) ?_
  obtain ⟨U349, e350, w⟩ := w
  have hk9 := kOk.eq hk338 e350
  refine gq_newI (N := 8) (u := 1) O hRm q249 rfl (by decide) hk9 (by decide) (by decide) dX8_init_370 (fun o344 z T L V345 P346 hk347 hn348 => ?_)
  replace w := w o344 z T L V345 P346 hn348
  obtain ⟨h351, w⟩ := w
  refine gx_putRF (lay := 50) (j := 51) (x := (some o344)) O hI ck0 (by decide) rfl rfl (by decide) h351 q1779 rfl rfl rfl (by first | exact Or.inl ⟨_, rfl⟩ | exact Or.inr ⟨_, rfl⟩) dX8_init_372 ?_
  refine g_nP w (fun P352 w _ => ?_)
  refine g_aload_n O dX8_init_375 rfl ?_
  refine g_bipush (v := 8) O dX8_init_376 (by decide) ?_
  obtain ⟨U358, e359, w⟩ := w
  have hk9 := kOk.eq hk347 e359
  refine gq_newI (N := 8) (u := 1) O hRm q249 rfl (by decide) hk9 (by decide) (by decide) dX8_init_378 (fun o353 z T L V354 P355 hk356 hn357 => ?_)
  replace w := w o353 z T L V354 P355 hn357
  obtain ⟨h360, w⟩ := w
  refine gx_putRF (lay := 50) (j := 52) (x := (some o353)) O hI ck0 (by decide) rfl rfl (by decide) h360 q1780 rfl rfl rfl (by first | exact Or.inl ⟨_, rfl⟩ | exact Or.inr ⟨_, rfl⟩) dX8_init_380 ?_
  refine g_nP w (fun P361 w _ => ?_)
  refine g_aload_n O dX8_init_383 rfl ?_
  refine g_bipush (v := 45) O dX8_init_384 (by decide) ?_
  obtain ⟨U367, e368, w⟩ := w
  have hk9 := kOk.eq hk356 e368
  refine gq_newI (N := 45) (u := 2) O hRm q249 rfl (by decide) hk9 (by decide) (by decide) dX8_init_386 (fun o362 z T L V363 P364 hk365 hn366 => ?_)
  replace w := w o362 z T L V363 P364 hn366
  obtain ⟨h369, w⟩ := w
  refine gx_putRF (lay := 50) (j := 57) (x := (some o362)) O hI ck0 (by decide) rfl rfl (by decide) h369 q1785 rfl rfl rfl (by first | exact Or.inl ⟨_, rfl⟩ | exact Or.inr ⟨_, rfl⟩) dX8_init_388 ?_
  refine g_nP w (fun P370 w _ => ?_)
  refine g_aload_n O dX8_init_391 rfl ?_
  refine g_sipush (v := 1800) O dX8_init_392 (by decide) ?_
  obtain ⟨U376, e377, w⟩ := w
  have hk9 := kOk.eq hk365 e377
  refine gq_newI (N := 1800) (u := 57) O hRm q249 rfl (by decide) hk9 (by decide) (by decide) dX8_init_395 (fun o371 z T L V372 P373 hk374 hn375 => ?_)
  replace w := w o371 z T L V372 P373 hn375
  obtain ⟨h378, w⟩ := w
  refine gx_putRF (lay := 50) (j := 58) (x := (some o371)) O hI ck0 (by decide) rfl rfl (by decide) h378 q1786 rfl rfl rfl (by first | exact Or.inl ⟨_, rfl⟩ | exact Or.inr ⟨_, rfl⟩) dX8_init_397 ?_
  refine g_nP w (fun P379 w _ => ?_)
  refine g_aload_n O dX8_init_400 rfl ?_
  refine g_bipush (v := 8) O dX8_init_401 (by decide) ?_
  obtain ⟨U385, e386, w⟩ := w
  have hk9 := kOk.eq hk374 e386
  refine gq_newI (N := 8) (u := 1) O hRm q249 rfl (by decide) hk9 (by decide) (by decide) dX8_init_403 (fun o380 z T L V381 P382 hk383 hn384 => ?_)
  replace w := w o380 z T L V381 P382 hn384
  obtain ⟨h387, w⟩ := w
  refine gx_putRF (lay := 50) (j := 59) (x := (some o380)) O hI ck0 (by decide) rfl rfl (by decide) h387 q1787 rfl rfl rfl (by first | exact Or.inl ⟨_, rfl⟩ | exact Or.inr ⟨_, rfl⟩) dX8_init_405 ?_
  refine g_nP w (fun P388 w _ => ?_)
  refine g_aload_n O dX8_init_408 rfl ?_
  refine g_bipush (v := 8) O dX8_init_409 (by decide) ?_
  obtain ⟨U394, e395, w⟩ := w
  have hk9 := kOk.eq hk383 e395
  refine gq_newI (N := 8) (u := 1) O hRm q249 rfl (by decide) hk9 (by decide) (by decide) dX8_init_411 (fun o389 z T L V390 P391 hk392 hn393 => ?_)
  replace w := w o389 z T L V390 P391 hn393
  obtain ⟨h396, w⟩ := w
  refine gx_putRF (lay := 50) (j := 60) (x := (some o389)) O hI ck0 (by decide) rfl rfl (by decide) h396 q1788 rfl rfl rfl (by first | exact Or.inl ⟨_, rfl⟩ | exact Or.inr ⟨_, rfl⟩) dX8_init_413 ?_
  refine g_nP w (fun P397 w _ => ?_)
  refine g_aload_n O dX8_init_416 rfl ?_
  refine g_bipush (v := 8) O dX8_init_417 (by decide) ?_
  obtain ⟨U403, e404, w⟩ := w
  have hk9 := kOk.eq hk392 e404
  refine gq_newI (N := 8) (u := 1) O hRm q249 rfl (by decide) hk9 (by decide) (by decide) dX8_init_419 (fun o398 z T L V399 P400 hk401 hn402 => ?_)
  replace w := w o398 z T L V399 P400 hn402
  obtain ⟨h405, w⟩ := w
  refine gx_putRF (lay := 50) (j := 61) (x := (some o398)) O hI ck0 (by decide) rfl rfl (by decide) h405 q1789 rfl rfl rfl (by first | exact Or.inl ⟨_, rfl⟩ | exact Or.inr ⟨_, rfl⟩) dX8_init_421 ?_
  refine g_nP w (fun P406 w _ => ?_)
  refine g_aload_n O dX8_init_424 rfl ?_
  refine g_iconst (v := 3) O dX8_init_425 (by decide) ?_
  obtain ⟨U412, e413, w⟩ := w
  have hk9 := kOk.eq hk401 e413
  refine gq_newI (N := 3) (u := 1) O hRm q249 rfl (by decide) hk9 (by decide) (by decide) dX8_init_426 (fun o407 z T L V408 P409 hk410 hn411 => ?_)
  replace w := w o407 z T L V408 P409 hn411
  obtain ⟨h414, w⟩ := w
  refine gx_putRF (lay := 50) (j := 62) (x := (some o407)) O hI ck0 (by decide) rfl rfl (by decide) h414 q1790 rfl rfl rfl (by first | exact Or.inl ⟨_, rfl⟩ | exact Or.inr ⟨_, rfl⟩) dX8_init_428 ?_
  refine g_nP w (fun P415 w _ => ?_)
  refine gq_seal (c := 0) (by decide) rfl w (fun T V416 hT417 w => ?_)
  exact gm2_vret O hQ (kOk.m hk410) w dX8_init_431
