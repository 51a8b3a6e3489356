/-! printed by gen/mgen.py out of the given decode rows: the walks of ApartBenchModel -/
set_option maxRecDepth 100000
-- thrown
abbrev rM_thrown : Room := { frames := 1, cells := 0, slots := 0, locals := 12 }
set_option maxHeartbeats 4000000 in
theorem cM_thrown (l : Launch) (hfl : l.flags = flags0) (E : w_E) (z : Nat) (T L : Nat → Nat) (V0 : w_V) (P : w_P) (mb : Nat) (hM : mOk E T L P mb) (sg : MS) (post : Int32 → Prop) (w : wM_thrown sg post) : mMi0 l yX8_thrown cX8_thrown 1 (some .int) rM_thrown E z T L V0 P mb [.ref mb] sg post := by
  refine g_start (S := Unit) hfl (by decide +kernel) rfl [some (.ref mb)] rfl (fun _ h => h) (Nat.le_of_ble_eq_true rfl) (fun X hl hRm hEe O hQ => ?_)
  subst hl
  subst hEe
  unfold wM_thrown at w
  refine g_aload_n O dX8_thrown_0 rfl ?_
  refine gm_getI (j := 2) O hM.1 rfl (by decide) q1730 dX8_thrown_1 ?_
  exact gm_iret0 O hQ rfl w dX8_thrown_4
-- feed
abbrev rM_feed : Room := { frames := 1, cells := 0, slots := 0, locals := 12 }
set_option maxHeartbeats 4000000 in
theorem vM_feed_76 {X : Cx} {z : Nat} {T L : Nat → Nat} {V0 : w_V} {P : w_P} {mb : Nat} (O : Okc X cX8_feed RX8 8 (some .int)) (hRm : cxR X = rM_feed) (hM : mOk (cxE X) T L P mb) (sg : MS) (x1 : Int32) (x2 : Int32) (x3 : Int32) (x4 : Int32) (x5 : Int32) (x6 : Int32) (t0 : Int32) (post : Int32 → MS → Prop) (hQ : cxMQ X (va_Qi post (fun u t => wdW (cxE X) (mW z T L V0 P mb u) t.heap) (w_A (cxE X))) 0 0) (kb : Int32 → MS → Prop) (hkb : ∀ (y6 : Int32) (sg : MS), kb y6 sg → gW X 0 0 z T L (up1 V0 mb sg) P 23 [some (.ref mb), some (.int x1), some (.int x2), some (.int x3), some (.int x4), some (.int x5), some (.int y6), none] []) (w : jM_feed_76 sg x1 x2 x3 x4 x5 x6 t0 post kb) : gW X 0 0 z T L (up1 V0 mb sg) P 76 [some (.ref mb), some (.int x1), some (.int x2), some (.int x3), some (.int x4), some (.int x5), some (.int x6), none] [.int t0] := by
  unfold jM_feed_76 at w
  refine g_istore O dX8_feed_76 (Nat.le_of_ble_eq_true rfl) rfl (lv' := [some (.ref mb), some (.int x1), some (.int x2), some (.int x3), some (.int x4), some (.int x5), some (.int x6), some (.int t0)]) rfl ?_
  refine g_aload_n O dX8_feed_78 rfl ?_
  refine gm_getA (j := 13) O hM.1 rfl (by decide) q1741 dX8_feed_79 ?_
  refine g_aload_n O dX8_feed_82 rfl ?_
  refine gm_getI (j := 14) O hM.1 rfl (by decide) q1742 dX8_feed_83 ?_
  refine g_iload O dX8_feed_86 rfl ?_
  refine g_bipush (v := 24) O dX8_feed_88 (by decide) ?_
  refine g_bipush (v := 8) O dX8_feed_90 (by decide) ?_
  refine g_iload O dX8_feed_92 rfl ?_
  refine g_iconst (v := 4) O dX8_feed_94 (by decide) ?_
  refine g_irem O (by decide) dX8_feed_95 ?_
  refine g_imul O dX8_feed_96 ?_
  refine g_isub O dX8_feed_97 ?_
  refine g_ishr O dX8_feed_98 ?_
  refine g_sipush (v := 255) O dX8_feed_99 (by decide) ?_
  refine g_iand O dX8_feed_102 ?_
  obtain ⟨i1, hi2, e3, w⟩ := w
  refine gm_ast (j := 13) (len := 600) (nn := i1) O hM.1 rfl hi2 (by decide) e3 dX8_feed_103 ?_
  refine g_aload_n O dX8_feed_104 rfl ?_
  refine g_dup O dX8_feed_105 rfl ?_
  refine gm_getI (j := 14) O hM.1 rfl (by decide) q1742 dX8_feed_106 ?_
  refine g_iconst (v := 1) O dX8_feed_109 (by decide) ?_
  refine g_iadd O dX8_feed_110 ?_
  refine gm_putI (j := 14) (ty := .int) O hM.1 rfl (by decide) q1742 rfl rfl rfl rfl dX8_feed_111 ?_
  refine g_iinc (v := (x6 + 1)) O dX8_feed_114 rfl rfl rfl (lv' := [some (.ref mb), some (.int x1), some (.int x2), some (.int x3), some (.int x4), some (.int x5), some (.int (x6 + 1)), some (.int t0)]) rfl ?_
  refine g_goto (tgt := 23) O dX8_feed_117 (by decide) ?_
  refine g_drop [7] (lv' := [some (.ref mb), some (.int x1), some (.int x2), some (.int x3), some (.int x4), some (.int x5), some (.int (x6 + 1)), none]) rfl ?_
  exact hkb ((x6 + 1)) ((s2 (s2 sg 14 i1 (((t0 : Int32) >>> (((24 - (8 * (x6 - x6 / 4 * 4))) : Int32) &&& 31)) &&& 255)) 0 14 (((s2 sg 14 i1 (((t0 : Int32) >>> (((24 - (8 * (x6 - x6 / 4 * 4))) : Int32) &&& 31)) &&& 255)) 0 14) + 1))) w
set_option maxHeartbeats 4000000 in
theorem vM_feed_23 {X : Cx} {z : Nat} {T L : Nat → Nat} {V0 : w_V} {P : w_P} {mb : Nat} (O : Okc X cX8_feed RX8 8 (some .int)) (hRm : cxR X = rM_feed) (hM : mOk (cxE X) T L P mb) (x1 : Int32) (x2 : Int32) (x3 : Int32) (x4 : Int32) (x5 : Int32) (post : Int32 → MS → Prop) (hQ : cxMQ X (va_Qi post (fun u t => wdW (cxE X) (mW z T L V0 P mb u) t.heap) (w_A (cxE X))) 0 0)  : ∀ (n : Nat) (x6 : Int32) (sg : MS), lM_feed_23 x1 x2 x3 x4 x5 post n x6 sg → gW X 0 0 z T L (up1 V0 mb sg) P 23 [some (.ref mb), some (.int x1), some (.int x2), some (.int x3), some (.int x4), some (.int x5), some (.int x6), none] [] := by
  intro n
  induction n with
  | zero =>
    intro x6 sg w
    exact w.elim
  | succ n ih =>
    intro x6 sg w
    unfold lM_feed_23 at w
    refine g_iload O dX8_feed_23 rfl ?_
    refine g_bipush (v := 20) O dX8_feed_25 (by decide) ?_
    refine g_icmp_ge (tgt := 120) O w dX8_feed_27 (by decide) (fun w => ?_) (fun w => ?_)
    · refine g_aload_n O dX8_feed_120 rfl ?_
      refine gm_getI (j := 14) O hM.1 rfl (by decide) q1742 dX8_feed_121 ?_
      exact gm_iret O hQ rfl w dX8_feed_124
    · refine g_iload O dX8_feed_30 rfl ?_
      refine g_iconst (v := 4) O dX8_feed_32 (by decide) ?_
      refine g_icmp_ge (tgt := 40) O w dX8_feed_33 (by decide) (fun w => ?_) (fun w => ?_)
      · refine g_iload O dX8_feed_40 rfl ?_
        refine g_bipush (v := 8) O dX8_feed_42 (by decide) ?_
        refine g_icmp_ge (tgt := 51) O w dX8_feed_44 (by decide) (fun w => ?_) (fun w => ?_)
        · refine g_iload O dX8_feed_51 rfl ?_
          refine g_bipush (v := 12) O dX8_feed_53 (by decide) ?_
          refine g_icmp_ge (tgt := 62) O w dX8_feed_55 (by decide) (fun w => ?_) (fun w => ?_)
          · refine g_iload O dX8_feed_62 rfl ?_
            refine g_bipush (v := 16) O dX8_feed_64 (by decide) ?_
            refine g_icmp_ge (tgt := 74) O w dX8_feed_66 (by decide) (fun w => ?_) (fun w => ?_)
            · refine g_iload O dX8_feed_74 rfl ?_
              exact vM_feed_76 O hRm hM sg  x1 x2 x3 x4 x5 x6 x5 post hQ (lM_feed_23 x1 x2 x3 x4 x5 post n) ih w
            · refine g_iload O dX8_feed_69 rfl ?_
              refine g_goto (tgt := 76) O dX8_feed_71 (by decide) ?_
              exact vM_feed_76 O hRm hM sg  x1 x2 x3 x4 x5 x6 x4 post hQ (lM_feed_23 x1 x2 x3 x4 x5 post n) ih w
          · refine g_iload_n O dX8_feed_58 rfl ?_
            refine g_goto (tgt := 76) O dX8_feed_59 (by decide) ?_
            exact vM_feed_76 O hRm hM sg  x1 x2 x3 x4 x5 x6 x3 post hQ (lM_feed_23 x1 x2 x3 x4 x5 post n) ih w
        · refine g_iload_n O dX8_feed_47 rfl ?_
          refine g_goto (tgt := 76) O dX8_feed_48 (by decide) ?_
          exact vM_feed_76 O hRm hM sg  x1 x2 x3 x4 x5 x6 x2 post hQ (lM_feed_23 x1 x2 x3 x4 x5 post n) ih w
      · refine g_iload_n O dX8_feed_36 rfl ?_
        refine g_goto (tgt := 76) O dX8_feed_37 (by decide) ?_
        exact vM_feed_76 O hRm hM sg  x1 x2 x3 x4 x5 x6 x1 post hQ (lM_feed_23 x1 x2 x3 x4 x5 post n) ih w
set_option maxHeartbeats 4000000 in
theorem cM_feed (l : Launch) (hfl : l.flags = flags0) (E : w_E) (z : Nat) (T L : Nat → Nat) (V0 : w_V) (P : w_P) (mb : Nat) (hM : mOk E T L P mb) (sg : MS) (x1 : Int32) (x2 : Int32) (x3 : Int32) (x4 : Int32) (x5 : Int32) (post : Int32 → MS → Prop) (w : wM_feed sg x1 x2 x3 x4 x5 post) : mMi l yX8_feed cX8_feed 8 (some .int) rM_feed E z T L V0 P mb [.ref mb, .int x1, .int x2, .int x3, .int x4, .int x5] sg post := by
  refine g_start (S := Unit) hfl (by decide +kernel) rfl [some (.ref mb), some (.int x1), some (.int x2), some (.int x3), some (.int x4), some (.int x5), none, none] rfl (fun _ h => h) (Nat.le_of_ble_eq_true rfl) (fun X hl hRm hEe O hQ => ?_)
  subst hl
  subst hEe
  unfold wM_feed at w
  refine g_aload_n O dX8_feed_0 rfl ?_
  refine g_iconst (v := 0) O dX8_feed_1 (by decide) ?_
  refine gm_putI (j := 2) (ty := .int) O hM.1 rfl (by decide) q1730 rfl rfl rfl rfl dX8_feed_2 ?_
  refine g_aload_n O dX8_feed_5 rfl ?_
  refine gm_getI (j := 14) O hM.1 rfl (by decide) q1742 dX8_feed_6 ?_
  refine g_bipush (v := 20) O dX8_feed_9 (by decide) ?_
  refine g_iadd O dX8_feed_11 ?_
  refine g_sipush (v := 600) O dX8_feed_12 (by decide) ?_
  refine g_icmp_le (tgt := 20) O w dX8_feed_15 (by decide) (fun w => ?_) (fun w => ?_)
  · refine g_iconst (v := 0) O dX8_feed_20 (by decide) ?_
    refine g_istore O dX8_feed_21 (Nat.le_of_ble_eq_true rfl) rfl (lv' := [some (.ref mb), some (.int x1), some (.int x2), some (.int x3), some (.int x4), some (.int x5), some (.int 0), none]) rfl ?_
    obtain ⟨n4, w⟩ := w
    exact vM_feed_23 O hRm hM x1 x2 x3 x4 x5 post hQ n4 0 (s2 sg 0 2 0) w
  · refine g_iconst (v := (-1)) O dX8_feed_18 (by decide) ?_
    exact gm_iret O hQ rfl w dX8_feed_19
-- fail
abbrev rM_fail : Room := { frames := 1, cells := 0, slots := 0, locals := 12 }
set_option maxHeartbeats 4000000 in
theorem cM_fail (l : Launch) (hfl : l.flags = flags0) (E : w_E) (z : Nat) (T L : Nat → Nat) (V0 : w_V) (P : w_P) (mb : Nat) (hM : mOk E T L P mb) (sg : MS) (x1 : Int32) (post : Int32 → MS → Prop) (w : wM_fail sg x1 post) : mMi l yX8_fail cX8_fail 2 (some .int) rM_fail E z T L V0 P mb [.ref mb, .int x1] sg post := by
  refine g_start (S := Unit) hfl (by decide +kernel) rfl [some (.ref mb), some (.int x1)] rfl (fun _ h => h) (Nat.le_of_ble_eq_true rfl) (fun X hl hRm hEe O hQ => ?_)
  subst hl
  subst hEe
  unfold wM_fail at w
  refine g_aload_n O dX8_fail_0 rfl ?_
  refine g_iload_n O dX8_fail_1 rfl ?_
  refine gm_putI (j := 2) (ty := .int) O hM.1 rfl (by decide) q1730 rfl rfl rfl rfl dX8_fail_2 ?_
  refine g_iconst (v := 0) O dX8_fail_5 (by decide) ?_
  exact gm_iret O hQ rfl w dX8_fail_6
-- is
abbrev rM_is : Room := { frames := 9, cells := 0, slots := 0, locals := 320 }
set_option maxHeartbeats 4000000 in
theorem vM_is_75 {X : Cx} {z : Nat} {T L : Nat → Nat} {V0 : w_V} {P : w_P} {mb : Nat} (O : Okc X cX8_is RX8 4 (some .boolean)) (hRm : cxR X = rM_is) (hM : mOk (cxE X) T L P mb) (sg : MS) (tx1 : List Nat) (p1 : Nat) (hs1 : isStr (cxE X) p1 tx1) (x3 : Int32) (t0 : Int32) (post : Int32 → Prop) (hQ : cxMQ X (va_Qi (fun x (_ : Unit) => post x) (fun (_ : Unit) t => wdW (cxE X) (mW z T L V0 P mb sg) t.heap) (w_A (cxE X))) 0 0) (kb : Int32 → Int32 → Prop) (hkb : ∀ (y2 : Int32) (y3 : Int32), kb y2 y3 → gW X 0 0 z T L (up1 V0 mb sg) P 39 [some (.ref mb), some (.ref p1), some (.int y2), some (.int y3)] []) (w : jM_is_75 sg tx1 x3 t0 post kb) : gW X 0 0 z T L (up1 V0 mb sg) P 75 [some (.ref mb), some (.ref p1), none, some (.int x3)] [.int t0] := by
  unfold jM_is_75 at w
  refine g_istore_n O dX8_is_75 (Nat.le_of_ble_eq_true rfl) rfl (lv' := [some (.ref mb), some (.ref p1), some (.int t0), some (.int x3)]) rfl ?_
  refine g_iinc (v := (x3 + 1)) O dX8_is_76 rfl rfl rfl (lv' := [some (.ref mb), some (.ref p1), some (.int t0), some (.int (x3 + 1))]) rfl ?_
  refine g_goto (tgt := 39) O dX8_is_79 (by decide) ?_
  exact hkb (t0) ((x3 + 1)) w
set_option maxHeartbeats 4000000 in
theorem vM_is_39 {X : Cx} {z : Nat} {T L : Nat → Nat} {V0 : w_V} {P : w_P} {mb : Nat} (O : Okc X cX8_is RX8 4 (some .boolean)) (hRm : cxR X = rM_is) (hM : mOk (cxE X) T L P mb) (sg : MS) (tx1 : List Nat) (p1 : Nat) (hs1 : isStr (cxE X) p1 tx1) (post : Int32 → Prop) (hQ : cxMQ X (va_Qi (fun x (_ : Unit) => post x) (fun (_ : Unit) t => wdW (cxE X) (mW z T L V0 P mb sg) t.heap) (w_A (cxE X))) 0 0)  : ∀ (n : Nat) (x2 : Int32) (x3 : Int32), lM_is_39 sg tx1 post n x2 x3 → gW X 0 0 z T L (up1 V0 mb sg) P 39 [some (.ref mb), some (.ref p1), some (.int x2), some (.int x3)] [] := by
  intro n
  induction n with
  | zero =>
    intro x2 x3 w
    exact w.elim
  | succ n ih =>
    intro x2 x3 w
    unfold lM_is_39 at w
    refine g_iload_n O dX8_is_39 rfl ?_
    refine g_if_eq (tgt := 82) O w dX8_is_40 (by decide) (fun w => ?_) (fun w => ?_)
    · refine g_iload_n O dX8_is_82 rfl ?_
      exact gm_iret0 O hQ w.1 w.2 dX8_is_83
    · refine g_iload_n O dX8_is_43 rfl ?_
      refine g_aload_n O dX8_is_44 rfl ?_
      refine g_slen O hRm q1962 hs1 (Nat.le_of_ble_eq_true rfl) (Nat.le_of_ble_eq_true rfl) ⟨Nat.le_refl _, Nat.le_refl _⟩ rfl (Nat.le_of_ble_eq_true rfl) dX8_is_45 ?_
      refine g_icmp_ge (tgt := 82) O w dX8_is_48 (by decide) (fun w => ?_) (fun w => ?_)
      · refine g_iload_n O dX8_is_82 rfl ?_
        exact gm_iret0 O hQ w.1 w.2 dX8_is_83
      · refine g_aload_n O dX8_is_51 rfl ?_
        refine g_iload_n O dX8_is_52 rfl ?_
        obtain ⟨i1, hi2, e3, w⟩ := w
        refine g_schar O hRm q1963 hs1 hi2 e3 (Nat.le_of_ble_eq_true rfl) (Nat.le_of_ble_eq_true rfl) ⟨Nat.le_refl _, Nat.le_refl _⟩ rfl (Nat.le_of_ble_eq_true rfl) dX8_is_53 ?_
        refine g_aload_n O dX8_is_56 rfl ?_
        refine gm_getA (j := 13) O hM.1 rfl (by decide) q1741 dX8_is_57 ?_
        refine g_aload_n O dX8_is_60 rfl ?_
        refine gm_getI (j := 19) O hM.1 rfl (by decide) q1747 dX8_is_61 ?_
        refine g_iload_n O dX8_is_64 rfl ?_
        refine g_iadd O dX8_is_65 ?_
        obtain ⟨i4, hi5, e6, w⟩ := w
        refine gm_ald (j := 13) (len := 600) (nn := i4) O hM.1 rfl hi5 (by decide) e6 dX8_is_66 ?_
        refine g_icmp_ne (tgt := 74) O w dX8_is_67 (by decide) (fun w => ?_) (fun w => ?_)
        · refine g_iconst (v := 0) O dX8_is_74 (by decide) ?_
          refine g_drop [2] (lv' := [some (.ref mb), some (.ref p1), none, some (.int x3)]) rfl ?_
          exact vM_is_75 O hRm hM sg tx1 p1 hs1  x3 0 post hQ (lM_is_39 sg tx1 post n) ih w
        · refine g_iconst (v := 1) O dX8_is_70 (by decide) ?_
          refine g_goto (tgt := 75) O dX8_is_71 (by decide) ?_
          refine g_drop [2] (lv' := [some (.ref mb), some (.ref p1), none, some (.int x3)]) rfl ?_
          exact vM_is_75 O hRm hM sg tx1 p1 hs1  x3 1 post hQ (lM_is_39 sg tx1 post n) ih w
set_option maxHeartbeats 4000000 in
theorem vM_is_36 {X : Cx} {z : Nat} {T L : Nat → Nat} {V0 : w_V} {P : w_P} {mb : Nat} (O : Okc X cX8_is RX8 4 (some .boolean)) (hRm : cxR X = rM_is) (hM : mOk (cxE X) T L P mb) (sg : MS) (tx1 : List Nat) (p1 : Nat) (hs1 : isStr (cxE X) p1 tx1) (t0 : Int32) (post : Int32 → Prop) (hQ : cxMQ X (va_Qi (fun x (_ : Unit) => post x) (fun (_ : Unit) t => wdW (cxE X) (mW z T L V0 P mb sg) t.heap) (w_A (cxE X))) 0 0) (w : jM_is_36 sg tx1 t0 post) : gW X 0 0 z T L (up1 V0 mb sg) P 36 [some (.ref mb), some (.ref p1), none, none] [.int t0] := by
  unfold jM_is_36 at w
  refine g_istore_n O dX8_is_36 (Nat.le_of_ble_eq_true rfl) rfl (lv' := [some (.ref mb), some (.ref p1), some (.int t0), none]) rfl ?_
  refine g_iconst (v := 0) O dX8_is_37 (by decide) ?_
  refine g_istore_n O dX8_is_38 (Nat.le_of_ble_eq_true rfl) rfl (lv' := [some (.ref mb), some (.ref p1), some (.int t0), some (.int 0)]) rfl ?_
  obtain ⟨n7, w⟩ := w
  exact vM_is_39 O hRm hM sg tx1 p1 hs1 post hQ n7 t0 0 w
set_option maxHeartbeats 4000000 in
theorem vM_is_35 {X : Cx} {z : Nat} {T L : Nat → Nat} {V0 : w_V} {P : w_P} {mb : Nat} (O : Okc X cX8_is RX8 4 (some .boolean)) (hRm : cxR X = rM_is) (hM : mOk (cxE X) T L P mb) (sg : MS) (tx1 : List Nat) (p1 : Nat) (hs1 : isStr (cxE X) p1 tx1) (post : Int32 → Prop) (hQ : cxMQ X (va_Qi (fun x (_ : Unit) => post x) (fun (_ : Unit) t => wdW (cxE X) (mW z T L V0 P mb sg) t.heap) (w_A (cxE X))) 0 0) (w : jM_is_35 sg tx1 post) : gW X 0 0 z T L (up1 V0 mb sg) P 35 [some (.ref mb), some (.ref p1), none, none] [] := by
  unfold jM_is_35 at w
  refine g_iconst (v := 0) O dX8_is_35 (by decide) ?_
  exact vM_is_36 O hRm hM sg tx1 p1 hs1  0 post hQ w
set_option maxHeartbeats 4000000 in
theorem cM_is (l : Launch) (hfl : l.flags = flags0) (E : w_E) (z : Nat) (T L : Nat → Nat) (V0 : w_V) (P : w_P) (mb : Nat) (hM : mOk E T L P mb) (sg : MS) (tx1 : List Nat) (p1 : Nat) (hs1 : isStr E p1 tx1) (post : Int32 → Prop) (w : wM_is sg tx1 post) : mMi0 l yX8_is cX8_is 4 (some .boolean) rM_is E z T L V0 P mb [.ref mb, .ref p1] sg post := by
  refine g_start (S := Unit) hfl (by decide +kernel) rfl [some (.ref mb), some (.ref p1), none, none] rfl (fun _ h => h) (Nat.le_of_ble_eq_true rfl) (fun X hl hRm hEe O hQ => ?_)
  subst hl
  subst hEe
  unfold wM_is at w
  refine g_aload_n O dX8_is_0 rfl ?_
  refine gm_getI (j := 21) O hM.1 rfl (by decide) q1749 dX8_is_1 ?_
  refine g_if_ne (tgt := 35) O w dX8_is_4 (by decide) (fun w => ?_) (fun w => ?_)
  · exact vM_is_35 O hRm hM sg tx1 p1 hs1  post hQ w
  · refine g_aload_n O dX8_is_7 rfl ?_
    refine gm_getI (j := 17) O hM.1 rfl (by decide) q1745 dX8_is_8 ?_
    refine g_iconst (v := 1) O dX8_is_11 (by decide) ?_
    refine g_icmp_ne (tgt := 35) O w dX8_is_12 (by decide) (fun w => ?_) (fun w => ?_)
    · exact vM_is_35 O hRm hM sg tx1 p1 hs1  post hQ w
    · refine g_aload_n O dX8_is_15 rfl ?_
      refine g_slen O hRm q1962 hs1 (Nat.le_of_ble_eq_true rfl) (Nat.le_of_ble_eq_true rfl) ⟨Nat.le_refl _, Nat.le_refl _⟩ rfl (Nat.le_of_ble_eq_true rfl) dX8_is_16 ?_
      refine g_aload_n O dX8_is_19 rfl ?_
      refine gm_getI (j := 20) O hM.1 rfl (by decide) q1748 dX8_is_20 ?_
      refine g_aload_n O dX8_is_23 rfl ?_
      refine gm_getI (j := 19) O hM.1 rfl (by decide) q1747 dX8_is_24 ?_
      refine g_isub O dX8_is_27 ?_
      refine g_icmp_ne (tgt := 35) O w dX8_is_28 (by decide) (fun w => ?_) (fun w => ?_)
      · exact vM_is_35 O hRm hM sg tx1 p1 hs1  post hQ w
      · refine g_iconst (v := 1) O dX8_is_31 (by decide) ?_
        refine g_goto (tgt := 36) O dX8_is_32 (by decide) ?_
        exact vM_is_36 O hRm hM sg tx1 p1 hs1  1 post hQ w
-- isMarked
abbrev rM_isMarked : Room := { frames := 1, cells := 0, slots := 0, locals := 12 }
set_option maxHeartbeats 4000000 in
theorem cM_isMarked (l : Launch) (hfl : l.flags = flags0) (E : w_E) (z : Nat) (T L : Nat → Nat) (V0 : w_V) (P : w_P) (mb : Nat) (hM : mOk E T L P mb) (sg : MS) (x1 : Int32) (post : Int32 → Prop) (w : wM_isMarked sg x1 post) : mMi0 l yX8_isMarked cX8_isMarked 2 (some .boolean) rM_isMarked E z T L V0 P mb [.ref mb, .int x1] sg post := by
  refine g_start (S := Unit) hfl (by decide +kernel) rfl [some (.ref mb), some (.int x1)] rfl (fun _ h => h) (Nat.le_of_ble_eq_true rfl) (fun X hl hRm hEe O hQ => ?_)
  subst hl
  subst hEe
  unfold wM_isMarked at w
  refine g_aload_n O dX8_isMarked_0 rfl ?_
  refine gm_getI (j := 21) O hM.1 rfl (by decide) q1749 dX8_isMarked_1 ?_
  refine g_if_ne (tgt := 32) O w dX8_isMarked_4 (by decide) (fun w => ?_) (fun w => ?_)
  · refine g_iconst (v := 0) O dX8_isMarked_32 (by decide) ?_
    exact gm_iret0 O hQ rfl w dX8_isMarked_33
  · refine g_aload_n O dX8_isMarked_7 rfl ?_
    refine gm_getI (j := 17) O hM.1 rfl (by decide) q1745 dX8_isMarked_8 ?_
    refine g_iconst (v := 3) O dX8_isMarked_11 (by decide) ?_
    refine g_icmp_ne (tgt := 32) O w dX8_isMarked_12 (by decide) (fun w => ?_) (fun w => ?_)
    · refine g_iconst (v := 0) O dX8_isMarked_32 (by decide) ?_
      exact gm_iret0 O hQ rfl w dX8_isMarked_33
    · refine g_aload_n O dX8_isMarked_15 rfl ?_
      refine gm_getA (j := 13) O hM.1 rfl (by decide) q1741 dX8_isMarked_16 ?_
      refine g_aload_n O dX8_isMarked_19 rfl ?_
      refine gm_getI (j := 19) O hM.1 rfl (by decide) q1747 dX8_isMarked_20 ?_
      obtain ⟨i1, hi2, e3, w⟩ := w
      refine gm_ald (j := 13) (len := 600) (nn := i1) O hM.1 rfl hi2 (by decide) e3 dX8_isMarked_23 ?_
      refine g_iload_n O dX8_isMarked_24 rfl ?_
      refine g_icmp_ne (tgt := 32) O w dX8_isMarked_25 (by decide) (fun w => ?_) (fun w => ?_)
      · refine g_iconst (v := 0) O dX8_isMarked_32 (by decide) ?_
        exact gm_iret0 O hQ rfl w dX8_isMarked_33
      · refine g_iconst (v := 1) O dX8_isMarked_28 (by decide) ?_
        refine g_goto (tgt := 33) O dX8_isMarked_29 (by decide) ?_
        exact gm_iret0 O hQ rfl w dX8_isMarked_33
-- byteAt
abbrev rM_byteAt : Room := { frames := 1, cells := 0, slots := 0, locals := 12 }
set_option maxHeartbeats 4000000 in
theorem cM_byteAt (l : Launch) (hfl : l.flags = flags0) (E : w_E) (z : Nat) (T L : Nat → Nat) (V0 : w_V) (P : w_P) (mb : Nat) (hM : mOk E T L P mb) (sg : MS) (x1 : Int32) (post : Int32 → Prop) (w : wM_byteAt sg x1 post) : mMi0 l yX8_byteAt cX8_byteAt 2 (some .int) rM_byteAt E z T L V0 P mb [.ref mb, .int x1] sg post := by
  refine g_start (S := Unit) hfl (by decide +kernel) rfl [some (.ref mb), some (.int x1)] rfl (fun _ h => h) (Nat.le_of_ble_eq_true rfl) (fun X hl hRm hEe O hQ => ?_)
  subst hl
  subst hEe
  unfold wM_byteAt at w
  refine g_iload_n O dX8_byteAt_0 rfl ?_
  refine g_aload_n O dX8_byteAt_1 rfl ?_
  refine gm_getI (j := 16) O hM.1 rfl (by decide) q1744 dX8_byteAt_2 ?_
  refine g_icmp_ge (tgt := 17) O w dX8_byteAt_5 (by decide) (fun w => ?_) (fun w => ?_)
  · refine g_iconst (v := (-1)) O dX8_byteAt_17 (by decide) ?_
    exact gm_iret0 O hQ rfl w dX8_byteAt_18
  · refine g_aload_n O dX8_byteAt_8 rfl ?_
    refine gm_getA (j := 13) O hM.1 rfl (by decide) q1741 dX8_byteAt_9 ?_
    refine g_iload_n O dX8_byteAt_12 rfl ?_
    obtain ⟨i1, hi2, e3, w⟩ := w
    refine gm_ald (j := 13) (len := 600) (nn := i1) O hM.1 rfl hi2 (by decide) e3 dX8_byteAt_13 ?_
    refine g_goto (tgt := 18) O dX8_byteAt_14 (by decide) ?_
    exact gm_iret0 O hQ rfl w dX8_byteAt_18
-- isDigit
abbrev rM_isDigit : Room := { frames := 1, cells := 0, slots := 0, locals := 12 }
set_option maxHeartbeats 4000000 in
theorem cM_isDigit (l : Launch) (hfl : l.flags = flags0) (E : w_E) (z : Nat) (T L : Nat → Nat) (V0 : w_V) (P : w_P) (mb : Nat) (hM : mOk E T L P mb) (sg : MS) (x0 : Int32) (post : Int32 → Prop) (w : wM_isDigit sg x0 post) : mMi0 l yX8_isDigit cX8_isDigit 1 (some .boolean) rM_isDigit E z T L V0 P mb [.int x0] sg post := by
  refine g_start (S := Unit) hfl (by decide +kernel) rfl [some (.int x0)] rfl (fun _ h => h) (Nat.le_of_ble_eq_true rfl) (fun X hl hRm hEe O hQ => ?_)
  subst hl
  subst hEe
  unfold wM_isDigit at w
  refine g_iload_n O dX8_isDigit_0 rfl ?_
  refine g_bipush (v := 48) O dX8_isDigit_1 (by decide) ?_
  refine g_icmp_lt (tgt := 16) O w dX8_isDigit_3 (by decide) (fun w => ?_) (fun w => ?_)
  · refine g_iconst (v := 0) O dX8_isDigit_16 (by decide) ?_
    exact gm_iret0 O hQ rfl w dX8_isDigit_17
  · refine g_iload_n O dX8_isDigit_6 rfl ?_
    refine g_bipush (v := 57) O dX8_isDigit_7 (by decide) ?_
    refine g_icmp_gt (tgt := 16) O w dX8_isDigit_9 (by decide) (fun w => ?_) (fun w => ?_)
    · refine g_iconst (v := 0) O dX8_isDigit_16 (by decide) ?_
      exact gm_iret0 O hQ rfl w dX8_isDigit_17
    · refine g_iconst (v := 1) O dX8_isDigit_12 (by decide) ?_
      refine g_goto (tgt := 17) O dX8_isDigit_13 (by decide) ?_
      exact gm_iret0 O hQ rfl w dX8_isDigit_17
-- isLetter
abbrev rM_isLetter : Room := { frames := 1, cells := 0, slots := 0, locals := 12 }
set_option maxHeartbeats 4000000 in
theorem cM_isLetter (l : Launch) (hfl : l.flags = flags0) (E : w_E) (z : Nat) (T L : Nat → Nat) (V0 : w_V) (P : w_P) (mb : Nat) (hM : mOk E T L P mb) (sg : MS) (x0 : Int32) (post : Int32 → Prop) (w : wM_isLetter sg x0 post) : mMi0 l yX8_isLetter cX8_isLetter 1 (some .boolean) rM_isLetter E z T L V0 P mb [.int x0] sg post := by
  refine g_start (S := Unit) hfl (by decide +kernel) rfl [some (.int x0)] rfl (fun _ h => h) (Nat.le_of_ble_eq_true rfl) (fun X hl hRm hEe O hQ => ?_)
  subst hl
  subst hEe
  unfold wM_isLetter at w
  refine g_iload_n O dX8_isLetter_0 rfl ?_
  refine g_bipush (v := 97) O dX8_isLetter_1 (by decide) ?_
  refine g_icmp_lt (tgt := 16) O w dX8_isLetter_3 (by decide) (fun w => ?_) (fun w => ?_)
  · refine g_iconst (v := 0) O dX8_isLetter_16 (by decide) ?_
    exact gm_iret0 O hQ rfl w dX8_isLetter_17
  · refine g_iload_n O dX8_isLetter_6 rfl ?_
    refine g_bipush (v := 122) O dX8_isLetter_7 (by decide) ?_
    refine g_icmp_gt (tgt := 16) O w dX8_isLetter_9 (by decide) (fun w => ?_) (fun w => ?_)
    · refine g_iconst (v := 0) O dX8_isLetter_16 (by decide) ?_
      exact gm_iret0 O hQ rfl w dX8_isLetter_17
    · refine g_iconst (v := 1) O dX8_isLetter_12 (by decide) ?_
      refine g_goto (tgt := 17) O dX8_isLetter_13 (by decide) ?_
      exact gm_iret0 O hQ rfl w dX8_isLetter_17
-- isMark
abbrev rM_isMark : Room := { frames := 1, cells := 0, slots := 0, locals := 12 }
set_option maxHeartbeats 4000000 in
theorem cM_isMark (l : Launch) (hfl : l.flags = flags0) (E : w_E) (z : Nat) (T L : Nat → Nat) (V0 : w_V) (P : w_P) (mb : Nat) (hM : mOk E T L P mb) (sg : MS) (x0 : Int32) (post : Int32 → Prop) (w : wM_isMark sg x0 post) : mMi0 l yX8_isMark cX8_isMark 1 (some .boolean) rM_isMark E z T L V0 P mb [.int x0] sg post := by
  refine g_start (S := Unit) hfl (by decide +kernel) rfl [some (.int x0)] rfl (fun _ h => h) (Nat.le_of_ble_eq_true rfl) (fun X hl hRm hEe O hQ => ?_)
  subst hl
  subst hEe
  unfold wM_isMark at w
  refine g_iload_n O dX8_isMark_0 rfl ?_
  refine g_bipush (v := 59) O dX8_isMark_1 (by decide) ?_
  refine g_icmp_eq (tgt := 54) O w dX8_isMark_3 (by decide) (fun w => ?_) (fun w => ?_)
  · refine g_iconst (v := 1) O dX8_isMark_54 (by decide) ?_
    refine g_goto (tgt := 59) O dX8_isMark_55 (by decide) ?_
    exact gm_iret0 O hQ rfl w dX8_isMark_59
  · refine g_iload_n O dX8_isMark_6 rfl ?_
    refine g_bipush (v := 40) O dX8_isMark_7 (by decide) ?_
    refine g_icmp_eq (tgt := 54) O w dX8_isMark_9 (by decide) (fun w => ?_) (fun w => ?_)
    · refine g_iconst (v := 1) O dX8_isMark_54 (by decide) ?_
      refine g_goto (tgt := 59) O dX8_isMark_55 (by decide) ?_
      exact gm_iret0 O hQ rfl w dX8_isMark_59
    · refine g_iload_n O dX8_isMark_12 rfl ?_
      refine g_bipush (v := 41) O dX8_isMark_13 (by decide) ?_
      refine g_icmp_eq (tgt := 54) O w dX8_isMark_15 (by decide) (fun w => ?_) (fun w => ?_)
      · refine g_iconst (v := 1) O dX8_isMark_54 (by decide) ?_
        refine g_goto (tgt := 59) O dX8_isMark_55 (by decide) ?_
        exact gm_iret0 O hQ rfl w dX8_isMark_59
      · refine g_iload_n O dX8_isMark_18 rfl ?_
        refine g_bipush (v := 43) O dX8_isMark_19 (by decide) ?_
        refine g_icmp_eq (tgt := 54) O w dX8_isMark_21 (by decide) (fun w => ?_) (fun w => ?_)
        · refine g_iconst (v := 1) O dX8_isMark_54 (by decide) ?_
          refine g_goto (tgt := 59) O dX8_isMark_55 (by decide) ?_
          exact gm_iret0 O hQ rfl w dX8_isMark_59
        · refine g_iload_n O dX8_isMark_24 rfl ?_
          refine g_bipush (v := 45) O dX8_isMark_25 (by decide) ?_
          refine g_icmp_eq (tgt := 54) O w dX8_isMark_27 (by decide) (fun w => ?_) (fun w => ?_)
          · refine g_iconst (v := 1) O dX8_isMark_54 (by decide) ?_
            refine g_goto (tgt := 59) O dX8_isMark_55 (by decide) ?_
            exact gm_iret0 O hQ rfl w dX8_isMark_59
          · refine g_iload_n O dX8_isMark_30 rfl ?_
            refine g_bipush (v := 42) O dX8_isMark_31 (by decide) ?_
            refine g_icmp_eq (tgt := 54) O w dX8_isMark_33 (by decide) (fun w => ?_) (fun w => ?_)
            · refine g_iconst (v := 1) O dX8_isMark_54 (by decide) ?_
              refine g_goto (tgt := 59) O dX8_isMark_55 (by decide) ?_
              exact gm_iret0 O hQ rfl w dX8_isMark_59
            · refine g_iload_n O dX8_isMark_36 rfl ?_
              refine g_bipush (v := 47) O dX8_isMark_37 (by decide) ?_
              refine g_icmp_eq (tgt := 54) O w dX8_isMark_39 (by decide) (fun w => ?_) (fun w => ?_)
              · refine g_iconst (v := 1) O dX8_isMark_54 (by decide) ?_
                refine g_goto (tgt := 59) O dX8_isMark_55 (by decide) ?_
                exact gm_iret0 O hQ rfl w dX8_isMark_59
              · refine g_iload_n O dX8_isMark_42 rfl ?_
                refine g_bipush (v := 60) O dX8_isMark_43 (by decide) ?_
                refine g_icmp_eq (tgt := 54) O w dX8_isMark_45 (by decide) (fun w => ?_) (fun w => ?_)
                · refine g_iconst (v := 1) O dX8_isMark_54 (by decide) ?_
                  refine g_goto (tgt := 59) O dX8_isMark_55 (by decide) ?_
                  exact gm_iret0 O hQ rfl w dX8_isMark_59
                · refine g_iload_n O dX8_isMark_48 rfl ?_
                  refine g_bipush (v := 61) O dX8_isMark_49 (by decide) ?_
                  refine g_icmp_ne (tgt := 58) O w dX8_isMark_51 (by decide) (fun w => ?_) (fun w => ?_)
                  · refine g_iconst (v := 0) O dX8_isMark_58 (by decide) ?_
                    exact gm_iret0 O hQ rfl w dX8_isMark_59
                  · refine g_iconst (v := 1) O dX8_isMark_54 (by decide) ?_
                    refine g_goto (tgt := 59) O dX8_isMark_55 (by decide) ?_
                    exact gm_iret0 O hQ rfl w dX8_isMark_59
-- stepOn
abbrev rM_stepOn : Room := { frames := 2, cells := 0, slots := 0, locals := 33 }
set_option maxHeartbeats 4000000 in
theorem vM_stepOn_26 {X : Cx} {z : Nat} {T L : Nat → Nat} {V0 : w_V} {P : w_P} {mb : Nat} (O : Okc X cX8_stepOn RX8 2 none) (hRm : cxR X = rM_stepOn) (hM : mOk (cxE X) T L P mb) (sg : MS) (post : MS → Prop) (hQ : cxMQ X (va_Qv post (fun u t => wdW (cxE X) (mW z T L V0 P mb u) t.heap) (w_A (cxE X))) 0 0) (kb : MS → Prop) (hkb : ∀ (sg : MS), kb sg → gW X 0 0 z T L (up1 V0 mb sg) P 0 [some (.ref mb), none] []) (w : jM_stepOn_26 sg post kb) : gW X 0 0 z T L (up1 V0 mb sg) P 26 [some (.ref mb), none] [] := by
  unfold jM_stepOn_26 at w
  refine g_aload_n O dX8_stepOn_26 rfl ?_
  refine g_dup O dX8_stepOn_27 rfl ?_
  refine gm_getI (j := 15) O hM.1 rfl (by decide) q1743 dX8_stepOn_28 ?_
  refine g_iconst (v := 1) O dX8_stepOn_31 (by decide) ?_
  refine g_iadd O dX8_stepOn_32 ?_
  refine gm_putI (j := 15) (ty := .int) O hM.1 rfl (by decide) q1743 rfl rfl rfl rfl dX8_stepOn_33 ?_
  refine g_goto (tgt := 0) O dX8_stepOn_36 (by decide) ?_
  exact hkb  ((s2 sg 0 15 ((sg 0 15) + 1))) w
set_option maxHeartbeats 4000000 in
theorem vM_stepOn_0 {X : Cx} {z : Nat} {T L : Nat → Nat} {V0 : w_V} {P : w_P} {mb : Nat} (O : Okc X cX8_stepOn RX8 2 none) (hRm : cxR X = rM_stepOn) (hM : mOk (cxE X) T L P mb) (post : MS → Prop) (hQ : cxMQ X (va_Qv post (fun u t => wdW (cxE X) (mW z T L V0 P mb u) t.heap) (w_A (cxE X))) 0 0) (ke_39 : MS → Prop) (hke_39 : ∀ (sg : MS), ke_39 sg → gW X 0 0 z T L (up1 V0 mb sg) P 39 [some (.ref mb), none] [])  : ∀ (n : Nat) (sg : MS), lM_stepOn_0 post ke_39 n sg → gW X 0 0 z T L (up1 V0 mb sg) P 0 [some (.ref mb), none] [] := by
  intro n
  induction n with
  | zero =>
    intro sg w
    exact w.elim
  | succ n ih =>
    intro sg w
    unfold lM_stepOn_0 at w
    refine g_aload_n O dX8_stepOn_0 rfl ?_
    refine g_aload_n O dX8_stepOn_1 rfl ?_
    refine gm_getI (j := 15) O hM.1 rfl (by decide) q1743 dX8_stepOn_2 ?_
    refine gm_Vi0 (nA := 1) (As := [.int (sg 0 15)]) (rest := []) O hRm hM.1 (cM_byteAt _ O.2.2.2.2.2.2.2.2 _ _ _ _ _ _ _ hM sg ((sg 0 15)) _ w) (lw_V q1938 q1940 qs51 q134 q1941) rfl rfl (by decide +kernel) ⟨Nat.le_of_ble_eq_true rfl, Nat.le_of_ble_eq_true rfl⟩ rfl rfl rfl (Nat.le_of_ble_eq_true rfl) dX8_stepOn_5 (fun r1 w => ?_)
    refine g_bipush (v := 32) O dX8_stepOn_8 (by decide) ?_
    refine g_icmp_eq (tgt := 26) O w dX8_stepOn_10 (by decide) (fun w => ?_) (fun w => ?_)
    · exact vM_stepOn_26 O hRm hM sg  post hQ (lM_stepOn_0 post ke_39 n) ih w
    · refine g_aload_n O dX8_stepOn_13 rfl ?_
      refine g_aload_n O dX8_stepOn_14 rfl ?_
      refine gm_getI (j := 15) O hM.1 rfl (by decide) q1743 dX8_stepOn_15 ?_
      refine gm_Vi0 (nA := 1) (As := [.int (sg 0 15)]) (rest := []) O hRm hM.1 (cM_byteAt _ O.2.2.2.2.2.2.2.2 _ _ _ _ _ _ _ hM sg ((sg 0 15)) _ w) (lw_V q1938 q1940 qs51 q134 q1941) rfl rfl (by decide +kernel) ⟨Nat.le_of_ble_eq_true rfl, Nat.le_of_ble_eq_true rfl⟩ rfl rfl rfl (Nat.le_of_ble_eq_true rfl) dX8_stepOn_18 (fun r3 w => ?_)
      refine g_bipush (v := 10) O dX8_stepOn_21 (by decide) ?_
      refine g_icmp_ne (tgt := 39) O w dX8_stepOn_23 (by decide) (fun w => ?_) (fun w => ?_)
      · exact hke_39  (sg) w
      · exact vM_stepOn_26 O hRm hM sg  post hQ (lM_stepOn_0 post ke_39 n) ih w
set_option maxHeartbeats 4000000 in
theorem vM_stepOn_212 {X : Cx} {z : Nat} {T L : Nat → Nat} {V0 : w_V} {P : w_P} {mb : Nat} (O : Okc X cX8_stepOn RX8 2 none) (hRm : cxR X = rM_stepOn) (hM : mOk (cxE X) T L P mb) (sg : MS) (post : MS → Prop) (hQ : cxMQ X (va_Qv post (fun u t => wdW (cxE X) (mW z T L V0 P mb u) t.heap) (w_A (cxE X))) 0 0) (w : jM_stepOn_212 sg post) : gW X 0 0 z T L (up1 V0 mb sg) P 212 [some (.ref mb), none] [] := by
  unfold jM_stepOn_212 at w
  refine g_aload_n O dX8_stepOn_212 rfl ?_
  refine g_aload_n O dX8_stepOn_213 rfl ?_
  refine gm_getI (j := 15) O hM.1 rfl (by decide) q1743 dX8_stepOn_214 ?_
  refine gm_putI (j := 20) (ty := .int) O hM.1 rfl (by decide) q1748 rfl rfl rfl rfl dX8_stepOn_217 ?_
  exact gm_vret O hQ w dX8_stepOn_220
set_option maxHeartbeats 4000000 in
theorem vM_stepOn_209 {X : Cx} {z : Nat} {T L : Nat → Nat} {V0 : w_V} {P : w_P} {mb : Nat} (O : Okc X cX8_stepOn RX8 2 none) (hRm : cxR X = rM_stepOn) (hM : mOk (cxE X) T L P mb) (sg : MS) (t0 : Int32) (post : MS → Prop) (hQ : cxMQ X (va_Qv post (fun u t => wdW (cxE X) (mW z T L V0 P mb u) t.heap) (w_A (cxE X))) 0 0) (w : jM_stepOn_209 sg t0 post) : gW X 0 0 z T L (up1 V0 mb sg) P 209 [some (.ref mb), none] [.int t0, .ref mb] := by
  unfold jM_stepOn_209 at w
  refine gm_putI (j := 17) (ty := .int) O hM.1 rfl (by decide) q1745 rfl rfl rfl rfl dX8_stepOn_209 ?_
  exact vM_stepOn_212 O hRm hM (s2 sg 0 17 t0)  post hQ w
set_option maxHeartbeats 4000000 in
theorem vM_stepOn_123 {X : Cx} {z : Nat} {T L : Nat → Nat} {V0 : w_V} {P : w_P} {mb : Nat} (O : Okc X cX8_stepOn RX8 2 none) (hRm : cxR X = rM_stepOn) (hM : mOk (cxE X) T L P mb) (post : MS → Prop) (hQ : cxMQ X (va_Qv post (fun u t => wdW (cxE X) (mW z T L V0 P mb u) t.heap) (w_A (cxE X))) 0 0) (ke_178 : MS → Prop) (hke_178 : ∀ (sg : MS), ke_178 sg → gW X 0 0 z T L (up1 V0 mb sg) P 178 [some (.ref mb), none] [])  : ∀ (n : Nat) (sg : MS), lM_stepOn_123 post ke_178 n sg → gW X 0 0 z T L (up1 V0 mb sg) P 123 [some (.ref mb), none] [] := by
  intro n
  induction n with
  | zero =>
    intro sg w
    exact w.elim
  | succ n ih =>
    intro sg w
    unfold lM_stepOn_123 at w
    refine g_aload_n O dX8_stepOn_123 rfl ?_
    refine g_aload_n O dX8_stepOn_124 rfl ?_
    refine gm_getI (j := 15) O hM.1 rfl (by decide) q1743 dX8_stepOn_125 ?_
    refine gm_Vi0 (nA := 1) (As := [.int (sg 0 15)]) (rest := []) O hRm hM.1 (cM_byteAt _ O.2.2.2.2.2.2.2.2 _ _ _ _ _ _ _ hM sg ((sg 0 15)) _ w) (lw_V q1938 q1940 qs51 q134 q1941) rfl rfl (by decide +kernel) ⟨Nat.le_of_ble_eq_true rfl, Nat.le_of_ble_eq_true rfl⟩ rfl rfl rfl (Nat.le_of_ble_eq_true rfl) dX8_stepOn_128 (fun r14 w => ?_)
    refine gm_Si0 (nA := 1) (As := [.int r14]) (rest := []) O hRm (cM_isDigit _ O.2.2.2.2.2.2.2.2 _ _ _ _ _ _ _ hM sg (r14) _ w) (lw_S q1945 q1946 q134 q1947) rfl rfl (by decide +kernel) ⟨Nat.le_of_ble_eq_true rfl, Nat.le_of_ble_eq_true rfl⟩ rfl rfl rfl (Nat.le_of_ble_eq_true rfl) dX8_stepOn_131 (fun r16 w => ?_)
    refine g_if_eq (tgt := 178) O w dX8_stepOn_134 (by decide) (fun w => ?_) (fun w => ?_)
    · exact hke_178  (sg) w
    · refine g_aload_n O dX8_stepOn_137 rfl ?_
      refine g_ldc O q1948 dX8_stepOn_138 ?_
      refine g_bipush (v := 10) O dX8_stepOn_140 (by decide) ?_
      refine g_aload_n O dX8_stepOn_142 rfl ?_
      refine gm_getI (j := 18) O hM.1 rfl (by decide) q1746 dX8_stepOn_143 ?_
      refine g_imul O dX8_stepOn_146 ?_
      refine g_aload_n O dX8_stepOn_147 rfl ?_
      refine g_aload_n O dX8_stepOn_148 rfl ?_
      refine gm_getI (j := 15) O hM.1 rfl (by decide) q1743 dX8_stepOn_149 ?_
      refine gm_Vi0 (nA := 1) (As := [.int (sg 0 15)]) (rest := [.int (10 * (sg 0 18)), .int 100000, .ref mb]) O hRm hM.1 (cM_byteAt _ O.2.2.2.2.2.2.2.2 _ _ _ _ _ _ _ hM sg ((sg 0 15)) _ w) (lw_V q1938 q1940 qs51 q134 q1941) rfl rfl (by decide +kernel) ⟨Nat.le_of_ble_eq_true rfl, Nat.le_of_ble_eq_true rfl⟩ rfl rfl rfl (Nat.le_of_ble_eq_true rfl) dX8_stepOn_152 (fun r18 w => ?_)
      refine g_iadd O dX8_stepOn_155 ?_
      refine g_bipush (v := 48) O dX8_stepOn_156 (by decide) ?_
      refine g_isub O dX8_stepOn_158 ?_
      refine g_mmin O q1949 hRm (Nat.le_of_ble_eq_true rfl) (Nat.le_of_ble_eq_true rfl) ⟨Nat.le_of_ble_eq_true rfl, Nat.le_of_ble_eq_true rfl⟩ rfl dX8_stepOn_159 ?_
      refine gm_putI (j := 18) (ty := .int) O hM.1 rfl (by decide) q1746 rfl rfl rfl rfl dX8_stepOn_162 ?_
      refine g_aload_n O dX8_stepOn_165 rfl ?_
      refine g_dup O dX8_stepOn_166 rfl ?_
      refine gm_getI (j := 15) O hM.1 rfl (by decide) q1743 dX8_stepOn_167 ?_
      refine g_iconst (v := 1) O dX8_stepOn_170 (by decide) ?_
      refine g_iadd O dX8_stepOn_171 ?_
      refine gm_putI (j := 15) (ty := .int) O hM.1 rfl (by decide) q1743 rfl rfl rfl rfl dX8_stepOn_172 ?_
      refine g_goto (tgt := 123) O dX8_stepOn_175 (by decide) ?_
      exact ih  ((s2 (s2 sg 0 18 (if (((10 * (sg 0 18)) + r18) - 48) < 100000 then (((10 * (sg 0 18)) + r18) - 48) else 100000)) 0 15 (((s2 sg 0 18 (if (((10 * (sg 0 18)) + r18) - 48) < 100000 then (((10 * (sg 0 18)) + r18) - 48) else 100000)) 0 15) + 1))) w
set_option maxHeartbeats 4000000 in
theorem vM_stepOn_76 {X : Cx} {z : Nat} {T L : Nat → Nat} {V0 : w_V} {P : w_P} {mb : Nat} (O : Okc X cX8_stepOn RX8 2 none) (hRm : cxR X = rM_stepOn) (hM : mOk (cxE X) T L P mb) (post : MS → Prop) (hQ : cxMQ X (va_Qv post (fun u t => wdW (cxE X) (mW z T L V0 P mb u) t.heap) (w_A (cxE X))) 0 0) (ke_103 : MS → Prop) (hke_103 : ∀ (sg : MS), ke_103 sg → gW X 0 0 z T L (up1 V0 mb sg) P 103 [some (.ref mb), none] [])  : ∀ (n : Nat) (sg : MS), lM_stepOn_76 post ke_103 n sg → gW X 0 0 z T L (up1 V0 mb sg) P 76 [some (.ref mb), none] [] := by
  intro n
  induction n with
  | zero =>
    intro sg w
    exact w.elim
  | succ n ih =>
    intro sg w
    unfold lM_stepOn_76 at w
    refine g_aload_n O dX8_stepOn_76 rfl ?_
    refine g_aload_n O dX8_stepOn_77 rfl ?_
    refine gm_getI (j := 15) O hM.1 rfl (by decide) q1743 dX8_stepOn_78 ?_
    refine gm_Vi0 (nA := 1) (As := [.int (sg 0 15)]) (rest := []) O hRm hM.1 (cM_byteAt _ O.2.2.2.2.2.2.2.2 _ _ _ _ _ _ _ hM sg ((sg 0 15)) _ w) (lw_V q1938 q1940 qs51 q134 q1941) rfl rfl (by decide +kernel) ⟨Nat.le_of_ble_eq_true rfl, Nat.le_of_ble_eq_true rfl⟩ rfl rfl rfl (Nat.le_of_ble_eq_true rfl) dX8_stepOn_81 (fun r22 w => ?_)
    refine gm_Si0 (nA := 1) (As := [.int r22]) (rest := []) O hRm (cM_isLetter _ O.2.2.2.2.2.2.2.2 _ _ _ _ _ _ _ hM sg (r22) _ w) (lw_S q1942 q1943 q134 q1944) rfl rfl (by decide +kernel) ⟨Nat.le_of_ble_eq_true rfl, Nat.le_of_ble_eq_true rfl⟩ rfl rfl rfl (Nat.le_of_ble_eq_true rfl) dX8_stepOn_84 (fun r24 w => ?_)
    refine g_if_eq (tgt := 103) O w dX8_stepOn_87 (by decide) (fun w => ?_) (fun w => ?_)
    · exact hke_103  (sg) w
    · refine g_aload_n O dX8_stepOn_90 rfl ?_
      refine g_dup O dX8_stepOn_91 rfl ?_
      refine gm_getI (j := 15) O hM.1 rfl (by decide) q1743 dX8_stepOn_92 ?_
      refine g_iconst (v := 1) O dX8_stepOn_95 (by decide) ?_
      refine g_iadd O dX8_stepOn_96 ?_
      refine gm_putI (j := 15) (ty := .int) O hM.1 rfl (by decide) q1743 rfl rfl rfl rfl dX8_stepOn_97 ?_
      refine g_goto (tgt := 76) O dX8_stepOn_100 (by decide) ?_
      exact ih  ((s2 sg 0 15 ((sg 0 15) + 1))) w
set_option maxHeartbeats 4000000 in
theorem cM_stepOn (l : Launch) (hfl : l.flags = flags0) (E : w_E) (z : Nat) (T L : Nat → Nat) (V0 : w_V) (P : w_P) (mb : Nat) (hM : mOk E T L P mb) (sg : MS) (post : MS → Prop) (w : wM_stepOn sg post) : mMv l yX8_stepOn cX8_stepOn 2 none rM_stepOn E z T L V0 P mb [.ref mb] sg post := by
  refine g_start (S := Unit) hfl (by decide +kernel) rfl [some (.ref mb), none] rfl (fun _ h => h) (Nat.le_of_ble_eq_true rfl) (fun X hl hRm hEe O hQ => ?_)
  subst hl
  subst hEe
  unfold wM_stepOn at w
  obtain ⟨n28, w⟩ := w
  refine vM_stepOn_0 O hRm hM post hQ _ (fun g5 w => ?_) n28 sg w
  refine g_aload_n O dX8_stepOn_39 rfl ?_
  refine g_aload_n O dX8_stepOn_40 rfl ?_
  refine gm_getI (j := 15) O hM.1 rfl (by decide) q1743 dX8_stepOn_41 ?_
  refine gm_putI (j := 19) (ty := .int) O hM.1 rfl (by decide) q1747 rfl rfl rfl rfl dX8_stepOn_44 ?_
  refine g_aload_n O dX8_stepOn_47 rfl ?_
  refine g_aload_n O dX8_stepOn_48 rfl ?_
  refine gm_getI (j := 15) O hM.1 rfl (by decide) q1743 dX8_stepOn_49 ?_
  refine gm_Vi0 (nA := 1) (As := [.int ((s2 g5 0 19 (g5 0 15)) 0 15)]) (rest := []) O hRm hM.1 (cM_byteAt _ O.2.2.2.2.2.2.2.2 _ _ _ _ _ _ _ hM (s2 g5 0 19 (g5 0 15)) (((s2 g5 0 19 (g5 0 15)) 0 15)) _ w) (lw_V q1938 q1940 qs51 q134 q1941) rfl rfl (by decide +kernel) ⟨Nat.le_of_ble_eq_true rfl, Nat.le_of_ble_eq_true rfl⟩ rfl rfl rfl (Nat.le_of_ble_eq_true rfl) dX8_stepOn_52 (fun r6 w => ?_)
  refine g_istore_n O dX8_stepOn_55 (Nat.le_of_ble_eq_true rfl) rfl (lv' := [some (.ref mb), some (.int r6)]) rfl ?_
  refine g_iload_n O dX8_stepOn_56 rfl ?_
  refine g_iconst (v := (-1)) O dX8_stepOn_57 (by decide) ?_
  refine g_icmp_ne (tgt := 69) O w dX8_stepOn_58 (by decide) (fun w => ?_) (fun w => ?_)
  · refine g_iload_n O dX8_stepOn_69 rfl ?_
    refine gm_Si0 (nA := 1) (As := [.int r6]) (rest := []) O hRm (cM_isLetter _ O.2.2.2.2.2.2.2.2 _ _ _ _ _ _ _ hM (s2 g5 0 19 (g5 0 15)) (r6) _ w) (lw_S q1942 q1943 q134 q1944) rfl rfl (by decide +kernel) ⟨Nat.le_of_ble_eq_true rfl, Nat.le_of_ble_eq_true rfl⟩ rfl rfl rfl (Nat.le_of_ble_eq_true rfl) dX8_stepOn_70 (fun r8 w => ?_)
    refine g_if_eq (tgt := 111) O w dX8_stepOn_73 (by decide) (fun w => ?_) (fun w => ?_)
    · refine g_iload_n O dX8_stepOn_111 rfl ?_
      refine gm_Si0 (nA := 1) (As := [.int r6]) (rest := []) O hRm (cM_isDigit _ O.2.2.2.2.2.2.2.2 _ _ _ _ _ _ _ hM (s2 g5 0 19 (g5 0 15)) (r6) _ w) (lw_S q1945 q1946 q134 q1947) rfl rfl (by decide +kernel) ⟨Nat.le_of_ble_eq_true rfl, Nat.le_of_ble_eq_true rfl⟩ rfl rfl rfl (Nat.le_of_ble_eq_true rfl) dX8_stepOn_112 (fun r10 w => ?_)
      refine g_if_eq (tgt := 186) O w dX8_stepOn_115 (by decide) (fun w => ?_) (fun w => ?_)
      · refine g_aload_n O dX8_stepOn_186 rfl ?_
        refine g_dup O dX8_stepOn_187 rfl ?_
        refine gm_getI (j := 15) O hM.1 rfl (by decide) q1743 dX8_stepOn_188 ?_
        refine g_iconst (v := 1) O dX8_stepOn_191 (by decide) ?_
        refine g_iadd O dX8_stepOn_192 ?_
        refine gm_putI (j := 15) (ty := .int) O hM.1 rfl (by decide) q1743 rfl rfl rfl rfl dX8_stepOn_193 ?_
        refine g_aload_n O dX8_stepOn_196 rfl ?_
        refine g_iload_n O dX8_stepOn_197 rfl ?_
        refine gm_Si0 (nA := 1) (As := [.int r6]) (rest := [.ref mb]) O hRm (cM_isMark _ O.2.2.2.2.2.2.2.2 _ _ _ _ _ _ _ hM (s2 (s2 g5 0 19 (g5 0 15)) 0 15 (((s2 g5 0 19 (g5 0 15)) 0 15) + 1)) (r6) _ w) (lw_S q1950 q1951 q134 q1952) rfl rfl (by decide +kernel) ⟨Nat.le_of_ble_eq_true rfl, Nat.le_of_ble_eq_true rfl⟩ rfl rfl rfl (Nat.le_of_ble_eq_true rfl) dX8_stepOn_198 (fun r12 w => ?_)
        refine g_if_eq (tgt := 208) O w dX8_stepOn_201 (by decide) (fun w => ?_) (fun w => ?_)
        · refine g_iconst (v := 4) O dX8_stepOn_208 (by decide) ?_
          refine g_drop [1] (lv' := [some (.ref mb), none]) rfl ?_
          exact vM_stepOn_209 O hRm hM (s2 (s2 g5 0 19 (g5 0 15)) 0 15 (((s2 g5 0 19 (g5 0 15)) 0 15) + 1))  4 post hQ w
        · refine g_iconst (v := 3) O dX8_stepOn_204 (by decide) ?_
          refine g_goto (tgt := 209) O dX8_stepOn_205 (by decide) ?_
          refine g_drop [1] (lv' := [some (.ref mb), none]) rfl ?_
          exact vM_stepOn_209 O hRm hM (s2 (s2 g5 0 19 (g5 0 15)) 0 15 (((s2 g5 0 19 (g5 0 15)) 0 15) + 1))  3 post hQ w
      · refine g_aload_n O dX8_stepOn_118 rfl ?_
        refine g_iconst (v := 0) O dX8_stepOn_119 (by decide) ?_
        refine gm_putI (j := 18) (ty := .int) O hM.1 rfl (by decide) q1746 rfl rfl rfl rfl dX8_stepOn_120 ?_
        obtain ⟨n21, w⟩ := w
        refine g_drop [1] (lv' := [some (.ref mb), none]) rfl ?_
        refine vM_stepOn_123 O hRm hM post hQ _ (fun g20 w => ?_) n21 (s2 (s2 g5 0 19 (g5 0 15)) 0 18 0) w
        refine g_aload_n O dX8_stepOn_178 rfl ?_
        refine g_iconst (v := 2) O dX8_stepOn_179 (by decide) ?_
        refine gm_putI (j := 17) (ty := .int) O hM.1 rfl (by decide) q1745 rfl rfl rfl rfl dX8_stepOn_180 ?_
        refine g_goto (tgt := 212) O dX8_stepOn_183 (by decide) ?_
        exact vM_stepOn_212 O hRm hM (s2 g20 0 17 2)  post hQ w
    · obtain ⟨n27, w⟩ := w
      refine g_drop [1] (lv' := [some (.ref mb), none]) rfl ?_
      refine vM_stepOn_76 O hRm hM post hQ _ (fun g26 w => ?_) n27 (s2 g5 0 19 (g5 0 15)) w
      refine g_aload_n O dX8_stepOn_103 rfl ?_
      refine g_iconst (v := 1) O dX8_stepOn_104 (by decide) ?_
      refine gm_putI (j := 17) (ty := .int) O hM.1 rfl (by decide) q1745 rfl rfl rfl rfl dX8_stepOn_105 ?_
      refine g_goto (tgt := 212) O dX8_stepOn_108 (by decide) ?_
      exact vM_stepOn_212 O hRm hM (s2 g26 0 17 1)  post hQ w
  · refine g_aload_n O dX8_stepOn_61 rfl ?_
    refine g_iconst (v := 0) O dX8_stepOn_62 (by decide) ?_
    refine gm_putI (j := 17) (ty := .int) O hM.1 rfl (by decide) q1745 rfl rfl rfl rfl dX8_stepOn_63 ?_
    refine g_goto (tgt := 212) O dX8_stepOn_66 (by decide) ?_
    refine g_drop [1] (lv' := [some (.ref mb), none]) rfl ?_
    exact vM_stepOn_212 O hRm hM (s2 (s2 g5 0 19 (g5 0 15)) 0 17 0)  post hQ w
-- wrong
abbrev rM_wrong : Room := { frames := 1, cells := 0, slots := 0, locals := 12 }
set_option maxHeartbeats 4000000 in
theorem cM_wrong (l : Launch) (hfl : l.flags = flags0) (E : w_E) (z : Nat) (T L : Nat → Nat) (V0 : w_V) (P : w_P) (mb : Nat) (hM : mOk E T L P mb) (sg : MS) (x1 : Int32) (post : MS → Prop) (w : wM_wrong sg x1 post) : mMv l yX8_wrong cX8_wrong 2 none rM_wrong E z T L V0 P mb [.ref mb, .int x1] sg post := by
  refine g_start (S := Unit) hfl (by decide +kernel) rfl [some (.ref mb), some (.int x1)] rfl (fun _ h => h) (Nat.le_of_ble_eq_true rfl) (fun X hl hRm hEe O hQ => ?_)
  subst hl
  subst hEe
  unfold wM_wrong at w
  refine g_aload_n O dX8_wrong_0 rfl ?_
  refine gm_getI (j := 21) O hM.1 rfl (by decide) q1749 dX8_wrong_1 ?_
  refine g_if_eq (tgt := 8) O w dX8_wrong_4 (by decide) (fun w => ?_) (fun w => ?_)
  · refine g_aload_n O dX8_wrong_8 rfl ?_
    refine g_iload_n O dX8_wrong_9 rfl ?_
    refine gm_putI (j := 21) (ty := .int) O hM.1 rfl (by decide) q1749 rfl rfl rfl rfl dX8_wrong_10 ?_
    refine g_aload_n O dX8_wrong_13 rfl ?_
    refine g_aload_n O dX8_wrong_14 rfl ?_
    refine gm_getI (j := 19) O hM.1 rfl (by decide) q1747 dX8_wrong_15 ?_
    refine gm_putI (j := 22) (ty := .int) O hM.1 rfl (by decide) q1750 rfl rfl rfl rfl dX8_wrong_18 ?_
    exact gm_vret O hQ w dX8_wrong_21
  · exact gm_vret O hQ w dX8_wrong_7
-- mark
abbrev rM_mark : Room := { frames := 3, cells := 0, slots := 0, locals := 54 }
set_option maxHeartbeats 4000000 in
theorem vM_mark_20 {X : Cx} {z : Nat} {T L : Nat → Nat} {V0 : w_V} {P : w_P} {mb : Nat} (O : Okc X cX8_mark RX8 2 none) (hRm : cxR X = rM_mark) (hM : mOk (cxE X) T L P mb) (sg : MS) (post : MS → Prop) (hQ : cxMQ X (va_Qv post (fun u t => wdW (cxE X) (mW z T L V0 P mb u) t.heap) (w_A (cxE X))) 0 0) (w : jM_mark_20 sg post) : gW X 0 0 z T L (up1 V0 mb sg) P 20 [some (.ref mb), none] [] := by
  unfold jM_mark_20 at w
  refine g_aload_n O dX8_mark_20 rfl ?_
  refine gm_getI (j := 21) O hM.1 rfl (by decide) q1749 dX8_mark_21 ?_
  refine g_if_ne (tgt := 31) O w dX8_mark_24 (by decide) (fun w => ?_) (fun w => ?_)
  · exact gm_vret O hQ w dX8_mark_31
  · refine g_aload_n O dX8_mark_27 rfl ?_
    refine gm_Vv (nA := 0) (As := []) (rest := []) O hRm hM.1 (cM_stepOn _ O.2.2.2.2.2.2.2.2 _ _ _ _ _ _ _ hM sg _ w) (lw_V q1934 q1936 qs50 q134 q1937) rfl rfl (by decide +kernel) ⟨Nat.le_of_ble_eq_true rfl, Nat.le_of_ble_eq_true rfl⟩ rfl rfl rfl (Nat.le_of_ble_eq_true rfl) dX8_mark_28 (fun g2 w => ?_)
    exact gm_vret O hQ w dX8_mark_31
set_option maxHeartbeats 4000000 in
theorem cM_mark (l : Launch) (hfl : l.flags = flags0) (E : w_E) (z : Nat) (T L : Nat → Nat) (V0 : w_V) (P : w_P) (mb : Nat) (hM : mOk E T L P mb) (sg : MS) (x1 : Int32) (post : MS → Prop) (w : wM_mark sg x1 post) : mMv l yX8_mark cX8_mark 2 none rM_mark E z T L V0 P mb [.ref mb, .int x1] sg post := by
  refine g_start (S := Unit) hfl (by decide +kernel) rfl [some (.ref mb), some (.int x1)] rfl (fun _ h => h) (Nat.le_of_ble_eq_true rfl) (fun X hl hRm hEe O hQ => ?_)
  subst hl
  subst hEe
  unfold wM_mark at w
  refine g_aload_n O dX8_mark_0 rfl ?_
  refine gm_getI (j := 21) O hM.1 rfl (by decide) q1749 dX8_mark_1 ?_
  refine g_if_ne (tgt := 20) O w dX8_mark_4 (by decide) (fun w => ?_) (fun w => ?_)
  · refine g_drop [1] (lv' := [some (.ref mb), none]) rfl ?_
    exact vM_mark_20 O hRm hM sg  post hQ w
  · refine g_aload_n O dX8_mark_7 rfl ?_
    refine g_iload_n O dX8_mark_8 rfl ?_
    refine gm_Vi0 (nA := 1) (As := [.int x1]) (rest := []) O hRm hM.1 (cM_isMarked _ O.2.2.2.2.2.2.2.2 _ _ _ _ _ _ _ hM sg (x1) _ w) (lw_V q1985 q1987 qs59 q134 q1988) rfl rfl (by decide +kernel) ⟨Nat.le_of_ble_eq_true rfl, Nat.le_of_ble_eq_true rfl⟩ rfl rfl rfl (Nat.le_of_ble_eq_true rfl) dX8_mark_9 (fun r3 w => ?_)
    refine g_if_ne (tgt := 20) O w dX8_mark_12 (by decide) (fun w => ?_) (fun w => ?_)
    · refine g_drop [1] (lv' := [some (.ref mb), none]) rfl ?_
      exact vM_mark_20 O hRm hM sg  post hQ w
    · refine g_aload_n O dX8_mark_15 rfl ?_
      refine g_iconst (v := 1) O dX8_mark_16 (by decide) ?_
      refine gm_Vv (nA := 1) (As := [.int 1]) (rest := []) O hRm hM.1 (cM_wrong _ O.2.2.2.2.2.2.2.2 _ _ _ _ _ _ _ hM sg (1) _ w) (lw_V q1969 q1971 qs55 q134 q1972) rfl rfl (by decide +kernel) ⟨Nat.le_of_ble_eq_true rfl, Nat.le_of_ble_eq_true rfl⟩ rfl rfl rfl (Nat.le_of_ble_eq_true rfl) dX8_mark_17 (fun g6 w => ?_)
      refine g_drop [1] (lv' := [some (.ref mb), none]) rfl ?_
      exact vM_mark_20 O hRm hM g6  post hQ w
-- another
abbrev rM_another : Room := { frames := 3, cells := 0, slots := 0, locals := 54 }
set_option maxHeartbeats 4000000 in
theorem vM_another_18 {X : Cx} {z : Nat} {T L : Nat → Nat} {V0 : w_V} {P : w_P} {mb : Nat} (O : Okc X cX8_another RX8 3 (some .boolean)) (hRm : cxR X = rM_another) (hM : mOk (cxE X) T L P mb) (sg : MS) (post : Int32 → MS → Prop) (hQ : cxMQ X (va_Qi post (fun u t => wdW (cxE X) (mW z T L V0 P mb u) t.heap) (w_A (cxE X))) 0 0) (w : jM_another_18 sg post) : gW X 0 0 z T L (up1 V0 mb sg) P 18 [some (.ref mb), none, none] [] := by
  unfold jM_another_18 at w
  refine g_aload_n O dX8_another_18 rfl ?_
  refine gm_getI (j := 21) O hM.1 rfl (by decide) q1749 dX8_another_19 ?_
  refine g_if_eq (tgt := 27) O w dX8_another_22 (by decide) (fun w => ?_) (fun w => ?_)
  · refine g_aload_n O dX8_another_27 rfl ?_
    refine gm_Vv (nA := 0) (As := []) (rest := []) O hRm hM.1 (cM_stepOn _ O.2.2.2.2.2.2.2.2 _ _ _ _ _ _ _ hM sg _ w) (lw_V q1934 q1936 qs50 q134 q1937) rfl rfl (by decide +kernel) ⟨Nat.le_of_ble_eq_true rfl, Nat.le_of_ble_eq_true rfl⟩ rfl rfl rfl (Nat.le_of_ble_eq_true rfl) dX8_another_28 (fun g5 w => ?_)
    refine g_iconst (v := 1) O dX8_another_31 (by decide) ?_
    exact gm_iret O hQ rfl w dX8_another_32
  · refine g_iconst (v := 0) O dX8_another_25 (by decide) ?_
    exact gm_iret O hQ rfl w dX8_another_26
set_option maxHeartbeats 4000000 in
theorem cM_another (l : Launch) (hfl : l.flags = flags0) (E : w_E) (z : Nat) (T L : Nat → Nat) (V0 : w_V) (P : w_P) (mb : Nat) (hM : mOk E T L P mb) (sg : MS) (x1 : Int32) (x2 : Int32) (post : Int32 → MS → Prop) (w : wM_another sg x1 x2 post) : mMi l yX8_another cX8_another 3 (some .boolean) rM_another E z T L V0 P mb [.ref mb, .int x1, .int x2] sg post := by
  refine g_start (S := Unit) hfl (by decide +kernel) rfl [some (.ref mb), some (.int x1), some (.int x2)] rfl (fun _ h => h) (Nat.le_of_ble_eq_true rfl) (fun X hl hRm hEe O hQ => ?_)
  subst hl
  subst hEe
  unfold wM_another at w
  refine g_aload_n O dX8_another_0 rfl ?_
  refine gm_getA (j := 3) O hM.1 rfl (by decide) q1731 dX8_another_1 ?_
  refine g_bipush (v := 7) O dX8_another_4 (by decide) ?_
  refine g_iload_n O dX8_another_6 rfl ?_
  refine g_iadd O dX8_another_7 ?_
  obtain ⟨i1, hi2, e3, w⟩ := w
  refine gm_ald (j := 3) (len := 14) (nn := i1) O hM.1 rfl hi2 (by decide) e3 dX8_another_8 ?_
  refine g_iload_n O dX8_another_9 rfl ?_
  refine g_icmp_ne (tgt := 18) O w dX8_another_10 (by decide) (fun w => ?_) (fun w => ?_)
  · refine g_drop [1, 2] (lv' := [some (.ref mb), none, none]) rfl ?_
    exact vM_another_18 O hRm hM sg  post hQ w
  · refine g_aload_n O dX8_another_13 rfl ?_
    refine g_iconst (v := 2) O dX8_another_14 (by decide) ?_
    refine gm_Vv (nA := 1) (As := [.int 2]) (rest := []) O hRm hM.1 (cM_wrong _ O.2.2.2.2.2.2.2.2 _ _ _ _ _ _ _ hM sg (2) _ w) (lw_V q1969 q1971 qs55 q134 q1972) rfl rfl (by decide +kernel) ⟨Nat.le_of_ble_eq_true rfl, Nat.le_of_ble_eq_true rfl⟩ rfl rfl rfl (Nat.le_of_ble_eq_true rfl) dX8_another_15 (fun g7 w => ?_)
    refine g_drop [1, 2] (lv' := [some (.ref mb), none, none]) rfl ?_
    exact vM_another_18 O hRm hM g7  post hQ w
-- numberNow
abbrev rM_numberNow : Room := { frames := 2, cells := 0, slots := 0, locals := 33 }
set_option maxHeartbeats 4000000 in
theorem vM_numberNow_59 {X : Cx} {z : Nat} {T L : Nat → Nat} {V0 : w_V} {P : w_P} {mb : Nat} (O : Okc X cX8_numberNow RX8 3 (some .int)) (hRm : cxR X = rM_numberNow) (hM : mOk (cxE X) T L P mb) (sg : MS) (post : Int32 → MS → Prop) (hQ : cxMQ X (va_Qi post (fun u t => wdW (cxE X) (mW z T L V0 P mb u) t.heap) (w_A (cxE X))) 0 0) (w : jM_numberNow_59 sg post) : gW X 0 0 z T L (up1 V0 mb sg) P 59 [some (.ref mb), none, none] [] := by
  unfold jM_numberNow_59 at w
  refine g_aload_n O dX8_numberNow_59 rfl ?_
  refine gm_getI (j := 21) O hM.1 rfl (by decide) q1749 dX8_numberNow_60 ?_
  refine g_if_ne (tgt := 73) O w dX8_numberNow_63 (by decide) (fun w => ?_) (fun w => ?_)
  · refine g_iconst (v := 0) O dX8_numberNow_73 (by decide) ?_
    exact gm_iret O hQ rfl w dX8_numberNow_74
  · refine g_aload_n O dX8_numberNow_66 rfl ?_
    refine gm_getI (j := 18) O hM.1 rfl (by decide) q1746 dX8_numberNow_67 ?_
    refine g_goto (tgt := 74) O dX8_numberNow_70 (by decide) ?_
    exact gm_iret O hQ rfl w dX8_numberNow_74
set_option maxHeartbeats 4000000 in
theorem vM_numberNow_54 {X : Cx} {z : Nat} {T L : Nat → Nat} {V0 : w_V} {P : w_P} {mb : Nat} (O : Okc X cX8_numberNow RX8 3 (some .int)) (hRm : cxR X = rM_numberNow) (hM : mOk (cxE X) T L P mb) (sg : MS) (post : Int32 → MS → Prop) (hQ : cxMQ X (va_Qi post (fun u t => wdW (cxE X) (mW z T L V0 P mb u) t.heap) (w_A (cxE X))) 0 0) (w : jM_numberNow_54 sg post) : gW X 0 0 z T L (up1 V0 mb sg) P 54 [some (.ref mb), none, none] [] := by
  unfold jM_numberNow_54 at w
  refine g_aload_n O dX8_numberNow_54 rfl ?_
  refine g_iconst (v := 2) O dX8_numberNow_55 (by decide) ?_
  refine gm_Vv (nA := 1) (As := [.int 2]) (rest := []) O hRm hM.1 (cM_wrong _ O.2.2.2.2.2.2.2.2 _ _ _ _ _ _ _ hM sg (2) _ w) (lw_V q1969 q1971 qs55 q134 q1972) rfl rfl (by decide +kernel) ⟨Nat.le_of_ble_eq_true rfl, Nat.le_of_ble_eq_true rfl⟩ rfl rfl rfl (Nat.le_of_ble_eq_true rfl) dX8_numberNow_56 (fun g2 w => ?_)
  exact vM_numberNow_59 O hRm hM g2  post hQ w
set_option maxHeartbeats 4000000 in
theorem cM_numberNow (l : Launch) (hfl : l.flags = flags0) (E : w_E) (z : Nat) (T L : Nat → Nat) (V0 : w_V) (P : w_P) (mb : Nat) (hM : mOk E T L P mb) (sg : MS) (x1 : Int32) (x2 : Int32) (post : Int32 → MS → Prop) (w : wM_numberNow sg x1 x2 post) : mMi l yX8_numberNow cX8_numberNow 3 (some .int) rM_numberNow E z T L V0 P mb [.ref mb, .int x1, .int x2] sg post := by
  refine g_start (S := Unit) hfl (by decide +kernel) rfl [some (.ref mb), some (.int x1), some (.int x2)] rfl (fun _ h => h) (Nat.le_of_ble_eq_true rfl) (fun X hl hRm hEe O hQ => ?_)
  subst hl
  subst hEe
  unfold wM_numberNow at w
  refine g_aload_n O dX8_numberNow_0 rfl ?_
  refine gm_getI (j := 21) O hM.1 rfl (by decide) q1749 dX8_numberNow_1 ?_
  refine g_if_eq (tgt := 9) O w dX8_numberNow_4 (by decide) (fun w => ?_) (fun w => ?_)
  · refine g_aload_n O dX8_numberNow_9 rfl ?_
    refine gm_getI (j := 17) O hM.1 rfl (by decide) q1745 dX8_numberNow_10 ?_
    refine g_iconst (v := 2) O dX8_numberNow_13 (by decide) ?_
    refine g_icmp_eq (tgt := 25) O w dX8_numberNow_14 (by decide) (fun w => ?_) (fun w => ?_)
    · refine g_aload_n O dX8_numberNow_25 rfl ?_
      refine gm_getI (j := 20) O hM.1 rfl (by decide) q1748 dX8_numberNow_26 ?_
      refine g_aload_n O dX8_numberNow_29 rfl ?_
      refine gm_getI (j := 19) O hM.1 rfl (by decide) q1747 dX8_numberNow_30 ?_
      refine g_isub O dX8_numberNow_33 ?_
      refine g_iconst (v := 4) O dX8_numberNow_34 (by decide) ?_
      refine g_icmp_gt (tgt := 54) O w dX8_numberNow_35 (by decide) (fun w => ?_) (fun w => ?_)
      · refine g_drop [1, 2] (lv' := [some (.ref mb), none, none]) rfl ?_
        exact vM_numberNow_54 O hRm hM sg  post hQ w
      · refine g_aload_n O dX8_numberNow_38 rfl ?_
        refine gm_getI (j := 18) O hM.1 rfl (by decide) q1746 dX8_numberNow_39 ?_
        refine g_iload_n O dX8_numberNow_42 rfl ?_
        refine g_icmp_lt (tgt := 54) O w dX8_numberNow_43 (by decide) (fun w => ?_) (fun w => ?_)
        · refine g_drop [1, 2] (lv' := [some (.ref mb), none, none]) rfl ?_
          exact vM_numberNow_54 O hRm hM sg  post hQ w
        · refine g_aload_n O dX8_numberNow_46 rfl ?_
          refine gm_getI (j := 18) O hM.1 rfl (by decide) q1746 dX8_numberNow_47 ?_
          refine g_iload_n O dX8_numberNow_50 rfl ?_
          refine g_icmp_le (tgt := 59) O w dX8_numberNow_51 (by decide) (fun w => ?_) (fun w => ?_)
          · refine g_drop [1, 2] (lv' := [some (.ref mb), none, none]) rfl ?_
            exact vM_numberNow_59 O hRm hM sg  post hQ w
          · refine g_drop [1, 2] (lv' := [some (.ref mb), none, none]) rfl ?_
            exact vM_numberNow_54 O hRm hM sg  post hQ w
    · refine g_aload_n O dX8_numberNow_17 rfl ?_
      refine g_iconst (v := 1) O dX8_numberNow_18 (by decide) ?_
      refine gm_Vv (nA := 1) (As := [.int 1]) (rest := []) O hRm hM.1 (cM_wrong _ O.2.2.2.2.2.2.2.2 _ _ _ _ _ _ _ hM sg (1) _ w) (lw_V q1969 q1971 qs55 q134 q1972) rfl rfl (by decide +kernel) ⟨Nat.le_of_ble_eq_true rfl, Nat.le_of_ble_eq_true rfl⟩ rfl rfl rfl (Nat.le_of_ble_eq_true rfl) dX8_numberNow_19 (fun g4 w => ?_)
      refine g_goto (tgt := 59) O dX8_numberNow_22 (by decide) ?_
      refine g_drop [1, 2] (lv' := [some (.ref mb), none, none]) rfl ?_
      exact vM_numberNow_59 O hRm hM g4  post hQ w
  · refine g_iconst (v := 0) O dX8_numberNow_7 (by decide) ?_
    exact gm_iret O hQ rfl w dX8_numberNow_8
-- readNumber
abbrev rM_readNumber : Room := { frames := 3, cells := 0, slots := 0, locals := 55 }
set_option maxHeartbeats 4000000 in
theorem cM_readNumber (l : Launch) (hfl : l.flags = flags0) (E : w_E) (z : Nat) (T L : Nat → Nat) (V0 : w_V) (P : w_P) (mb : Nat) (hM : mOk E T L P mb) (sg : MS) (x1 : Int32) (x2 : Int32) (post : Int32 → MS → Prop) (w : wM_readNumber sg x1 x2 post) : mMi l yX8_readNumber cX8_readNumber 4 (some .int) rM_readNumber E z T L V0 P mb [.ref mb, .int x1, .int x2] sg post := by
  refine g_start (S := Unit) hfl (by decide +kernel) rfl [some (.ref mb), some (.int x1), some (.int x2), none] rfl (fun _ h => h) (Nat.le_of_ble_eq_true rfl) (fun X hl hRm hEe O hQ => ?_)
  subst hl
  subst hEe
  unfold wM_readNumber at w
  refine g_aload_n O dX8_readNumber_0 rfl ?_
  refine g_iload_n O dX8_readNumber_1 rfl ?_
  refine g_iload_n O dX8_readNumber_2 rfl ?_
  refine gm_Vi (nA := 2) (As := [.int x1, .int x2]) (rest := []) O hRm hM.1 (cM_numberNow _ O.2.2.2.2.2.2.2.2 _ _ _ _ _ _ _ hM sg (x1) (x2) _ w) (lw_V q1977 q1979 qs57 q134 q1980) rfl rfl (by decide +kernel) ⟨Nat.le_of_ble_eq_true rfl, Nat.le_of_ble_eq_true rfl⟩ rfl rfl rfl (Nat.le_of_ble_eq_true rfl) dX8_readNumber_3 (fun r1 g2 w => ?_)
  refine g_istore_n O dX8_readNumber_6 (Nat.le_of_ble_eq_true rfl) rfl (lv' := [some (.ref mb), some (.int x1), some (.int x2), some (.int r1)]) rfl ?_
  refine g_aload_n O dX8_readNumber_7 rfl ?_
  refine gm_getI (j := 21) O hM.1 rfl (by decide) q1749 dX8_readNumber_8 ?_
  refine g_if_ne (tgt := 18) O w dX8_readNumber_11 (by decide) (fun w => ?_) (fun w => ?_)
  · refine g_iload_n O dX8_readNumber_18 rfl ?_
    exact gm_iret O hQ rfl w dX8_readNumber_19
  · refine g_aload_n O dX8_readNumber_14 rfl ?_
    refine gm_Vv (nA := 0) (As := []) (rest := []) O hRm hM.1 (cM_stepOn _ O.2.2.2.2.2.2.2.2 _ _ _ _ _ _ _ hM g2 _ w) (lw_V q1934 q1936 qs50 q134 q1937) rfl rfl (by decide +kernel) ⟨Nat.le_of_ble_eq_true rfl, Nat.le_of_ble_eq_true rfl⟩ rfl rfl rfl (Nat.le_of_ble_eq_true rfl) dX8_readNumber_15 (fun g4 w => ?_)
    refine g_iload_n O dX8_readNumber_18 rfl ?_
    exact gm_iret O hQ rfl w dX8_readNumber_19
-- townNow
abbrev rM_townNow : Room := { frames := 3, cells := 0, slots := 0, locals := 55 }
set_option maxHeartbeats 4000000 in
theorem vM_townNow_32 {X : Cx} {z : Nat} {T L : Nat → Nat} {V0 : w_V} {P : w_P} {mb : Nat} (O : Okc X cX8_townNow RX8 2 (some .int)) (hRm : cxR X = rM_townNow) (hM : mOk (cxE X) T L P mb) (sg : MS) (x1 : Int32) (post : Int32 → MS → Prop) (hQ : cxMQ X (va_Qi post (fun u t => wdW (cxE X) (mW z T L V0 P mb u) t.heap) (w_A (cxE X))) 0 0) (w : jM_townNow_32 sg x1 post) : gW X 0 0 z T L (up1 V0 mb sg) P 32 [some (.ref mb), some (.int x1)] [] := by
  unfold jM_townNow_32 at w
  refine g_aload_n O dX8_townNow_32 rfl ?_
  refine gm_getI (j := 21) O hM.1 rfl (by decide) q1749 dX8_townNow_33 ?_
  refine g_if_ne (tgt := 43) O w dX8_townNow_36 (by decide) (fun w => ?_) (fun w => ?_)
  · refine g_iconst (v := 0) O dX8_townNow_43 (by decide) ?_
    exact gm_iret O hQ rfl w dX8_townNow_44
  · refine g_iload_n O dX8_townNow_39 rfl ?_
    refine g_goto (tgt := 44) O dX8_townNow_40 (by decide) ?_
    exact gm_iret O hQ rfl w dX8_townNow_44
set_option maxHeartbeats 4000000 in
theorem cM_townNow (l : Launch) (hfl : l.flags = flags0) (E : w_E) (z : Nat) (T L : Nat → Nat) (V0 : w_V) (P : w_P) (mb : Nat) (hM : mOk E T L P mb) (sg : MS) (post : Int32 → MS → Prop) (w : wM_townNow sg post) : mMi l yX8_townNow cX8_townNow 2 (some .int) rM_townNow E z T L V0 P mb [.ref mb] sg post := by
  refine g_start (S := Unit) hfl (by decide +kernel) rfl [some (.ref mb), none] rfl (fun _ h => h) (Nat.le_of_ble_eq_true rfl) (fun X hl hRm hEe O hQ => ?_)
  subst hl
  subst hEe
  unfold wM_townNow at w
  refine g_aload_n O dX8_townNow_0 rfl ?_
  refine g_iconst (v := 0) O dX8_townNow_1 (by decide) ?_
  refine g_sipush (v := 9999) O dX8_townNow_2 (by decide) ?_
  refine gm_Vi (nA := 2) (As := [.int 0, .int 9999]) (rest := []) O hRm hM.1 (cM_numberNow _ O.2.2.2.2.2.2.2.2 _ _ _ _ _ _ _ hM sg (0) (9999) _ w) (lw_V q1977 q1979 qs57 q134 q1980) rfl rfl (by decide +kernel) ⟨Nat.le_of_ble_eq_true rfl, Nat.le_of_ble_eq_true rfl⟩ rfl rfl rfl (Nat.le_of_ble_eq_true rfl) dX8_townNow_5 (fun r1 g2 w => ?_)
  refine g_istore_n O dX8_townNow_8 (Nat.le_of_ble_eq_true rfl) rfl (lv' := [some (.ref mb), some (.int r1)]) rfl ?_
  refine g_aload_n O dX8_townNow_9 rfl ?_
  refine gm_getI (j := 21) O hM.1 rfl (by decide) q1749 dX8_townNow_10 ?_
  refine g_if_ne (tgt := 32) O w dX8_townNow_13 (by decide) (fun w => ?_) (fun w => ?_)
  · exact vM_townNow_32 O hRm hM g2  r1 post hQ w
  · refine g_iload_n O dX8_townNow_16 rfl ?_
    refine g_aload_n O dX8_townNow_17 rfl ?_
    refine gm_getA (j := 3) O hM.1 rfl (by decide) q1731 dX8_townNow_18 ?_
    refine g_bipush (v := 7) O dX8_townNow_21 (by decide) ?_
    refine gm_ald (j := 3) (len := 14) (nn := 7) O hM.1 rfl (by decide) (by decide) rfl dX8_townNow_23 ?_
    refine g_icmp_lt (tgt := 32) O w dX8_townNow_24 (by decide) (fun w => ?_) (fun w => ?_)
    · exact vM_townNow_32 O hRm hM g2  r1 post hQ w
    · refine g_aload_n O dX8_townNow_27 rfl ?_
      refine g_iconst (v := 3) O dX8_townNow_28 (by decide) ?_
      refine gm_Vv (nA := 1) (As := [.int 3]) (rest := []) O hRm hM.1 (cM_wrong _ O.2.2.2.2.2.2.2.2 _ _ _ _ _ _ _ hM g2 (3) _ w) (lw_V q1969 q1971 qs55 q134 q1972) rfl rfl (by decide +kernel) ⟨Nat.le_of_ble_eq_true rfl, Nat.le_of_ble_eq_true rfl⟩ rfl rfl rfl (Nat.le_of_ble_eq_true rfl) dX8_townNow_29 (fun g4 w => ?_)
      exact vM_townNow_32 O hRm hM g4  r1 post hQ w
-- readCase
abbrev rM_readCase : Room := { frames := 4, cells := 0, slots := 0, locals := 78 }
set_option maxHeartbeats 4000000 in
theorem vM_readCase_27 {X : Cx} {z : Nat} {T L : Nat → Nat} {V0 : w_V} {P : w_P} {mb : Nat} (O : Okc X cX8_readCase RX8 5 none) (hRm : cxR X = rM_readCase) (hM : mOk (cxE X) T L P mb) (x1 : Int32) (post : MS → Prop) (hQ : cxMQ X (va_Qv post (fun u t => wdW (cxE X) (mW z T L V0 P mb u) t.heap) (w_A (cxE X))) 0 0) (ke_48 : MS → Prop) (hke_48 : ∀ (sg : MS), ke_48 sg → gW X 0 0 z T L (up1 V0 mb sg) P 48 [some (.ref mb), some (.int x1), none, none, none] [])  : ∀ (n : Nat) (x2 : Int32) (sg : MS), lM_readCase_27 x1 post ke_48 n x2 sg → gW X 0 0 z T L (up1 V0 mb sg) P 27 [some (.ref mb), some (.int x1), some (.int x2), none, none] [] := by
  intro n
  induction n with
  | zero =>
    intro x2 sg w
    exact w.elim
  | succ n ih =>
    intro x2 sg w
    unfold lM_readCase_27 at w
    refine g_iload_n O dX8_readCase_27 rfl ?_
    refine g_bipush (v := 9) O dX8_readCase_28 (by decide) ?_
    refine g_icmp_ge (tgt := 48) O w dX8_readCase_30 (by decide) (fun w => ?_) (fun w => ?_)
    · refine g_drop [2] (lv' := [some (.ref mb), some (.int x1), none, none, none]) rfl ?_
      exact hke_48  (sg) w
    · refine g_aload_n O dX8_readCase_33 rfl ?_
      refine gm_getA (j := 10) O hM.1 rfl (by decide) q1738 dX8_readCase_34 ?_
      refine g_iload_n O dX8_readCase_37 rfl ?_
      refine g_iload_n O dX8_readCase_38 rfl ?_
      refine g_iadd O dX8_readCase_39 ?_
      refine g_iconst (v := (-1)) O dX8_readCase_40 (by decide) ?_
      obtain ⟨i3, hi4, e5, w⟩ := w
      refine gm_ast (j := 10) (len := 108) (nn := i3) O hM.1 rfl hi4 (by decide) e5 dX8_readCase_41 ?_
      refine g_iinc (v := (x2 + 1)) O dX8_readCase_42 rfl rfl rfl (lv' := [some (.ref mb), some (.int x1), some (.int (x2 + 1)), none, none]) rfl ?_
      refine g_goto (tgt := 27) O dX8_readCase_45 (by decide) ?_
      exact ih ((x2 + 1)) ((s2 sg 11 i3 (-1))) w
set_option maxHeartbeats 4000000 in
theorem vM_readCase_136 {X : Cx} {z : Nat} {T L : Nat → Nat} {V0 : w_V} {P : w_P} {mb : Nat} (O : Okc X cX8_readCase RX8 5 none) (hRm : cxR X = rM_readCase) (hM : mOk (cxE X) T L P mb) (sg : MS) (x1 : Int32) (x2 : Int32) (x3 : Int32) (post : MS → Prop) (hQ : cxMQ X (va_Qv post (fun u t => wdW (cxE X) (mW z T L V0 P mb u) t.heap) (w_A (cxE X))) 0 0) (kb : Int32 → MS → Prop) (hkb : ∀ (y2 : Int32) (sg : MS), kb y2 sg → gW X 0 0 z T L (up1 V0 mb sg) P 70 [some (.ref mb), some (.int x1), some (.int y2), none, none] []) (w : jM_readCase_136 sg x1 x2 x3 post kb) : gW X 0 0 z T L (up1 V0 mb sg) P 136 [some (.ref mb), some (.int x1), some (.int x2), some (.int x3), none] [] := by
  unfold jM_readCase_136 at w
  refine g_aload_n O dX8_readCase_136 rfl ?_
  refine g_iconst (v := 0) O dX8_readCase_137 (by decide) ?_
  refine g_bipush (v := 9) O dX8_readCase_138 (by decide) ?_
  refine gm_Vi (nA := 2) (As := [.int 0, .int 9]) (rest := []) O hRm hM.1 (cM_readNumber _ O.2.2.2.2.2.2.2.2 _ _ _ _ _ _ _ hM sg (0) (9) _ w) (lw_V q1973 q1975 qs56 q134 q1976) rfl rfl (by decide +kernel) ⟨Nat.le_of_ble_eq_true rfl, Nat.le_of_ble_eq_true rfl⟩ rfl rfl rfl (Nat.le_of_ble_eq_true rfl) dX8_readCase_140 (fun r9 g10 w => ?_)
  refine g_istore O dX8_readCase_143 (Nat.le_of_ble_eq_true rfl) rfl (lv' := [some (.ref mb), some (.int x1), some (.int x2), some (.int x3), some (.int r9)]) rfl ?_
  refine g_aload_n O dX8_readCase_145 rfl ?_
  refine gm_getI (j := 21) O hM.1 rfl (by decide) q1749 dX8_readCase_146 ?_
  refine g_if_eq (tgt := 155) O w dX8_readCase_149 (by decide) (fun w => ?_) (fun w => ?_)
  · refine g_aload_n O dX8_readCase_155 rfl ?_
    refine gm_getA (j := 10) O hM.1 rfl (by decide) q1738 dX8_readCase_156 ?_
    refine g_iload_n O dX8_readCase_159 rfl ?_
    refine g_iload_n O dX8_readCase_160 rfl ?_
    refine g_iadd O dX8_readCase_161 ?_
    refine g_iload O dX8_readCase_162 rfl ?_
    obtain ⟨i11, hi12, e13, w⟩ := w
    refine gm_ast (j := 10) (len := 108) (nn := i11) O hM.1 rfl hi12 (by decide) e13 dX8_readCase_164 ?_
    refine g_iinc (v := (x2 + 1)) O dX8_readCase_165 rfl rfl rfl (lv' := [some (.ref mb), some (.int x1), some (.int (x2 + 1)), some (.int x3), some (.int r9)]) rfl ?_
    refine g_goto (tgt := 70) O dX8_readCase_168 (by decide) ?_
    refine g_drop [3, 4] (lv' := [some (.ref mb), some (.int x1), some (.int (x2 + 1)), none, none]) rfl ?_
    exact hkb ((x2 + 1)) ((s2 g10 11 i11 r9)) w
  · refine g_goto (tgt := 70) O dX8_readCase_152 (by decide) ?_
    refine g_drop [3, 4] (lv' := [some (.ref mb), some (.int x1), some (.int x2), none, none]) rfl ?_
    exact hkb (x2) (g10) w
set_option maxHeartbeats 4000000 in
theorem vM_readCase_125 {X : Cx} {z : Nat} {T L : Nat → Nat} {V0 : w_V} {P : w_P} {mb : Nat} (O : Okc X cX8_readCase RX8 5 none) (hRm : cxR X = rM_readCase) (hM : mOk (cxE X) T L P mb) (sg : MS) (x1 : Int32) (x2 : Int32) (x3 : Int32) (post : MS → Prop) (hQ : cxMQ X (va_Qv post (fun u t => wdW (cxE X) (mW z T L V0 P mb u) t.heap) (w_A (cxE X))) 0 0) (kb : Int32 → MS → Prop) (hkb : ∀ (y2 : Int32) (sg : MS), kb y2 sg → gW X 0 0 z T L (up1 V0 mb sg) P 70 [some (.ref mb), some (.int x1), some (.int y2), none, none] []) (w : jM_readCase_125 sg x1 x2 x3 post kb) : gW X 0 0 z T L (up1 V0 mb sg) P 125 [some (.ref mb), some (.int x1), some (.int x2), some (.int x3), none] [] := by
  unfold jM_readCase_125 at w
  refine g_aload_n O dX8_readCase_125 rfl ?_
  refine gm_getI (j := 21) O hM.1 rfl (by decide) q1749 dX8_readCase_126 ?_
  refine g_if_ne (tgt := 136) O w dX8_readCase_129 (by decide) (fun w => ?_) (fun w => ?_)
  · exact vM_readCase_136 O hRm hM sg  x1 x2 x3 post hQ kb hkb w
  · refine g_aload_n O dX8_readCase_132 rfl ?_
    refine gm_Vv (nA := 0) (As := []) (rest := []) O hRm hM.1 (cM_stepOn _ O.2.2.2.2.2.2.2.2 _ _ _ _ _ _ _ hM sg _ w) (lw_V q1934 q1936 qs50 q134 q1937) rfl rfl (by decide +kernel) ⟨Nat.le_of_ble_eq_true rfl, Nat.le_of_ble_eq_true rfl⟩ rfl rfl rfl (Nat.le_of_ble_eq_true rfl) dX8_readCase_133 (fun g15 w => ?_)
    exact vM_readCase_136 O hRm hM g15  x1 x2 x3 post hQ kb hkb w
set_option maxHeartbeats 4000000 in
theorem vM_readCase_96 {X : Cx} {z : Nat} {T L : Nat → Nat} {V0 : w_V} {P : w_P} {mb : Nat} (O : Okc X cX8_readCase RX8 5 none) (hRm : cxR X = rM_readCase) (hM : mOk (cxE X) T L P mb) (sg : MS) (x1 : Int32) (x2 : Int32) (post : MS → Prop) (hQ : cxMQ X (va_Qv post (fun u t => wdW (cxE X) (mW z T L V0 P mb u) t.heap) (w_A (cxE X))) 0 0) (kb : Int32 → MS → Prop) (hkb : ∀ (y2 : Int32) (sg : MS), kb y2 sg → gW X 0 0 z T L (up1 V0 mb sg) P 70 [some (.ref mb), some (.int x1), some (.int y2), none, none] []) (w : jM_readCase_96 sg x1 x2 post kb) : gW X 0 0 z T L (up1 V0 mb sg) P 96 [some (.ref mb), some (.int x1), some (.int x2), none, none] [] := by
  unfold jM_readCase_96 at w
  refine g_aload_n O dX8_readCase_96 rfl ?_
  refine gm_Vi (nA := 0) (As := []) (rest := []) O hRm hM.1 (cM_townNow _ O.2.2.2.2.2.2.2.2 _ _ _ _ _ _ _ hM sg _ w) (lw_V q2028 q2030 qs69 q134 q2031) rfl rfl (by decide +kernel) ⟨Nat.le_of_ble_eq_true rfl, Nat.le_of_ble_eq_true rfl⟩ rfl rfl rfl (Nat.le_of_ble_eq_true rfl) dX8_readCase_97 (fun r7 g8 w => ?_)
  refine g_istore_n O dX8_readCase_100 (Nat.le_of_ble_eq_true rfl) rfl (lv' := [some (.ref mb), some (.int x1), some (.int x2), some (.int r7), none]) rfl ?_
  refine g_aload_n O dX8_readCase_101 rfl ?_
  refine gm_getI (j := 21) O hM.1 rfl (by decide) q1749 dX8_readCase_102 ?_
  refine g_if_ne (tgt := 125) O w dX8_readCase_105 (by decide) (fun w => ?_) (fun w => ?_)
  · exact vM_readCase_125 O hRm hM g8  x1 x2 r7 post hQ kb hkb w
  · refine g_aload_n O dX8_readCase_108 rfl ?_
    refine gm_getA (j := 10) O hM.1 rfl (by decide) q1738 dX8_readCase_109 ?_
    refine g_iload_n O dX8_readCase_112 rfl ?_
    refine g_iload_n O dX8_readCase_113 rfl ?_
    refine g_iadd O dX8_readCase_114 ?_
    obtain ⟨i16, hi17, e18, w⟩ := w
    refine gm_ald (j := 10) (len := 108) (nn := i16) O hM.1 rfl hi17 (by decide) e18 dX8_readCase_115 ?_
    refine g_iconst (v := (-1)) O dX8_readCase_116 (by decide) ?_
    refine g_icmp_eq (tgt := 125) O w dX8_readCase_117 (by decide) (fun w => ?_) (fun w => ?_)
    · exact vM_readCase_125 O hRm hM g8  x1 x2 r7 post hQ kb hkb w
    · refine g_aload_n O dX8_readCase_120 rfl ?_
      refine g_iconst (v := 4) O dX8_readCase_121 (by decide) ?_
      refine gm_Vv (nA := 1) (As := [.int 4]) (rest := []) O hRm hM.1 (cM_wrong _ O.2.2.2.2.2.2.2.2 _ _ _ _ _ _ _ hM g8 (4) _ w) (lw_V q1969 q1971 qs55 q134 q1972) rfl rfl (by decide +kernel) ⟨Nat.le_of_ble_eq_true rfl, Nat.le_of_ble_eq_true rfl⟩ rfl rfl rfl (Nat.le_of_ble_eq_true rfl) dX8_readCase_122 (fun g20 w => ?_)
      exact vM_readCase_125 O hRm hM g20  x1 x2 r7 post hQ kb hkb w
set_option maxHeartbeats 4000000 in
theorem vM_readCase_70 {X : Cx} {z : Nat} {T L : Nat → Nat} {V0 : w_V} {P : w_P} {mb : Nat} (O : Okc X cX8_readCase RX8 5 none) (hRm : cxR X = rM_readCase) (hM : mOk (cxE X) T L P mb) (x1 : Int32) (post : MS → Prop) (hQ : cxMQ X (va_Qv post (fun u t => wdW (cxE X) (mW z T L V0 P mb u) t.heap) (w_A (cxE X))) 0 0) (ke_171 : MS → Prop) (hke_171 : ∀ (sg : MS), ke_171 sg → gW X 0 0 z T L (up1 V0 mb sg) P 171 [some (.ref mb), none, none, none, none] [])  : ∀ (n : Nat) (x2 : Int32) (sg : MS), lM_readCase_70 x1 post ke_171 n x2 sg → gW X 0 0 z T L (up1 V0 mb sg) P 70 [some (.ref mb), some (.int x1), some (.int x2), none, none] [] := by
  intro n
  induction n with
  | zero =>
    intro x2 sg w
    exact w.elim
  | succ n ih =>
    intro x2 sg w
    unfold lM_readCase_70 at w
    refine g_aload_n O dX8_readCase_70 rfl ?_
    refine gm_getI (j := 21) O hM.1 rfl (by decide) q1749 dX8_readCase_71 ?_
    refine g_if_ne (tgt := 171) O w dX8_readCase_74 (by decide) (fun w => ?_) (fun w => ?_)
    · refine g_drop [1, 2] (lv' := [some (.ref mb), none, none, none, none]) rfl ?_
      exact hke_171  (sg) w
    · refine g_aload_n O dX8_readCase_77 rfl ?_
      refine gm_getI (j := 17) O hM.1 rfl (by decide) q1745 dX8_readCase_78 ?_
      refine g_iconst (v := 2) O dX8_readCase_81 (by decide) ?_
      refine g_icmp_ne (tgt := 171) O w dX8_readCase_82 (by decide) (fun w => ?_) (fun w => ?_)
      · refine g_drop [1, 2] (lv' := [some (.ref mb), none, none, none, none]) rfl ?_
        exact hke_171  (sg) w
      · refine g_iload_n O dX8_readCase_85 rfl ?_
        refine g_bipush (v := 6) O dX8_readCase_86 (by decide) ?_
        refine g_icmp_ne (tgt := 96) O w dX8_readCase_88 (by decide) (fun w => ?_) (fun w => ?_)
        · exact vM_readCase_96 O hRm hM sg  x1 x2 post hQ (lM_readCase_70 x1 post ke_171 n) ih w
        · refine g_aload_n O dX8_readCase_91 rfl ?_
          refine g_iconst (v := 2) O dX8_readCase_92 (by decide) ?_
          refine gm_Vv (nA := 1) (As := [.int 2]) (rest := []) O hRm hM.1 (cM_wrong _ O.2.2.2.2.2.2.2.2 _ _ _ _ _ _ _ hM sg (2) _ w) (lw_V q1969 q1971 qs55 q134 q1972) rfl rfl (by decide +kernel) ⟨Nat.le_of_ble_eq_true rfl, Nat.le_of_ble_eq_true rfl⟩ rfl rfl rfl (Nat.le_of_ble_eq_true rfl) dX8_readCase_93 (fun g22 w => ?_)
          exact vM_readCase_96 O hRm hM g22  x1 x2 post hQ (lM_readCase_70 x1 post ke_171 n) ih w
set_option maxHeartbeats 4000000 in
theorem vM_readCase_171 {X : Cx} {z : Nat} {T L : Nat → Nat} {V0 : w_V} {P : w_P} {mb : Nat} (O : Okc X cX8_readCase RX8 5 none) (hRm : cxR X = rM_readCase) (hM : mOk (cxE X) T L P mb) (sg : MS) (post : MS → Prop) (hQ : cxMQ X (va_Qv post (fun u t => wdW (cxE X) (mW z T L V0 P mb u) t.heap) (w_A (cxE X))) 0 0) (w : jM_readCase_171 sg post) : gW X 0 0 z T L (up1 V0 mb sg) P 171 [some (.ref mb), none, none, none, none] [] := by
  unfold jM_readCase_171 at w
  refine g_aload_n O dX8_readCase_171 rfl ?_
  refine gm_getA (j := 3) O hM.1 rfl (by decide) q1731 dX8_readCase_172 ?_
  refine g_bipush (v := 12) O dX8_readCase_175 (by decide) ?_
  refine g_dup2 O dX8_readCase_177 rfl rfl ?_
  refine gm_ald (j := 3) (len := 14) (nn := 12) O hM.1 rfl (by decide) (by decide) rfl dX8_readCase_178 ?_
  refine g_iconst (v := 1) O dX8_readCase_179 (by decide) ?_
  refine g_iadd O dX8_readCase_180 ?_
  refine gm_ast (j := 3) (len := 14) (nn := 12) O hM.1 rfl (by decide) (by decide) rfl dX8_readCase_181 ?_
  exact gm_vret O hQ w dX8_readCase_182
set_option maxHeartbeats 4000000 in
theorem cM_readCase (l : Launch) (hfl : l.flags = flags0) (E : w_E) (z : Nat) (T L : Nat → Nat) (V0 : w_V) (P : w_P) (mb : Nat) (hM : mOk E T L P mb) (sg : MS) (post : MS → Prop) (w : wM_readCase sg post) : mMv l yX8_readCase cX8_readCase 5 none rM_readCase E z T L V0 P mb [.ref mb] sg post := by
  refine g_start (S := Unit) hfl (by decide +kernel) rfl [some (.ref mb), none, none, none, none] rfl (fun _ h => h) (Nat.le_of_ble_eq_true rfl) (fun X hl hRm hEe O hQ => ?_)
  subst hl
  subst hEe
  unfold wM_readCase at w
  refine g_aload_n O dX8_readCase_0 rfl ?_
  refine g_iconst (v := 5) O dX8_readCase_1 (by decide) ?_
  refine g_bipush (v := 6) O dX8_readCase_2 (by decide) ?_
  refine gm_Vi (nA := 2) (As := [.int 5, .int 6]) (rest := []) O hRm hM.1 (cM_another _ O.2.2.2.2.2.2.2.2 _ _ _ _ _ _ _ hM sg (5) (6) _ w) (lw_V q2024 q2026 qs68 q134 q2027) rfl rfl (by decide +kernel) ⟨Nat.le_of_ble_eq_true rfl, Nat.le_of_ble_eq_true rfl⟩ rfl rfl rfl (Nat.le_of_ble_eq_true rfl) dX8_readCase_4 (fun r1 g2 w => ?_)
  refine g_if_ne (tgt := 11) O w dX8_readCase_7 (by decide) (fun w => ?_) (fun w => ?_)
  · refine g_bipush (v := 9) O dX8_readCase_11 (by decide) ?_
    refine g_bipush (v := 6) O dX8_readCase_13 (by decide) ?_
    refine g_aload_n O dX8_readCase_15 rfl ?_
    refine gm_getA (j := 3) O hM.1 rfl (by decide) q1731 dX8_readCase_16 ?_
    refine g_bipush (v := 12) O dX8_readCase_19 (by decide) ?_
    refine gm_ald (j := 3) (len := 14) (nn := 12) O hM.1 rfl (by decide) (by decide) rfl dX8_readCase_21 ?_
    refine g_iadd O dX8_readCase_22 ?_
    refine g_imul O dX8_readCase_23 ?_
    refine g_istore_n O dX8_readCase_24 (Nat.le_of_ble_eq_true rfl) rfl (lv' := [some (.ref mb), some (.int (9 * (6 + (g2 4 12)))), none, none, none]) rfl ?_
    refine g_iconst (v := 0) O dX8_readCase_25 (by decide) ?_
    refine g_istore_n O dX8_readCase_26 (Nat.le_of_ble_eq_true rfl) rfl (lv' := [some (.ref mb), some (.int (9 * (6 + (g2 4 12)))), some (.int 0), none, none]) rfl ?_
    obtain ⟨n31, w⟩ := w
    refine vM_readCase_27 O hRm hM (9 * (6 + (g2 4 12))) post hQ _ (fun g6 w => ?_) n31 0 g2 w
    refine g_iconst (v := 0) O dX8_readCase_48 (by decide) ?_
    refine g_istore_n O dX8_readCase_49 (Nat.le_of_ble_eq_true rfl) rfl (lv' := [some (.ref mb), some (.int (9 * (6 + (g2 4 12)))), some (.int 0), none, none]) rfl ?_
    refine g_aload_n O dX8_readCase_50 rfl ?_
    refine gm_getI (j := 21) O hM.1 rfl (by decide) q1749 dX8_readCase_51 ?_
    refine g_if_ne (tgt := 70) O w dX8_readCase_54 (by decide) (fun w => ?_) (fun w => ?_)
    · obtain ⟨n24, w⟩ := w
      refine vM_readCase_70 O hRm hM (9 * (6 + (g2 4 12))) post hQ _ (fun g23 w => ?_) n24 0 g6 w
      exact vM_readCase_171 O hRm hM g23  post hQ w
    · refine g_aload_n O dX8_readCase_57 rfl ?_
      refine gm_getI (j := 17) O hM.1 rfl (by decide) q1745 dX8_readCase_58 ?_
      refine g_iconst (v := 2) O dX8_readCase_61 (by decide) ?_
      refine g_icmp_eq (tgt := 70) O w dX8_readCase_62 (by decide) (fun w => ?_) (fun w => ?_)
      · obtain ⟨n26, w⟩ := w
        refine vM_readCase_70 O hRm hM (9 * (6 + (g2 4 12))) post hQ _ (fun g25 w => ?_) n26 0 g6 w
        exact vM_readCase_171 O hRm hM g25  post hQ w
      · refine g_aload_n O dX8_readCase_65 rfl ?_
        refine g_iconst (v := 1) O dX8_readCase_66 (by decide) ?_
        refine gm_Vv (nA := 1) (As := [.int 1]) (rest := []) O hRm hM.1 (cM_wrong _ O.2.2.2.2.2.2.2.2 _ _ _ _ _ _ _ hM g6 (1) _ w) (lw_V q1969 q1971 qs55 q134 q1972) rfl rfl (by decide +kernel) ⟨Nat.le_of_ble_eq_true rfl, Nat.le_of_ble_eq_true rfl⟩ rfl rfl rfl (Nat.le_of_ble_eq_true rfl) dX8_readCase_67 (fun g28 w => ?_)
        obtain ⟨n30, w⟩ := w
        refine vM_readCase_70 O hRm hM (9 * (6 + (g2 4 12))) post hQ _ (fun g29 w => ?_) n30 0 g28 w
        exact vM_readCase_171 O hRm hM g29  post hQ w
  · exact gm_vret O hQ w dX8_readCase_10
-- lay
abbrev rM_lay : Room := { frames := 1, cells := 0, slots := 0, locals := 12 }
set_option maxHeartbeats 4000000 in
theorem cM_lay (l : Launch) (hfl : l.flags = flags0) (E : w_E) (z : Nat) (T L : Nat → Nat) (V0 : w_V) (P : w_P) (mb : Nat) (hM : mOk E T L P mb) (sg : MS) (x1 : Int32) (post : MS → Prop) (w : wM_lay sg x1 post) : mMv l yX8_lay cX8_lay 2 none rM_lay E z T L V0 P mb [.ref mb, .int x1] sg post := by
  refine g_start (S := Unit) hfl (by decide +kernel) rfl [some (.ref mb), some (.int x1)] rfl (fun _ h => h) (Nat.le_of_ble_eq_true rfl) (fun X hl hRm hEe O hQ => ?_)
  subst hl
  subst hEe
  unfold wM_lay at w
  refine g_aload_n O dX8_lay_0 rfl ?_
  refine gm_getI (j := 21) O hM.1 rfl (by decide) q1749 dX8_lay_1 ?_
  refine g_if_eq (tgt := 8) O w dX8_lay_4 (by decide) (fun w => ?_) (fun w => ?_)
  · refine g_aload_n O dX8_lay_8 rfl ?_
    refine gm_getA (j := 11) O hM.1 rfl (by decide) q1739 dX8_lay_9 ?_
    refine g_sipush (v := 600) O dX8_lay_12 (by decide) ?_
    refine g_aload_n O dX8_lay_15 rfl ?_
    refine gm_getA (j := 3) O hM.1 rfl (by decide) q1731 dX8_lay_16 ?_
    refine g_bipush (v := 13) O dX8_lay_19 (by decide) ?_
    refine gm_ald (j := 3) (len := 14) (nn := 13) O hM.1 rfl (by decide) (by decide) rfl dX8_lay_21 ?_
    refine g_iadd O dX8_lay_22 ?_
    refine g_iload_n O dX8_lay_23 rfl ?_
    obtain ⟨i1, hi2, e3, w⟩ := w
    refine gm_ast (j := 11) (len := 1200) (nn := i1) O hM.1 rfl hi2 (by decide) e3 dX8_lay_24 ?_
    refine g_aload_n O dX8_lay_25 rfl ?_
    refine gm_getA (j := 3) O hM.1 rfl (by decide) q1731 dX8_lay_26 ?_
    refine g_bipush (v := 13) O dX8_lay_29 (by decide) ?_
    refine g_dup2 O dX8_lay_31 rfl rfl ?_
    refine gm_ald (j := 3) (len := 14) (nn := 13) O hM.1 rfl (by decide) (by decide) rfl dX8_lay_32 ?_
    refine g_iconst (v := 1) O dX8_lay_33 (by decide) ?_
    refine g_iadd O dX8_lay_34 ?_
    refine gm_ast (j := 3) (len := 14) (nn := 13) O hM.1 rfl (by decide) (by decide) rfl dX8_lay_35 ?_
    exact gm_vret O hQ w dX8_lay_36
  · exact gm_vret O hQ w dX8_lay_7
-- which
abbrev rM_which : Room := { frames := 10, cells := 0, slots := 0, locals := 343 }
set_option maxHeartbeats 4000000 in
theorem vM_which_2 {X : Cx} {z : Nat} {T L : Nat → Nat} {V0 : w_V} {P : w_P} {mb : Nat} (O : Okc X cX8_which RX8 3 (some .int)) (hRm : cxR X = rM_which) (hM : mOk (cxE X) T L P mb) (sg : MS) (tx1 : List (List Nat)) (p1 : Nat) (hs1 : strs (cxE X) T L P p1 tx1) (post : Int32 → Prop) (hQ : cxMQ X (va_Qi (fun x (_ : Unit) => post x) (fun (_ : Unit) t => wdW (cxE X) (mW z T L V0 P mb sg) t.heap) (w_A (cxE X))) 0 0)  : ∀ (n : Nat) (x2 : Int32), lM_which_2 sg tx1 post n x2 → gW X 0 0 z T L (up1 V0 mb sg) P 2 [some (.ref mb), some (.ref p1), some (.int x2)] [] := by
  intro n
  induction n with
  | zero =>
    intro x2 w
    exact w.elim
  | succ n ih =>
    intro x2 w
    unfold lM_which_2 at w
    refine g_iload_n O dX8_which_2 rfl ?_
    refine g_aload_n O dX8_which_3 rfl ?_
    refine g_alenS O hs1 dX8_which_4 ?_
    refine g_icmp_ge (tgt := 26) O w dX8_which_5 (by decide) (fun w => ?_) (fun w => ?_)
    · refine g_iconst (v := (-1)) O dX8_which_26 (by decide) ?_
      exact gm_iret0 O hQ rfl w dX8_which_27
    · refine g_aload_n O dX8_which_8 rfl ?_
      refine g_aload_n O dX8_which_9 rfl ?_
      refine g_iload_n O dX8_which_10 rfl ?_
      obtain ⟨i1, hi2, e3, w⟩ := w
      obtain ⟨p4, hb5, hs6⟩ := hs1.2.2.2 i1 hi2
      refine g_aaldS O hs1 hi2 e3 hb5 dX8_which_11 ?_
      refine gm_Vi0 (nA := 1) (As := [.ref p4]) (rest := []) O hRm hM.1 (cM_is _ O.2.2.2.2.2.2.2.2 _ _ _ _ _ _ _ hM sg (tx1.getD i1 []) p4 hs6 _ w) (lw_V q1958 q1960 qs53 q134 q1961) rfl rfl (by decide +kernel) ⟨Nat.le_of_ble_eq_true rfl, Nat.le_of_ble_eq_true rfl⟩ rfl rfl rfl (Nat.le_of_ble_eq_true rfl) dX8_which_12 (fun r7 w => ?_)
      refine g_if_eq (tgt := 20) O w dX8_which_15 (by decide) (fun w => ?_) (fun w => ?_)
      · refine g_iinc (v := (x2 + 1)) O dX8_which_20 rfl rfl rfl (lv' := [some (.ref mb), some (.ref p1), some (.int (x2 + 1))]) rfl ?_
        refine g_goto (tgt := 2) O dX8_which_23 (by decide) ?_
        exact ih ((x2 + 1)) w
      · refine g_iload_n O dX8_which_18 rfl ?_
        exact gm_iret0 O hQ rfl w dX8_which_19
set_option maxHeartbeats 4000000 in
theorem cM_which (l : Launch) (hfl : l.flags = flags0) (E : w_E) (z : Nat) (T L : Nat → Nat) (V0 : w_V) (P : w_P) (mb : Nat) (hM : mOk E T L P mb) (sg : MS) (tx1 : List (List Nat)) (p1 : Nat) (hs1 : strs E T L P p1 tx1) (post : Int32 → Prop) (w : wM_which sg tx1 post) : mMi0 l yX8_which cX8_which 3 (some .int) rM_which E z T L V0 P mb [.ref mb, .ref p1] sg post := by
  refine g_start (S := Unit) hfl (by decide +kernel) rfl [some (.ref mb), some (.ref p1), none] rfl (fun _ h => h) (Nat.le_of_ble_eq_true rfl) (fun X hl hRm hEe O hQ => ?_)
  subst hl
  subst hEe
  unfold wM_which at w
  refine g_iconst (v := 0) O dX8_which_0 (by decide) ?_
  refine g_istore_n O dX8_which_1 (Nat.le_of_ble_eq_true rfl) rfl (lv' := [some (.ref mb), some (.ref p1), some (.int 0)]) rfl ?_
  obtain ⟨n9, w⟩ := w
  exact vM_which_2 O hRm hM sg tx1 p1 hs1 post hQ n9 0 w
-- couple
abbrev rM_couple : Room := { frames := 1, cells := 0, slots := 0, locals := 12 }
set_option maxHeartbeats 4000000 in
theorem cM_couple (l : Launch) (hfl : l.flags = flags0) (E : w_E) (z : Nat) (T L : Nat → Nat) (V0 : w_V) (P : w_P) (mb : Nat) (hM : mOk E T L P mb) (sg : MS) (x0 : Int32) (x1 : Int32) (post : Int32 → Prop) (w : wM_couple sg x0 x1 post) : mMi0 l yX8_couple cX8_couple 2 (some .int) rM_couple E z T L V0 P mb [.int x0, .int x1] sg post := by
  refine g_start (S := Unit) hfl (by decide +kernel) rfl [some (.int x0), some (.int x1)] rfl (fun _ h => h) (Nat.le_of_ble_eq_true rfl) (fun X hl hRm hEe O hQ => ?_)
  subst hl
  subst hEe
  unfold wM_couple at w
  refine g_bipush (v := 9) O dX8_couple_0 (by decide) ?_
  refine g_iload_n O dX8_couple_2 rfl ?_
  refine g_imul O dX8_couple_3 ?_
  refine g_iload_n O dX8_couple_4 rfl ?_
  refine g_iadd O dX8_couple_5 ?_
  exact gm_iret0 O hQ rfl w dX8_couple_6
-- readJudge
abbrev rM_readJudge : Room := { frames := 4, cells := 0, slots := 0, locals := 78 }
set_option maxHeartbeats 4000000 in
theorem vM_readJudge_153 {X : Cx} {z : Nat} {T L : Nat → Nat} {V0 : w_V} {P : w_P} {mb : Nat} (O : Okc X cX8_readJudge RX8 5 none) (hRm : cxR X = rM_readJudge) (hM : mOk (cxE X) T L P mb) (sg : MS) (x2 : Int32) (x3 : Int32) (x4 : Int32) (post : MS → Prop) (hQ : cxMQ X (va_Qv post (fun u t => wdW (cxE X) (mW z T L V0 P mb u) t.heap) (w_A (cxE X))) 0 0) (kb : Int32 → MS → Prop) (hkb : ∀ (y3 : Int32) (sg : MS), kb y3 sg → gW X 0 0 z T L (up1 V0 mb sg) P 75 [some (.ref mb), none, some (.int x2), some (.int y3), none] []) (w : jM_readJudge_153 sg x2 x3 x4 post kb) : gW X 0 0 z T L (up1 V0 mb sg) P 153 [some (.ref mb), none, some (.int x2), some (.int x3), some (.int x4)] [] := by
  unfold jM_readJudge_153 at w
  refine g_aload_n O dX8_readJudge_153 rfl ?_
  refine gm_getI (j := 21) O hM.1 rfl (by decide) q1749 dX8_readJudge_154 ?_
  refine g_if_eq (tgt := 163) O w dX8_readJudge_157 (by decide) (fun w => ?_) (fun w => ?_)
  · refine g_aload_n O dX8_readJudge_163 rfl ?_
    refine gm_getA (j := 9) O hM.1 rfl (by decide) q1737 dX8_readJudge_164 ?_
    refine g_bipush (v := 7) O dX8_readJudge_167 (by decide) ?_
    refine g_iload_n O dX8_readJudge_169 rfl ?_
    refine g_imul O dX8_readJudge_170 ?_
    refine g_iload_n O dX8_readJudge_171 rfl ?_
    refine g_iadd O dX8_readJudge_172 ?_
    refine g_iload O dX8_readJudge_173 rfl ?_
    obtain ⟨i18, hi19, e20, w⟩ := w
    refine gm_ast (j := 9) (len := 70) (nn := i18) O hM.1 rfl hi19 (by decide) e20 dX8_readJudge_175 ?_
    refine g_iinc (v := (x3 + 1)) O dX8_readJudge_176 rfl rfl rfl (lv' := [some (.ref mb), none, some (.int x2), some (.int (x3 + 1)), some (.int x4)]) rfl ?_
    refine g_aload_n O dX8_readJudge_179 rfl ?_
    refine gm_Vv (nA := 0) (As := []) (rest := []) O hRm hM.1 (cM_stepOn _ O.2.2.2.2.2.2.2.2 _ _ _ _ _ _ _ hM (s2 sg 10 i18 x4) _ w) (lw_V q1934 q1936 qs50 q134 q1937) rfl rfl (by decide +kernel) ⟨Nat.le_of_ble_eq_true rfl, Nat.le_of_ble_eq_true rfl⟩ rfl rfl rfl (Nat.le_of_ble_eq_true rfl) dX8_readJudge_180 (fun g22 w => ?_)
    refine g_goto (tgt := 75) O dX8_readJudge_183 (by decide) ?_
    refine g_drop [4] (lv' := [some (.ref mb), none, some (.int x2), some (.int (x3 + 1)), none]) rfl ?_
    exact hkb ((x3 + 1)) (g22) w
  · refine g_goto (tgt := 75) O dX8_readJudge_160 (by decide) ?_
    refine g_drop [4] (lv' := [some (.ref mb), none, some (.int x2), some (.int x3), none]) rfl ?_
    exact hkb (x3) (sg) w
set_option maxHeartbeats 4000000 in
theorem vM_readJudge_101 {X : Cx} {z : Nat} {T L : Nat → Nat} {V0 : w_V} {P : w_P} {mb : Nat} (O : Okc X cX8_readJudge RX8 5 none) (hRm : cxR X = rM_readJudge) (hM : mOk (cxE X) T L P mb) (sg : MS) (x2 : Int32) (x3 : Int32) (post : MS → Prop) (hQ : cxMQ X (va_Qv post (fun u t => wdW (cxE X) (mW z T L V0 P mb u) t.heap) (w_A (cxE X))) 0 0) (kb : Int32 → MS → Prop) (hkb : ∀ (y3 : Int32) (sg : MS), kb y3 sg → gW X 0 0 z T L (up1 V0 mb sg) P 75 [some (.ref mb), none, some (.int x2), some (.int y3), none] []) (w : jM_readJudge_101 sg x2 x3 post kb) : gW X 0 0 z T L (up1 V0 mb sg) P 101 [some (.ref mb), none, some (.int x2), some (.int x3), none] [] := by
  unfold jM_readJudge_101 at w
  refine g_aload_n O dX8_readJudge_101 rfl ?_
  refine gm_Vi (nA := 0) (As := []) (rest := []) O hRm hM.1 (cM_townNow _ O.2.2.2.2.2.2.2.2 _ _ _ _ _ _ _ hM sg _ w) (lw_V q2028 q2030 qs69 q134 q2031) rfl rfl (by decide +kernel) ⟨Nat.le_of_ble_eq_true rfl, Nat.le_of_ble_eq_true rfl⟩ rfl rfl rfl (Nat.le_of_ble_eq_true rfl) dX8_readJudge_102 (fun r16 g17 w => ?_)
  refine g_istore O dX8_readJudge_105 (Nat.le_of_ble_eq_true rfl) rfl (lv' := [some (.ref mb), none, some (.int x2), some (.int x3), some (.int r16)]) rfl ?_
  refine g_aload_n O dX8_readJudge_107 rfl ?_
  refine gm_getI (j := 21) O hM.1 rfl (by decide) q1749 dX8_readJudge_108 ?_
  refine g_if_ne (tgt := 153) O w dX8_readJudge_111 (by decide) (fun w => ?_) (fun w => ?_)
  · exact vM_readJudge_153 O hRm hM g17  x2 x3 r16 post hQ kb hkb w
  · refine g_iload_n O dX8_readJudge_114 rfl ?_
    refine g_if_le (tgt := 153) O w dX8_readJudge_115 (by decide) (fun w => ?_) (fun w => ?_)
    · exact vM_readJudge_153 O hRm hM g17  x2 x3 r16 post hQ kb hkb w
    · refine g_aload_n O dX8_readJudge_118 rfl ?_
      refine gm_getA (j := 4) O hM.1 rfl (by decide) q1732 dX8_readJudge_119 ?_
      refine g_bipush (v := 81) O dX8_readJudge_122 (by decide) ?_
      refine g_aload_n O dX8_readJudge_124 rfl ?_
      refine gm_getA (j := 9) O hM.1 rfl (by decide) q1737 dX8_readJudge_125 ?_
      refine g_bipush (v := 7) O dX8_readJudge_128 (by decide) ?_
      refine g_iload_n O dX8_readJudge_130 rfl ?_
      refine g_imul O dX8_readJudge_131 ?_
      refine g_iload_n O dX8_readJudge_132 rfl ?_
      refine g_iadd O dX8_readJudge_133 ?_
      refine g_iconst (v := 1) O dX8_readJudge_134 (by decide) ?_
      refine g_isub O dX8_readJudge_135 ?_
      obtain ⟨i23, hi24, e25, w⟩ := w
      refine gm_ald (j := 9) (len := 70) (nn := i23) O hM.1 rfl hi24 (by decide) e25 dX8_readJudge_136 ?_
      refine g_iload O dX8_readJudge_137 rfl ?_
      refine gm_Si0 (nA := 2) (As := [.int (g17 10 i23), .int r16]) (rest := [.int 81, .ref (mb + 4)]) O hRm (cM_couple _ O.2.2.2.2.2.2.2.2 _ _ _ _ _ _ _ hM g17 ((g17 10 i23)) (r16) _ w) (lw_S q2032 q2033 q134 q2034) rfl rfl (by decide +kernel) ⟨Nat.le_of_ble_eq_true rfl, Nat.le_of_ble_eq_true rfl⟩ rfl rfl rfl (Nat.le_of_ble_eq_true rfl) dX8_readJudge_139 (fun r26 w => ?_)
      refine g_iadd O dX8_readJudge_142 ?_
      obtain ⟨i28, hi29, e30, w⟩ := w
      refine gm_ald (j := 4) (len := 162) (nn := i28) O hM.1 rfl hi29 (by decide) e30 dX8_readJudge_143 ?_
      refine g_if_ne (tgt := 153) O w dX8_readJudge_144 (by decide) (fun w => ?_) (fun w => ?_)
      · exact vM_readJudge_153 O hRm hM g17  x2 x3 r16 post hQ kb hkb w
      · refine g_aload_n O dX8_readJudge_147 rfl ?_
        refine g_bipush (v := 6) O dX8_readJudge_148 (by decide) ?_
        refine gm_Vv (nA := 1) (As := [.int 6]) (rest := []) O hRm hM.1 (cM_wrong _ O.2.2.2.2.2.2.2.2 _ _ _ _ _ _ _ hM g17 (6) _ w) (lw_V q1969 q1971 qs55 q134 q1972) rfl rfl (by decide +kernel) ⟨Nat.le_of_ble_eq_true rfl, Nat.le_of_ble_eq_true rfl⟩ rfl rfl rfl (Nat.le_of_ble_eq_true rfl) dX8_readJudge_150 (fun g32 w => ?_)
        exact vM_readJudge_153 O hRm hM g32  x2 x3 r16 post hQ kb hkb w
set_option maxHeartbeats 4000000 in
theorem vM_readJudge_75 {X : Cx} {z : Nat} {T L : Nat → Nat} {V0 : w_V} {P : w_P} {mb : Nat} (O : Okc X cX8_readJudge RX8 5 none) (hRm : cxR X = rM_readJudge) (hM : mOk (cxE X) T L P mb) (x2 : Int32) (post : MS → Prop) (hQ : cxMQ X (va_Qv post (fun u t => wdW (cxE X) (mW z T L V0 P mb u) t.heap) (w_A (cxE X))) 0 0) (ke_186 : Int32 → MS → Prop) (hke_186 : ∀ (y3 : Int32) (sg : MS), ke_186 y3 sg → gW X 0 0 z T L (up1 V0 mb sg) P 186 [some (.ref mb), none, some (.int x2), some (.int y3), none] [])  : ∀ (n : Nat) (x3 : Int32) (sg : MS), lM_readJudge_75 x2 post ke_186 n x3 sg → gW X 0 0 z T L (up1 V0 mb sg) P 75 [some (.ref mb), none, some (.int x2), some (.int x3), none] [] := by
  intro n
  induction n with
  | zero =>
    intro x3 sg w
    exact w.elim
  | succ n ih =>
    intro x3 sg w
    unfold lM_readJudge_75 at w
    refine g_aload_n O dX8_readJudge_75 rfl ?_
    refine gm_getI (j := 21) O hM.1 rfl (by decide) q1749 dX8_readJudge_76 ?_
    refine g_if_ne (tgt := 186) O w dX8_readJudge_79 (by decide) (fun w => ?_) (fun w => ?_)
    · exact hke_186 (x3) (sg) w
    · refine g_aload_n O dX8_readJudge_82 rfl ?_
      refine gm_getI (j := 17) O hM.1 rfl (by decide) q1745 dX8_readJudge_83 ?_
      refine g_iconst (v := 2) O dX8_readJudge_86 (by decide) ?_
      refine g_icmp_ne (tgt := 186) O w dX8_readJudge_87 (by decide) (fun w => ?_) (fun w => ?_)
      · exact hke_186 (x3) (sg) w
      · refine g_iload_n O dX8_readJudge_90 rfl ?_
        refine g_bipush (v := 7) O dX8_readJudge_91 (by decide) ?_
        refine g_icmp_ne (tgt := 101) O w dX8_readJudge_93 (by decide) (fun w => ?_) (fun w => ?_)
        · exact vM_readJudge_101 O hRm hM sg  x2 x3 post hQ (lM_readJudge_75 x2 post ke_186 n) ih w
        · refine g_aload_n O dX8_readJudge_96 rfl ?_
          refine g_iconst (v := 2) O dX8_readJudge_97 (by decide) ?_
          refine gm_Vv (nA := 1) (As := [.int 2]) (rest := []) O hRm hM.1 (cM_wrong _ O.2.2.2.2.2.2.2.2 _ _ _ _ _ _ _ hM sg (2) _ w) (lw_V q1969 q1971 qs55 q134 q1972) rfl rfl (by decide +kernel) ⟨Nat.le_of_ble_eq_true rfl, Nat.le_of_ble_eq_true rfl⟩ rfl rfl rfl (Nat.le_of_ble_eq_true rfl) dX8_readJudge_98 (fun g34 w => ?_)
          exact vM_readJudge_101 O hRm hM g34  x2 x3 post hQ (lM_readJudge_75 x2 post ke_186 n) ih w
set_option maxHeartbeats 4000000 in
theorem vM_readJudge_186 {X : Cx} {z : Nat} {T L : Nat → Nat} {V0 : w_V} {P : w_P} {mb : Nat} (O : Okc X cX8_readJudge RX8 5 none) (hRm : cxR X = rM_readJudge) (hM : mOk (cxE X) T L P mb) (sg : MS) (x2 : Int32) (x3 : Int32) (post : MS → Prop) (hQ : cxMQ X (va_Qv post (fun u t => wdW (cxE X) (mW z T L V0 P mb u) t.heap) (w_A (cxE X))) 0 0) (w : jM_readJudge_186 sg x2 x3 post) : gW X 0 0 z T L (up1 V0 mb sg) P 186 [some (.ref mb), none, some (.int x2), some (.int x3), none] [] := by
  unfold jM_readJudge_186 at w
  refine g_aload_n O dX8_readJudge_186 rfl ?_
  refine gm_getA (j := 8) O hM.1 rfl (by decide) q1736 dX8_readJudge_187 ?_
  refine g_iload_n O dX8_readJudge_190 rfl ?_
  refine g_iload_n O dX8_readJudge_191 rfl ?_
  obtain ⟨i37, hi38, e39, w⟩ := w
  refine gm_ast (j := 8) (len := 10) (nn := i37) O hM.1 rfl hi38 (by decide) e39 dX8_readJudge_192 ?_
  refine g_aload_n O dX8_readJudge_193 rfl ?_
  refine gm_getA (j := 3) O hM.1 rfl (by decide) q1731 dX8_readJudge_194 ?_
  refine g_bipush (v := 11) O dX8_readJudge_197 (by decide) ?_
  refine g_dup2 O dX8_readJudge_199 rfl rfl ?_
  refine gm_ald (j := 3) (len := 14) (nn := 11) O hM.1 rfl (by decide) (by decide) rfl dX8_readJudge_200 ?_
  refine g_iconst (v := 1) O dX8_readJudge_201 (by decide) ?_
  refine g_iadd O dX8_readJudge_202 ?_
  refine gm_ast (j := 3) (len := 14) (nn := 11) O hM.1 rfl (by decide) (by decide) rfl dX8_readJudge_203 ?_
  exact gm_vret O hQ w dX8_readJudge_204
set_option maxHeartbeats 4000000 in
theorem cM_readJudge (l : Launch) (hfl : l.flags = flags0) (E : w_E) (z : Nat) (T L : Nat → Nat) (V0 : w_V) (P : w_P) (mb : Nat) (hM : mOk E T L P mb) (sg : MS) (x1 : Int32) (post : MS → Prop) (w : wM_readJudge sg x1 post) : mMv l yX8_readJudge cX8_readJudge 5 none rM_readJudge E z T L V0 P mb [.ref mb, .int x1] sg post := by
  refine g_start (S := Unit) hfl (by decide +kernel) rfl [some (.ref mb), some (.int x1), none, none, none] rfl (fun _ h => h) (Nat.le_of_ble_eq_true rfl) (fun X hl hRm hEe O hQ => ?_)
  subst hl
  subst hEe
  unfold wM_readJudge at w
  refine g_aload_n O dX8_readJudge_0 rfl ?_
  refine g_iconst (v := 4) O dX8_readJudge_1 (by decide) ?_
  refine g_iconst (v := 5) O dX8_readJudge_2 (by decide) ?_
  refine gm_Vi (nA := 2) (As := [.int 4, .int 5]) (rest := []) O hRm hM.1 (cM_another _ O.2.2.2.2.2.2.2.2 _ _ _ _ _ _ _ hM sg (4) (5) _ w) (lw_V q2024 q2026 qs68 q134 q2027) rfl rfl (by decide +kernel) ⟨Nat.le_of_ble_eq_true rfl, Nat.le_of_ble_eq_true rfl⟩ rfl rfl rfl (Nat.le_of_ble_eq_true rfl) dX8_readJudge_3 (fun r1 g2 w => ?_)
  refine g_if_ne (tgt := 10) O w dX8_readJudge_6 (by decide) (fun w => ?_) (fun w => ?_)
  · refine g_iconst (v := 5) O dX8_readJudge_10 (by decide) ?_
    refine g_aload_n O dX8_readJudge_11 rfl ?_
    refine gm_getA (j := 3) O hM.1 rfl (by decide) q1731 dX8_readJudge_12 ?_
    refine g_bipush (v := 11) O dX8_readJudge_15 (by decide) ?_
    refine gm_ald (j := 3) (len := 14) (nn := 11) O hM.1 rfl (by decide) (by decide) rfl dX8_readJudge_17 ?_
    refine g_iadd O dX8_readJudge_18 ?_
    refine g_istore_n O dX8_readJudge_19 (Nat.le_of_ble_eq_true rfl) rfl (lv' := [some (.ref mb), some (.int x1), some (.int (5 + (g2 4 11))), none, none]) rfl ?_
    refine g_aload_n O dX8_readJudge_20 rfl ?_
    refine gm_getA (j := 5) O hM.1 rfl (by decide) q1733 dX8_readJudge_21 ?_
    refine g_iload_n O dX8_readJudge_24 rfl ?_
    refine g_iload_n O dX8_readJudge_25 rfl ?_
    obtain ⟨i3, hi4, e5, w⟩ := w
    refine gm_ast (j := 5) (len := 10) (nn := i3) O hM.1 rfl hi4 (by decide) e5 dX8_readJudge_26 ?_
    refine g_aload_n O dX8_readJudge_27 rfl ?_
    refine gm_getA (j := 6) O hM.1 rfl (by decide) q1734 dX8_readJudge_28 ?_
    refine g_iload_n O dX8_readJudge_31 rfl ?_
    refine g_aload_n O dX8_readJudge_32 rfl ?_
    refine g_iconst (v := 0) O dX8_readJudge_33 (by decide) ?_
    refine g_bipush (v := 60) O dX8_readJudge_34 (by decide) ?_
    refine gm_Vi (nA := 2) (As := [.int 0, .int 60]) (rest := [.int (5 + (g2 4 11)), .ref (mb + 6)]) O hRm hM.1 (cM_readNumber _ O.2.2.2.2.2.2.2.2 _ _ _ _ _ _ _ hM (s2 g2 6 i3 x1) (0) (60) _ w) (lw_V q1973 q1975 qs56 q134 q1976) rfl rfl (by decide +kernel) ⟨Nat.le_of_ble_eq_true rfl, Nat.le_of_ble_eq_true rfl⟩ rfl rfl rfl (Nat.le_of_ble_eq_true rfl) dX8_readJudge_36 (fun r6 g7 w => ?_)
    obtain ⟨i8, hi9, e10, w⟩ := w
    refine gm_ast (j := 6) (len := 10) (nn := i8) O hM.1 rfl hi9 (by decide) e10 dX8_readJudge_39 ?_
    refine g_aload_n O dX8_readJudge_40 rfl ?_
    refine gm_getA (j := 7) O hM.1 rfl (by decide) q1735 dX8_readJudge_41 ?_
    refine g_iload_n O dX8_readJudge_44 rfl ?_
    refine g_aload_n O dX8_readJudge_45 rfl ?_
    refine g_iconst (v := 0) O dX8_readJudge_46 (by decide) ?_
    refine g_bipush (v := 9) O dX8_readJudge_47 (by decide) ?_
    refine gm_Vi (nA := 2) (As := [.int 0, .int 9]) (rest := [.int (5 + (g2 4 11)), .ref (mb + 7)]) O hRm hM.1 (cM_readNumber _ O.2.2.2.2.2.2.2.2 _ _ _ _ _ _ _ hM (s2 g7 7 i8 r6) (0) (9) _ w) (lw_V q1973 q1975 qs56 q134 q1976) rfl rfl (by decide +kernel) ⟨Nat.le_of_ble_eq_true rfl, Nat.le_of_ble_eq_true rfl⟩ rfl rfl rfl (Nat.le_of_ble_eq_true rfl) dX8_readJudge_49 (fun r11 g12 w => ?_)
    obtain ⟨i13, hi14, e15, w⟩ := w
    refine gm_ast (j := 7) (len := 10) (nn := i13) O hM.1 rfl hi14 (by decide) e15 dX8_readJudge_52 ?_
    refine g_iconst (v := 0) O dX8_readJudge_53 (by decide) ?_
    refine g_istore_n O dX8_readJudge_54 (Nat.le_of_ble_eq_true rfl) rfl (lv' := [some (.ref mb), some (.int x1), some (.int (5 + (g2 4 11))), some (.int 0), none]) rfl ?_
    refine g_aload_n O dX8_readJudge_55 rfl ?_
    refine gm_getI (j := 21) O hM.1 rfl (by decide) q1749 dX8_readJudge_56 ?_
    refine g_if_ne (tgt := 75) O w dX8_readJudge_59 (by decide) (fun w => ?_) (fun w => ?_)
    · obtain ⟨n40, w⟩ := w
      refine g_drop [1] (lv' := [some (.ref mb), none, some (.int (5 + (g2 4 11))), some (.int 0), none]) rfl ?_
      refine vM_readJudge_75 O hRm hM (5 + (g2 4 11)) post hQ _ (fun y35 g36 w => ?_) n40 0 (s2 g12 8 i13 r11) w
      exact vM_readJudge_186 O hRm hM g36  (5 + (g2 4 11)) y35 post hQ w
    · refine g_aload_n O dX8_readJudge_62 rfl ?_
      refine gm_getI (j := 17) O hM.1 rfl (by decide) q1745 dX8_readJudge_63 ?_
      refine g_iconst (v := 2) O dX8_readJudge_66 (by decide) ?_
      refine g_icmp_eq (tgt := 75) O w dX8_readJudge_67 (by decide) (fun w => ?_) (fun w => ?_)
      · obtain ⟨n43, w⟩ := w
        refine g_drop [1] (lv' := [some (.ref mb), none, some (.int (5 + (g2 4 11))), some (.int 0), none]) rfl ?_
        refine vM_readJudge_75 O hRm hM (5 + (g2 4 11)) post hQ _ (fun y41 g42 w => ?_) n43 0 (s2 g12 8 i13 r11) w
        exact vM_readJudge_186 O hRm hM g42  (5 + (g2 4 11)) y41 post hQ w
      · refine g_aload_n O dX8_readJudge_70 rfl ?_
        refine g_iconst (v := 1) O dX8_readJudge_71 (by decide) ?_
        refine gm_Vv (nA := 1) (As := [.int 1]) (rest := []) O hRm hM.1 (cM_wrong _ O.2.2.2.2.2.2.2.2 _ _ _ _ _ _ _ hM (s2 g12 8 i13 r11) (1) _ w) (lw_V q1969 q1971 qs55 q134 q1972) rfl rfl (by decide +kernel) ⟨Nat.le_of_ble_eq_true rfl, Nat.le_of_ble_eq_true rfl⟩ rfl rfl rfl (Nat.le_of_ble_eq_true rfl) dX8_readJudge_72 (fun g45 w => ?_)
        obtain ⟨n48, w⟩ := w
        refine g_drop [1] (lv' := [some (.ref mb), none, some (.int (5 + (g2 4 11))), some (.int 0), none]) rfl ?_
        refine vM_readJudge_75 O hRm hM (5 + (g2 4 11)) post hQ _ (fun y46 g47 w => ?_) n48 0 g45 w
        exact vM_readJudge_186 O hRm hM g47  (5 + (g2 4 11)) y46 post hQ w
  · exact gm_vret O hQ w dX8_readJudge_9
-- readRoad
abbrev rM_readRoad : Room := { frames := 4, cells := 0, slots := 0, locals := 78 }
set_option maxHeartbeats 4000000 in
theorem vM_readRoad_78 {X : Cx} {z : Nat} {T L : Nat → Nat} {V0 : w_V} {P : w_P} {mb : Nat} (O : Okc X cX8_readRoad RX8 5 none) (hRm : cxR X = rM_readRoad) (hM : mOk (cxE X) T L P mb) (sg : MS) (x1 : Int32) (x2 : Int32) (x3 : Int32) (post : MS → Prop) (hQ : cxMQ X (va_Qv post (fun u t => wdW (cxE X) (mW z T L V0 P mb u) t.heap) (w_A (cxE X))) 0 0) (w : jM_readRoad_78 sg x1 x2 x3 post) : gW X 0 0 z T L (up1 V0 mb sg) P 78 [some (.ref mb), some (.int x1), some (.int x2), some (.int x3), none] [] := by
  unfold jM_readRoad_78 at w
  refine g_aload_n O dX8_readRoad_78 rfl ?_
  refine g_iconst (v := 1) O dX8_readRoad_79 (by decide) ?_
  refine g_bipush (v := 9) O dX8_readRoad_80 (by decide) ?_
  refine gm_Vi (nA := 2) (As := [.int 1, .int 9]) (rest := []) O hRm hM.1 (cM_readNumber _ O.2.2.2.2.2.2.2.2 _ _ _ _ _ _ _ hM sg (1) (9) _ w) (lw_V q1973 q1975 qs56 q134 q1976) rfl rfl (by decide +kernel) ⟨Nat.le_of_ble_eq_true rfl, Nat.le_of_ble_eq_true rfl⟩ rfl rfl rfl (Nat.le_of_ble_eq_true rfl) dX8_readRoad_82 (fun r7 g8 w => ?_)
  refine g_istore O dX8_readRoad_85 (Nat.le_of_ble_eq_true rfl) rfl (lv' := [some (.ref mb), some (.int x1), some (.int x2), some (.int x3), some (.int r7)]) rfl ?_
  refine g_aload_n O dX8_readRoad_87 rfl ?_
  refine gm_getI (j := 21) O hM.1 rfl (by decide) q1749 dX8_readRoad_88 ?_
  refine g_if_eq (tgt := 95) O w dX8_readRoad_91 (by decide) (fun w => ?_) (fun w => ?_)
  · refine g_aload_n O dX8_readRoad_95 rfl ?_
    refine gm_getA (j := 4) O hM.1 rfl (by decide) q1732 dX8_readRoad_96 ?_
    refine g_iload_n O dX8_readRoad_99 rfl ?_
    refine g_iload_n O dX8_readRoad_100 rfl ?_
    refine g_iload_n O dX8_readRoad_101 rfl ?_
    refine gm_Si0 (nA := 2) (As := [.int x1, .int x2]) (rest := [.int x3, .ref (mb + 4)]) O hRm (cM_couple _ O.2.2.2.2.2.2.2.2 _ _ _ _ _ _ _ hM g8 (x1) (x2) _ w) (lw_S q2032 q2033 q134 q2034) rfl rfl (by decide +kernel) ⟨Nat.le_of_ble_eq_true rfl, Nat.le_of_ble_eq_true rfl⟩ rfl rfl rfl (Nat.le_of_ble_eq_true rfl) dX8_readRoad_102 (fun r9 w => ?_)
    refine g_iadd O dX8_readRoad_105 ?_
    refine g_iload O dX8_readRoad_106 rfl ?_
    obtain ⟨i11, hi12, e13, w⟩ := w
    refine gm_ast (j := 4) (len := 162) (nn := i11) O hM.1 rfl hi12 (by decide) e13 dX8_readRoad_108 ?_
    refine g_aload_n O dX8_readRoad_109 rfl ?_
    refine gm_getA (j := 4) O hM.1 rfl (by decide) q1732 dX8_readRoad_110 ?_
    refine g_iload_n O dX8_readRoad_113 rfl ?_
    refine g_iload_n O dX8_readRoad_114 rfl ?_
    refine g_iload_n O dX8_readRoad_115 rfl ?_
    refine gm_Si0 (nA := 2) (As := [.int x2, .int x1]) (rest := [.int x3, .ref (mb + 4)]) O hRm (cM_couple _ O.2.2.2.2.2.2.2.2 _ _ _ _ _ _ _ hM (s2 g8 5 i11 r7) (x2) (x1) _ w) (lw_S q2032 q2033 q134 q2034) rfl rfl (by decide +kernel) ⟨Nat.le_of_ble_eq_true rfl, Nat.le_of_ble_eq_true rfl⟩ rfl rfl rfl (Nat.le_of_ble_eq_true rfl) dX8_readRoad_116 (fun r14 w => ?_)
    refine g_iadd O dX8_readRoad_119 ?_
    refine g_iload O dX8_readRoad_120 rfl ?_
    obtain ⟨i16, hi17, e18, w⟩ := w
    refine gm_ast (j := 4) (len := 162) (nn := i16) O hM.1 rfl hi17 (by decide) e18 dX8_readRoad_122 ?_
    refine g_aload_n O dX8_readRoad_123 rfl ?_
    refine gm_getA (j := 3) O hM.1 rfl (by decide) q1731 dX8_readRoad_124 ?_
    refine g_bipush (v := 9) O dX8_readRoad_127 (by decide) ?_
    refine g_dup2 O dX8_readRoad_129 rfl rfl ?_
    refine gm_ald (j := 3) (len := 14) (nn := 9) O hM.1 rfl (by decide) (by decide) rfl dX8_readRoad_130 ?_
    refine g_iconst (v := 1) O dX8_readRoad_131 (by decide) ?_
    refine g_iadd O dX8_readRoad_132 ?_
    refine gm_ast (j := 3) (len := 14) (nn := 9) O hM.1 rfl (by decide) (by decide) rfl dX8_readRoad_133 ?_
    exact gm_vret O hQ w dX8_readRoad_134
  · exact gm_vret O hQ w dX8_readRoad_94
set_option maxHeartbeats 4000000 in
theorem vM_readRoad_67 {X : Cx} {z : Nat} {T L : Nat → Nat} {V0 : w_V} {P : w_P} {mb : Nat} (O : Okc X cX8_readRoad RX8 5 none) (hRm : cxR X = rM_readRoad) (hM : mOk (cxE X) T L P mb) (sg : MS) (x1 : Int32) (x2 : Int32) (x3 : Int32) (post : MS → Prop) (hQ : cxMQ X (va_Qv post (fun u t => wdW (cxE X) (mW z T L V0 P mb u) t.heap) (w_A (cxE X))) 0 0) (w : jM_readRoad_67 sg x1 x2 x3 post) : gW X 0 0 z T L (up1 V0 mb sg) P 67 [some (.ref mb), some (.int x1), some (.int x2), some (.int x3), none] [] := by
  unfold jM_readRoad_67 at w
  refine g_aload_n O dX8_readRoad_67 rfl ?_
  refine gm_getI (j := 21) O hM.1 rfl (by decide) q1749 dX8_readRoad_68 ?_
  refine g_if_ne (tgt := 78) O w dX8_readRoad_71 (by decide) (fun w => ?_) (fun w => ?_)
  · exact vM_readRoad_78 O hRm hM sg  x1 x2 x3 post hQ w
  · refine g_aload_n O dX8_readRoad_74 rfl ?_
    refine gm_Vv (nA := 0) (As := []) (rest := []) O hRm hM.1 (cM_stepOn _ O.2.2.2.2.2.2.2.2 _ _ _ _ _ _ _ hM sg _ w) (lw_V q1934 q1936 qs50 q134 q1937) rfl rfl (by decide +kernel) ⟨Nat.le_of_ble_eq_true rfl, Nat.le_of_ble_eq_true rfl⟩ rfl rfl rfl (Nat.le_of_ble_eq_true rfl) dX8_readRoad_75 (fun g20 w => ?_)
    exact vM_readRoad_78 O hRm hM g20  x1 x2 x3 post hQ w
set_option maxHeartbeats 4000000 in
theorem vM_readRoad_62 {X : Cx} {z : Nat} {T L : Nat → Nat} {V0 : w_V} {P : w_P} {mb : Nat} (O : Okc X cX8_readRoad RX8 5 none) (hRm : cxR X = rM_readRoad) (hM : mOk (cxE X) T L P mb) (sg : MS) (x1 : Int32) (x2 : Int32) (x3 : Int32) (post : MS → Prop) (hQ : cxMQ X (va_Qv post (fun u t => wdW (cxE X) (mW z T L V0 P mb u) t.heap) (w_A (cxE X))) 0 0) (w : jM_readRoad_62 sg x1 x2 x3 post) : gW X 0 0 z T L (up1 V0 mb sg) P 62 [some (.ref mb), some (.int x1), some (.int x2), some (.int x3), none] [] := by
  unfold jM_readRoad_62 at w
  refine g_aload_n O dX8_readRoad_62 rfl ?_
  refine g_iconst (v := 4) O dX8_readRoad_63 (by decide) ?_
  refine gm_Vv (nA := 1) (As := [.int 4]) (rest := []) O hRm hM.1 (cM_wrong _ O.2.2.2.2.2.2.2.2 _ _ _ _ _ _ _ hM sg (4) _ w) (lw_V q1969 q1971 qs55 q134 q1972) rfl rfl (by decide +kernel) ⟨Nat.le_of_ble_eq_true rfl, Nat.le_of_ble_eq_true rfl⟩ rfl rfl rfl (Nat.le_of_ble_eq_true rfl) dX8_readRoad_64 (fun g22 w => ?_)
  exact vM_readRoad_67 O hRm hM g22  x1 x2 x3 post hQ w
set_option maxHeartbeats 4000000 in
theorem vM_readRoad_27 {X : Cx} {z : Nat} {T L : Nat → Nat} {V0 : w_V} {P : w_P} {mb : Nat} (O : Okc X cX8_readRoad RX8 5 none) (hRm : cxR X = rM_readRoad) (hM : mOk (cxE X) T L P mb) (sg : MS) (x1 : Int32) (post : MS → Prop) (hQ : cxMQ X (va_Qv post (fun u t => wdW (cxE X) (mW z T L V0 P mb u) t.heap) (w_A (cxE X))) 0 0) (w : jM_readRoad_27 sg x1 post) : gW X 0 0 z T L (up1 V0 mb sg) P 27 [some (.ref mb), some (.int x1), none, none, none] [] := by
  unfold jM_readRoad_27 at w
  refine g_aload_n O dX8_readRoad_27 rfl ?_
  refine gm_Vi (nA := 0) (As := []) (rest := []) O hRm hM.1 (cM_townNow _ O.2.2.2.2.2.2.2.2 _ _ _ _ _ _ _ hM sg _ w) (lw_V q2028 q2030 qs69 q134 q2031) rfl rfl (by decide +kernel) ⟨Nat.le_of_ble_eq_true rfl, Nat.le_of_ble_eq_true rfl⟩ rfl rfl rfl (Nat.le_of_ble_eq_true rfl) dX8_readRoad_28 (fun r5 g6 w => ?_)
  refine g_istore_n O dX8_readRoad_31 (Nat.le_of_ble_eq_true rfl) rfl (lv' := [some (.ref mb), some (.int x1), some (.int r5), none, none]) rfl ?_
  refine g_bipush (v := 81) O dX8_readRoad_32 (by decide) ?_
  refine g_istore_n O dX8_readRoad_34 (Nat.le_of_ble_eq_true rfl) rfl (lv' := [some (.ref mb), some (.int x1), some (.int r5), some (.int 81), none]) rfl ?_
  refine g_aload_n O dX8_readRoad_35 rfl ?_
  refine gm_getI (j := 21) O hM.1 rfl (by decide) q1749 dX8_readRoad_36 ?_
  refine g_if_ne (tgt := 67) O w dX8_readRoad_39 (by decide) (fun w => ?_) (fun w => ?_)
  · exact vM_readRoad_67 O hRm hM g6  x1 r5 81 post hQ w
  · refine g_iload_n O dX8_readRoad_42 rfl ?_
    refine g_iload_n O dX8_readRoad_43 rfl ?_
    refine g_icmp_eq (tgt := 62) O w dX8_readRoad_44 (by decide) (fun w => ?_) (fun w => ?_)
    · exact vM_readRoad_62 O hRm hM g6  x1 r5 81 post hQ w
    · refine g_aload_n O dX8_readRoad_47 rfl ?_
      refine gm_getA (j := 4) O hM.1 rfl (by decide) q1732 dX8_readRoad_48 ?_
      refine g_iload_n O dX8_readRoad_51 rfl ?_
      refine g_iload_n O dX8_readRoad_52 rfl ?_
      refine g_iload_n O dX8_readRoad_53 rfl ?_
      refine gm_Si0 (nA := 2) (As := [.int x1, .int r5]) (rest := [.int 81, .ref (mb + 4)]) O hRm (cM_couple _ O.2.2.2.2.2.2.2.2 _ _ _ _ _ _ _ hM g6 (x1) (r5) _ w) (lw_S q2032 q2033 q134 q2034) rfl rfl (by decide +kernel) ⟨Nat.le_of_ble_eq_true rfl, Nat.le_of_ble_eq_true rfl⟩ rfl rfl rfl (Nat.le_of_ble_eq_true rfl) dX8_readRoad_54 (fun r23 w => ?_)
      refine g_iadd O dX8_readRoad_57 ?_
      obtain ⟨i25, hi26, e27, w⟩ := w
      refine gm_ald (j := 4) (len := 162) (nn := i25) O hM.1 rfl hi26 (by decide) e27 dX8_readRoad_58 ?_
      refine g_if_le (tgt := 67) O w dX8_readRoad_59 (by decide) (fun w => ?_) (fun w => ?_)
      · exact vM_readRoad_67 O hRm hM g6  x1 r5 81 post hQ w
      · exact vM_readRoad_62 O hRm hM g6  x1 r5 81 post hQ w
set_option maxHeartbeats 4000000 in
theorem cM_readRoad (l : Launch) (hfl : l.flags = flags0) (E : w_E) (z : Nat) (T L : Nat → Nat) (V0 : w_V) (P : w_P) (mb : Nat) (hM : mOk E T L P mb) (sg : MS) (post : MS → Prop) (w : wM_readRoad sg post) : mMv l yX8_readRoad cX8_readRoad 5 none rM_readRoad E z T L V0 P mb [.ref mb] sg post := by
  refine g_start (S := Unit) hfl (by decide +kernel) rfl [some (.ref mb), none, none, none, none] rfl (fun _ h => h) (Nat.le_of_ble_eq_true rfl) (fun X hl hRm hEe O hQ => ?_)
  subst hl
  subst hEe
  unfold wM_readRoad at w
  refine g_aload_n O dX8_readRoad_0 rfl ?_
  refine g_iconst (v := 2) O dX8_readRoad_1 (by decide) ?_
  refine g_bipush (v := 14) O dX8_readRoad_2 (by decide) ?_
  refine gm_Vi (nA := 2) (As := [.int 2, .int 14]) (rest := []) O hRm hM.1 (cM_another _ O.2.2.2.2.2.2.2.2 _ _ _ _ _ _ _ hM sg (2) (14) _ w) (lw_V q2024 q2026 qs68 q134 q2027) rfl rfl (by decide +kernel) ⟨Nat.le_of_ble_eq_true rfl, Nat.le_of_ble_eq_true rfl⟩ rfl rfl rfl (Nat.le_of_ble_eq_true rfl) dX8_readRoad_4 (fun r1 g2 w => ?_)
  refine g_if_ne (tgt := 11) O w dX8_readRoad_7 (by decide) (fun w => ?_) (fun w => ?_)
  · refine g_aload_n O dX8_readRoad_11 rfl ?_
    refine gm_Vi (nA := 0) (As := []) (rest := []) O hRm hM.1 (cM_townNow _ O.2.2.2.2.2.2.2.2 _ _ _ _ _ _ _ hM g2 _ w) (lw_V q2028 q2030 qs69 q134 q2031) rfl rfl (by decide +kernel) ⟨Nat.le_of_ble_eq_true rfl, Nat.le_of_ble_eq_true rfl⟩ rfl rfl rfl (Nat.le_of_ble_eq_true rfl) dX8_readRoad_12 (fun r3 g4 w => ?_)
    refine g_istore_n O dX8_readRoad_15 (Nat.le_of_ble_eq_true rfl) rfl (lv' := [some (.ref mb), some (.int r3), none, none, none]) rfl ?_
    refine g_aload_n O dX8_readRoad_16 rfl ?_
    refine gm_getI (j := 21) O hM.1 rfl (by decide) q1749 dX8_readRoad_17 ?_
    refine g_if_ne (tgt := 27) O w dX8_readRoad_20 (by decide) (fun w => ?_) (fun w => ?_)
    · exact vM_readRoad_27 O hRm hM g4  r3 post hQ w
    · refine g_aload_n O dX8_readRoad_23 rfl ?_
      refine gm_Vv (nA := 0) (As := []) (rest := []) O hRm hM.1 (cM_stepOn _ O.2.2.2.2.2.2.2.2 _ _ _ _ _ _ _ hM g4 _ w) (lw_V q1934 q1936 qs50 q134 q1937) rfl rfl (by decide +kernel) ⟨Nat.le_of_ble_eq_true rfl, Nat.le_of_ble_eq_true rfl⟩ rfl rfl rfl (Nat.le_of_ble_eq_true rfl) dX8_readRoad_24 (fun g29 w => ?_)
      exact vM_readRoad_27 O hRm hM g29  r3 post hQ w
  · exact gm_vret O hQ w dX8_readRoad_10
-- readTown
abbrev rM_readTown : Room := { frames := 10, cells := 0, slots := 0, locals := 343 }
set_option maxHeartbeats 4000000 in
theorem vM_readTown_44 {X : Cx} {z : Nat} {T L : Nat → Nat} {V0 : w_V} {P : w_P} {mb : Nat} (O : Okc X cX8_readTown RX8 1 none) (hRm : cxR X = rM_readTown) (hM : mOk (cxE X) T L P mb) (sg : MS) (post : MS → Prop) (hQ : cxMQ X (va_Qv post (fun u t => wdW (cxE X) (mW z T L V0 P mb u) t.heap) (w_A (cxE X))) 0 0) (w : jM_readTown_44 sg post) : gW X 0 0 z T L (up1 V0 mb sg) P 44 [some (.ref mb)] [] := by
  unfold jM_readTown_44 at w
  refine g_aload_n O dX8_readTown_44 rfl ?_
  refine gm_getA (j := 3) O hM.1 rfl (by decide) q1731 dX8_readTown_45 ?_
  refine g_bipush (v := 7) O dX8_readTown_48 (by decide) ?_
  refine g_dup2 O dX8_readTown_50 rfl rfl ?_
  refine gm_ald (j := 3) (len := 14) (nn := 7) O hM.1 rfl (by decide) (by decide) rfl dX8_readTown_51 ?_
  refine g_iconst (v := 1) O dX8_readTown_52 (by decide) ?_
  refine g_iadd O dX8_readTown_53 ?_
  refine gm_ast (j := 3) (len := 14) (nn := 7) O hM.1 rfl (by decide) (by decide) rfl dX8_readTown_54 ?_
  exact gm_vret O hQ w dX8_readTown_55
set_option maxHeartbeats 4000000 in
theorem cM_readTown (l : Launch) (hfl : l.flags = flags0) (E : w_E) (z : Nat) (T L : Nat → Nat) (V0 : w_V) (P : w_P) (mb : Nat) (hM : mOk E T L P mb) (sg : MS) (post : MS → Prop) (w : wM_readTown sg post) : mMv l yX8_readTown cX8_readTown 1 none rM_readTown E z T L V0 P mb [.ref mb] sg post := by
  refine g_start (S := Unit) hfl (by decide +kernel) rfl [some (.ref mb)] rfl (fun _ h => h) (Nat.le_of_ble_eq_true rfl) (fun X hl hRm hEe O hQ => ?_)
  subst hl
  subst hEe
  unfold wM_readTown at w
  refine g_aload_n O dX8_readTown_0 rfl ?_
  refine g_iconst (v := 0) O dX8_readTown_1 (by decide) ?_
  refine g_bipush (v := 9) O dX8_readTown_2 (by decide) ?_
  refine gm_Vi (nA := 2) (As := [.int 0, .int 9]) (rest := []) O hRm hM.1 (cM_another _ O.2.2.2.2.2.2.2.2 _ _ _ _ _ _ _ hM sg (0) (9) _ w) (lw_V q2024 q2026 qs68 q134 q2027) rfl rfl (by decide +kernel) ⟨Nat.le_of_ble_eq_true rfl, Nat.le_of_ble_eq_true rfl⟩ rfl rfl rfl (Nat.le_of_ble_eq_true rfl) dX8_readTown_4 (fun r1 g2 w => ?_)
  refine g_if_ne (tgt := 11) O w dX8_readTown_7 (by decide) (fun w => ?_) (fun w => ?_)
  · refine g_aload_n O dX8_readTown_11 rfl ?_
    refine gx_ldcw (i := 13) (tx := [105, 110, 110]) O rfl rfl dX8_readTown_12 (fun a3 hs4 _ => ?_)
    refine gm_Vi0 (nA := 1) (As := [.ref a3]) (rest := []) O hRm hM.1 (cM_is _ O.2.2.2.2.2.2.2.2 _ _ _ _ _ _ _ hM g2 [105, 110, 110] a3 hs4 _ w) (lw_V q1958 q1960 qs53 q134 q1961) rfl rfl (by decide +kernel) ⟨Nat.le_of_ble_eq_true rfl, Nat.le_of_ble_eq_true rfl⟩ rfl rfl rfl (Nat.le_of_ble_eq_true rfl) dX8_readTown_15 (fun r5 w => ?_)
    refine g_if_eq (tgt := 44) O w dX8_readTown_18 (by decide) (fun w => ?_) (fun w => ?_)
    · exact vM_readTown_44 O hRm hM g2  post hQ w
    · refine g_aload_n O dX8_readTown_21 rfl ?_
      refine gm_getA (j := 3) O hM.1 rfl (by decide) q1731 dX8_readTown_22 ?_
      refine g_bipush (v := 8) O dX8_readTown_25 (by decide) ?_
      refine g_dup2 O dX8_readTown_27 rfl rfl ?_
      refine gm_ald (j := 3) (len := 14) (nn := 8) O hM.1 rfl (by decide) (by decide) rfl dX8_readTown_28 ?_
      refine g_iconst (v := 1) O dX8_readTown_29 (by decide) ?_
      refine g_aload_n O dX8_readTown_30 rfl ?_
      refine gm_getA (j := 3) O hM.1 rfl (by decide) q1731 dX8_readTown_31 ?_
      refine g_bipush (v := 7) O dX8_readTown_34 (by decide) ?_
      refine gm_ald (j := 3) (len := 14) (nn := 7) O hM.1 rfl (by decide) (by decide) rfl dX8_readTown_36 ?_
      refine g_ishl O dX8_readTown_37 ?_
      refine g_ior O dX8_readTown_38 ?_
      refine gm_ast (j := 3) (len := 14) (nn := 8) O hM.1 rfl (by decide) (by decide) rfl dX8_readTown_39 ?_
      refine g_aload_n O dX8_readTown_40 rfl ?_
      refine gm_Vv (nA := 0) (As := []) (rest := []) O hRm hM.1 (cM_stepOn _ O.2.2.2.2.2.2.2.2 _ _ _ _ _ _ _ hM (s2 g2 4 8 ((g2 4 8) ||| ((1 : Int32) <<< (((g2 4 7) : Int32) &&& 31)))) _ w) (lw_V q1934 q1936 qs50 q134 q1937) rfl rfl (by decide +kernel) ⟨Nat.le_of_ble_eq_true rfl, Nat.le_of_ble_eq_true rfl⟩ rfl rfl rfl (Nat.le_of_ble_eq_true rfl) dX8_readTown_41 (fun g8 w => ?_)
      exact vM_readTown_44 O hRm hM g8  post hQ w
  · exact gm_vret O hQ w dX8_readTown_10
-- readPart
abbrev rM_readPart (rf rl : Nat) : Room := { frames := rf + 20, cells := 0, slots := 0, locals := rl + 400 }
set_option maxHeartbeats 4000000 in
theorem vM_readPart_56 {X : Cx} {z : Nat} {T L : Nat → Nat} {V0 : w_V} {P : w_P} {mb : Nat} {rf rl : Nat} (O : Okc X cX8_readPart RX8 3 none) (hRm : cxR X = rM_readPart rf rl) (hM : mOk (cxE X) T L P mb) (sg : MS) (rE : MS → Int32 → (MS → Prop) → Prop) (hE : ∀ (sg : MS) (x : Int32) (post : MS → Prop), rE sg x post → mMv (cxL X) yX8_readExpression cX8_readExpression 3 none { frames := rf, cells := 0, slots := 0, locals := rl } (cxE X) z T L V0 P mb [.ref mb, .int x] sg post) (x2 : Int32) (post : MS → Prop) (hQ : cxMQ X (va_Qv post (fun u t => wdW (cxE X) (mW z T L V0 P mb u) t.heap) (w_A (cxE X))) 0 0) (w : jM_readPart_56 sg rE x2 post) : gW X 0 0 z T L (up1 V0 mb sg) P 56 [some (.ref mb), none, some (.int x2)] [] := by
  unfold jM_readPart_56 at w
  refine g_aload_n O dX8_readPart_56 rfl ?_
  refine g_iconst (v := (-1)) O dX8_readPart_57 (by decide) ?_
  refine g_iload_n O dX8_readPart_58 rfl ?_
  refine g_isub O dX8_readPart_59 ?_
  refine gm_Vv (nA := 1) (As := [.int ((-1) - x2)]) (rest := []) O hRm hM.1 (cM_lay _ O.2.2.2.2.2.2.2.2 _ _ _ _ _ _ _ hM sg (((-1) - x2)) _ w) (lw_V q2010 q2012 qs65 q134 q2013) rfl rfl (by decide +kernel) ⟨(by show 1 + 1 ≤ rf + 20; omega), (by show 8 + (2 + 11) + 12 ≤ rl + 400; omega)⟩ rfl rfl rfl (Nat.le_of_ble_eq_true rfl) dX8_readPart_60 (fun g13 w => ?_)
  refine g_aload_n O dX8_readPart_63 rfl ?_
  refine gm_getI (j := 21) O hM.1 rfl (by decide) q1749 dX8_readPart_64 ?_
  refine g_if_ne (tgt := 74) O w dX8_readPart_67 (by decide) (fun w => ?_) (fun w => ?_)
  · exact gm_vret O hQ w dX8_readPart_74
  · refine g_aload_n O dX8_readPart_70 rfl ?_
    refine gm_Vv (nA := 0) (As := []) (rest := []) O hRm hM.1 (cM_stepOn _ O.2.2.2.2.2.2.2.2 _ _ _ _ _ _ _ hM g13 _ w) (lw_V q1934 q1936 qs50 q134 q1937) rfl rfl (by decide +kernel) ⟨(by show 2 + 1 ≤ rf + 20; omega), (by show 8 + (2 + 11) + 33 ≤ rl + 400; omega)⟩ rfl rfl rfl (Nat.le_of_ble_eq_true rfl) dX8_readPart_71 (fun g15 w => ?_)
    exact gm_vret O hQ w dX8_readPart_74
set_option maxHeartbeats 4000000 in
theorem cM_readPart (l : Launch) (hfl : l.flags = flags0) (E : w_E) (z : Nat) (T L : Nat → Nat) (V0 : w_V) (P : w_P) (mb : Nat) (hM : mOk E T L P mb) (rf rl : Nat) (rE : MS → Int32 → (MS → Prop) → Prop) (hE : ∀ (sg : MS) (x : Int32) (post : MS → Prop), rE sg x post → mMv l yX8_readExpression cX8_readExpression 3 none { frames := rf, cells := 0, slots := 0, locals := rl } E z T L V0 P mb [.ref mb, .int x] sg post) (sg : MS) (x1 : Int32) (post : MS → Prop) (w : wM_readPart sg rE x1 post) : mMv l yX8_readPart cX8_readPart 3 none (rM_readPart rf rl) E z T L V0 P mb [.ref mb, .int x1] sg post := by
  refine g_start (S := Unit) hfl (by decide +kernel) rfl [some (.ref mb), some (.int x1), none] rfl (fun _ h => h) (Nat.le_of_ble_eq_true rfl) (fun X hl hRm hEe O hQ => ?_)
  subst hl
  subst hEe
  unfold wM_readPart at w
  refine g_aload_n O dX8_readPart_0 rfl ?_
  refine gm_getI (j := 21) O hM.1 rfl (by decide) q1749 dX8_readPart_1 ?_
  refine g_if_eq (tgt := 8) O w dX8_readPart_4 (by decide) (fun w => ?_) (fun w => ?_)
  · refine g_aload_n O dX8_readPart_8 rfl ?_
    refine gm_getI (j := 17) O hM.1 rfl (by decide) q1745 dX8_readPart_9 ?_
    refine g_iconst (v := 2) O dX8_readPart_12 (by decide) ?_
    refine g_icmp_ne (tgt := 29) O w dX8_readPart_13 (by decide) (fun w => ?_) (fun w => ?_)
    · refine g_aload_n O dX8_readPart_29 rfl ?_
      refine gm_getI (j := 17) O hM.1 rfl (by decide) q1745 dX8_readPart_30 ?_
      refine g_iconst (v := 1) O dX8_readPart_33 (by decide) ?_
      refine g_icmp_ne (tgt := 75) O w dX8_readPart_34 (by decide) (fun w => ?_) (fun w => ?_)
      · refine g_aload_n O dX8_readPart_75 rfl ?_
        refine g_bipush (v := 40) O dX8_readPart_76 (by decide) ?_
        refine gm_Vv (nA := 1) (As := [.int 40]) (rest := []) O hRm hM.1 (cM_mark _ O.2.2.2.2.2.2.2.2 _ _ _ _ _ _ _ hM sg (40) _ w) (lw_V q2014 q2016 qs66 q134 q2017) rfl rfl (by decide +kernel) ⟨(by show 3 + 1 ≤ rf + 20; omega), (by show 8 + (2 + 11) + 54 ≤ rl + 400; omega)⟩ rfl rfl rfl (Nat.le_of_ble_eq_true rfl) dX8_readPart_78 (fun g2 w => ?_)
        refine g_aload_n O dX8_readPart_81 rfl ?_
        refine g_iload_n O dX8_readPart_82 rfl ?_
        refine g_iconst (v := 1) O dX8_readPart_83 (by decide) ?_
        refine g_iadd O dX8_readPart_84 ?_
        refine gm_Vv (nA := 1) (As := [.int (x1 + 1)]) (rest := []) O hRm hM.1 (hE _ _ _ w) (lw_V q1981 q1983 qs58 q134 q1984) rfl rfl (by decide +kernel) ⟨(by show rf + 1 ≤ rf + 20; omega), (by show 8 + (3 + 11) + rl ≤ rl + 400; omega)⟩ rfl rfl rfl (Nat.le_of_ble_eq_true rfl) dX8_readPart_85 (fun g4 w => ?_)
        refine g_aload_n O dX8_readPart_88 rfl ?_
        refine g_bipush (v := 41) O dX8_readPart_89 (by decide) ?_
        refine gm_Vv (nA := 1) (As := [.int 41]) (rest := []) O hRm hM.1 (cM_mark _ O.2.2.2.2.2.2.2.2 _ _ _ _ _ _ _ hM g4 (41) _ w) (lw_V q2014 q2016 qs66 q134 q2017) rfl rfl (by decide +kernel) ⟨(by show 3 + 1 ≤ rf + 20; omega), (by show 8 + (2 + 11) + 54 ≤ rl + 400; omega)⟩ rfl rfl rfl (Nat.le_of_ble_eq_true rfl) dX8_readPart_91 (fun g6 w => ?_)
        exact gm_vret O hQ w dX8_readPart_94
      · refine g_aload_n O dX8_readPart_37 rfl ?_
        refine g_aload_n O dX8_readPart_38 rfl ?_
        obtain ⟨a7, hp8, hs9⟩ := hM.2.2
        refine gm_getR (j := 1) O hM.1 rfl hp8 (by decide) q1729 dX8_readPart_39 ?_
        refine gm_Vi0 (nA := 1) (As := [.ref a7]) (rest := []) O hRm hM.1 (cM_which _ O.2.2.2.2.2.2.2.2 _ _ _ _ _ _ _ hM sg [[112, 114, 111, 111, 102], [104, 97, 114, 115, 104], [100, 97, 121], [116, 111, 119, 110], [115, 97, 105, 100]] a7 hs9 _ w) (lw_V q1965 q1967 qs54 q134 q1968) rfl rfl (by decide +kernel) ⟨(by show 10 + 1 ≤ rf + 20; omega), (by show 8 + (3 + 11) + 343 ≤ rl + 400; omega)⟩ rfl rfl rfl (Nat.le_of_ble_eq_true rfl) dX8_readPart_42 (fun r10 w => ?_)
        refine g_istore_n O dX8_readPart_45 (Nat.le_of_ble_eq_true rfl) rfl (lv' := [some (.ref mb), some (.int x1), some (.int r10)]) rfl ?_
        refine g_iload_n O dX8_readPart_46 rfl ?_
        refine g_iconst (v := (-1)) O dX8_readPart_47 (by decide) ?_
        refine g_icmp_ne (tgt := 56) O w dX8_readPart_48 (by decide) (fun w => ?_) (fun w => ?_)
        · refine g_drop [1] (lv' := [some (.ref mb), none, some (.int r10)]) rfl ?_
          exact vM_readPart_56 O hRm hM sg rE hE  r10 post hQ w
        · refine g_aload_n O dX8_readPart_51 rfl ?_
          refine g_iconst (v := 3) O dX8_readPart_52 (by decide) ?_
          refine gm_Vv (nA := 1) (As := [.int 3]) (rest := []) O hRm hM.1 (cM_wrong _ O.2.2.2.2.2.2.2.2 _ _ _ _ _ _ _ hM sg (3) _ w) (lw_V q1969 q1971 qs55 q134 q1972) rfl rfl (by decide +kernel) ⟨(by show 1 + 1 ≤ rf + 20; omega), (by show 8 + (2 + 11) + 12 ≤ rl + 400; omega)⟩ rfl rfl rfl (Nat.le_of_ble_eq_true rfl) dX8_readPart_53 (fun g17 w => ?_)
          refine g_drop [1] (lv' := [some (.ref mb), none, some (.int r10)]) rfl ?_
          exact vM_readPart_56 O hRm hM g17 rE hE  r10 post hQ w
    · refine g_aload_n O dX8_readPart_16 rfl ?_
      refine g_aload_n O dX8_readPart_17 rfl ?_
      refine g_iconst (v := 0) O dX8_readPart_18 (by decide) ?_
      refine g_sipush (v := 9999) O dX8_readPart_19 (by decide) ?_
      refine gm_Vi (nA := 2) (As := [.int 0, .int 9999]) (rest := [.ref mb]) O hRm hM.1 (cM_readNumber _ O.2.2.2.2.2.2.2.2 _ _ _ _ _ _ _ hM sg (0) (9999) _ w) (lw_V q1973 q1975 qs56 q134 q1976) rfl rfl (by decide +kernel) ⟨(by show 3 + 1 ≤ rf + 20; omega), (by show 8 + (4 + 11) + 55 ≤ rl + 400; omega)⟩ rfl rfl rfl (Nat.le_of_ble_eq_true rfl) dX8_readPart_22 (fun r18 g19 w => ?_)
      refine gm_Vv (nA := 1) (As := [.int r18]) (rest := []) O hRm hM.1 (cM_lay _ O.2.2.2.2.2.2.2.2 _ _ _ _ _ _ _ hM g19 (r18) _ w) (lw_V q2010 q2012 qs65 q134 q2013) rfl rfl (by decide +kernel) ⟨(by show 1 + 1 ≤ rf + 20; omega), (by show 8 + (2 + 11) + 12 ≤ rl + 400; omega)⟩ rfl rfl rfl (Nat.le_of_ble_eq_true rfl) dX8_readPart_25 (fun g21 w => ?_)
      exact gm_vret O hQ w dX8_readPart_28
  · exact gm_vret O hQ w dX8_readPart_7
-- readProduct
abbrev rM_readProduct (rf rl : Nat) : Room := { frames := rf + 21, cells := 0, slots := 0, locals := rl + 460 }
set_option maxHeartbeats 4000000 in
theorem vM_readProduct_39 {X : Cx} {z : Nat} {T L : Nat → Nat} {V0 : w_V} {P : w_P} {mb : Nat} {rf rl : Nat} (O : Okc X cX8_readProduct RX8 3 none) (hRm : cxR X = rM_readProduct rf rl) (hM : mOk (cxE X) T L P mb) (sg : MS) (rE : MS → Int32 → (MS → Prop) → Prop) (hE : ∀ (sg : MS) (x : Int32) (post : MS → Prop), rE sg x post → mMv (cxL X) yX8_readExpression cX8_readExpression 3 none { frames := rf, cells := 0, slots := 0, locals := rl } (cxE X) z T L V0 P mb [.ref mb, .int x] sg post) (x1 : Int32) (t0 : Int32) (post : MS → Prop) (hQ : cxMQ X (va_Qv post (fun u t => wdW (cxE X) (mW z T L V0 P mb u) t.heap) (w_A (cxE X))) 0 0) (kb : MS → Prop) (hkb : ∀ (sg : MS), kb sg → gW X 0 0 z T L (up1 V0 mb sg) P 5 [some (.ref mb), some (.int x1), none] []) (w : jM_readProduct_39 sg rE x1 t0 post kb) : gW X 0 0 z T L (up1 V0 mb sg) P 39 [some (.ref mb), some (.int x1), none] [.int t0] := by
  unfold jM_readProduct_39 at w
  refine g_istore_n O dX8_readProduct_39 (Nat.le_of_ble_eq_true rfl) rfl (lv' := [some (.ref mb), some (.int x1), some (.int t0)]) rfl ?_
  refine g_aload_n O dX8_readProduct_40 rfl ?_
  refine gm_Vv (nA := 0) (As := []) (rest := []) O hRm hM.1 (cM_stepOn _ O.2.2.2.2.2.2.2.2 _ _ _ _ _ _ _ hM sg _ w) (lw_V q1934 q1936 qs50 q134 q1937) rfl rfl (by decide +kernel) ⟨(by show 2 + 1 ≤ rf + 21; omega), (by show 8 + (2 + 11) + 33 ≤ rl + 460; omega)⟩ rfl rfl rfl (Nat.le_of_ble_eq_true rfl) dX8_readProduct_41 (fun g8 w => ?_)
  refine g_aload_n O dX8_readProduct_44 rfl ?_
  refine g_iload_n O dX8_readProduct_45 rfl ?_
  refine gm_Vv (nA := 1) (As := [.int x1]) (rest := []) O hRm hM.1 (cM_readPart _ O.2.2.2.2.2.2.2.2 _ _ _ _ _ _ _ hM rf rl rE hE g8 (x1) _ w) (lw_V q2006 q2008 qs64 q134 q2009) rfl rfl (by decide +kernel) ⟨(by show rf + 20 + 1 ≤ rf + 21; omega), (by show 8 + (3 + 11) + (rl + 400) ≤ rl + 460; omega)⟩ rfl rfl rfl (Nat.le_of_ble_eq_true rfl) dX8_readProduct_46 (fun g10 w => ?_)
  refine g_aload_n O dX8_readProduct_49 rfl ?_
  refine g_iload_n O dX8_readProduct_50 rfl ?_
  refine gm_Vv (nA := 1) (As := [.int t0]) (rest := []) O hRm hM.1 (cM_lay _ O.2.2.2.2.2.2.2.2 _ _ _ _ _ _ _ hM g10 (t0) _ w) (lw_V q2010 q2012 qs65 q134 q2013) rfl rfl (by decide +kernel) ⟨(by show 1 + 1 ≤ rf + 21; omega), (by show 8 + (2 + 11) + 12 ≤ rl + 460; omega)⟩ rfl rfl rfl (Nat.le_of_ble_eq_true rfl) dX8_readProduct_51 (fun g12 w => ?_)
  refine g_goto (tgt := 5) O dX8_readProduct_54 (by decide) ?_
  refine g_drop [2] (lv' := [some (.ref mb), some (.int x1), none]) rfl ?_
  exact hkb  (g12) w
set_option maxHeartbeats 4000000 in
theorem vM_readProduct_23 {X : Cx} {z : Nat} {T L : Nat → Nat} {V0 : w_V} {P : w_P} {mb : Nat} {rf rl : Nat} (O : Okc X cX8_readProduct RX8 3 none) (hRm : cxR X = rM_readProduct rf rl) (hM : mOk (cxE X) T L P mb) (sg : MS) (rE : MS → Int32 → (MS → Prop) → Prop) (hE : ∀ (sg : MS) (x : Int32) (post : MS → Prop), rE sg x post → mMv (cxL X) yX8_readExpression cX8_readExpression 3 none { frames := rf, cells := 0, slots := 0, locals := rl } (cxE X) z T L V0 P mb [.ref mb, .int x] sg post) (x1 : Int32) (post : MS → Prop) (hQ : cxMQ X (va_Qv post (fun u t => wdW (cxE X) (mW z T L V0 P mb u) t.heap) (w_A (cxE X))) 0 0) (kb : MS → Prop) (hkb : ∀ (sg : MS), kb sg → gW X 0 0 z T L (up1 V0 mb sg) P 5 [some (.ref mb), some (.int x1), none] []) (w : jM_readProduct_23 sg rE x1 post kb) : gW X 0 0 z T L (up1 V0 mb sg) P 23 [some (.ref mb), some (.int x1), none] [] := by
  unfold jM_readProduct_23 at w
  refine g_aload_n O dX8_readProduct_23 rfl ?_
  refine g_bipush (v := 42) O dX8_readProduct_24 (by decide) ?_
  refine gm_Vi0 (nA := 1) (As := [.int 42]) (rest := []) O hRm hM.1 (cM_isMarked _ O.2.2.2.2.2.2.2.2 _ _ _ _ _ _ _ hM sg (42) _ w) (lw_V q1985 q1987 qs59 q134 q1988) rfl rfl (by decide +kernel) ⟨(by show 1 + 1 ≤ rf + 21; omega), (by show 8 + (2 + 11) + 12 ≤ rl + 460; omega)⟩ rfl rfl rfl (Nat.le_of_ble_eq_true rfl) dX8_readProduct_26 (fun r5 w => ?_)
  refine g_if_eq (tgt := 37) O w dX8_readProduct_29 (by decide) (fun w => ?_) (fun w => ?_)
  · refine g_bipush (v := (-23)) O dX8_readProduct_37 (by decide) ?_
    exact vM_readProduct_39 O hRm hM sg rE hE  x1 (-23) post hQ kb hkb w
  · refine g_bipush (v := (-22)) O dX8_readProduct_32 (by decide) ?_
    refine g_goto (tgt := 39) O dX8_readProduct_34 (by decide) ?_
    exact vM_readProduct_39 O hRm hM sg rE hE  x1 (-22) post hQ kb hkb w
set_option maxHeartbeats 4000000 in
theorem vM_readProduct_5 {X : Cx} {z : Nat} {T L : Nat → Nat} {V0 : w_V} {P : w_P} {mb : Nat} {rf rl : Nat} (O : Okc X cX8_readProduct RX8 3 none) (hRm : cxR X = rM_readProduct rf rl) (hM : mOk (cxE X) T L P mb) (rE : MS → Int32 → (MS → Prop) → Prop) (hE : ∀ (sg : MS) (x : Int32) (post : MS → Prop), rE sg x post → mMv (cxL X) yX8_readExpression cX8_readExpression 3 none { frames := rf, cells := 0, slots := 0, locals := rl } (cxE X) z T L V0 P mb [.ref mb, .int x] sg post) (x1 : Int32) (post : MS → Prop) (hQ : cxMQ X (va_Qv post (fun u t => wdW (cxE X) (mW z T L V0 P mb u) t.heap) (w_A (cxE X))) 0 0)  : ∀ (n : Nat) (sg : MS), lM_readProduct_5 rE x1 post n sg → gW X 0 0 z T L (up1 V0 mb sg) P 5 [some (.ref mb), some (.int x1), none] [] := by
  intro n
  induction n with
  | zero =>
    intro sg w
    exact w.elim
  | succ n ih =>
    intro sg w
    unfold lM_readProduct_5 at w
    refine g_aload_n O dX8_readProduct_5 rfl ?_
    refine g_bipush (v := 42) O dX8_readProduct_6 (by decide) ?_
    refine gm_Vi0 (nA := 1) (As := [.int 42]) (rest := []) O hRm hM.1 (cM_isMarked _ O.2.2.2.2.2.2.2.2 _ _ _ _ _ _ _ hM sg (42) _ w) (lw_V q1985 q1987 qs59 q134 q1988) rfl rfl (by decide +kernel) ⟨(by show 1 + 1 ≤ rf + 21; omega), (by show 8 + (2 + 11) + 12 ≤ rl + 460; omega)⟩ rfl rfl rfl (Nat.le_of_ble_eq_true rfl) dX8_readProduct_8 (fun r3 w => ?_)
    refine g_if_ne (tgt := 23) O w dX8_readProduct_11 (by decide) (fun w => ?_) (fun w => ?_)
    · exact vM_readProduct_23 O hRm hM sg rE hE  x1 post hQ (lM_readProduct_5 rE x1 post n) ih w
    · refine g_aload_n O dX8_readProduct_14 rfl ?_
      refine g_bipush (v := 47) O dX8_readProduct_15 (by decide) ?_
      refine gm_Vi0 (nA := 1) (As := [.int 47]) (rest := []) O hRm hM.1 (cM_isMarked _ O.2.2.2.2.2.2.2.2 _ _ _ _ _ _ _ hM sg (47) _ w) (lw_V q1985 q1987 qs59 q134 q1988) rfl rfl (by decide +kernel) ⟨(by show 1 + 1 ≤ rf + 21; omega), (by show 8 + (2 + 11) + 12 ≤ rl + 460; omega)⟩ rfl rfl rfl (Nat.le_of_ble_eq_true rfl) dX8_readProduct_17 (fun r13 w => ?_)
      refine g_if_eq (tgt := 57) O w dX8_readProduct_20 (by decide) (fun w => ?_) (fun w => ?_)
      · exact gm_vret O hQ w dX8_readProduct_57
      · exact vM_readProduct_23 O hRm hM sg rE hE  x1 post hQ (lM_readProduct_5 rE x1 post n) ih w
set_option maxHeartbeats 4000000 in
theorem cM_readProduct (l : Launch) (hfl : l.flags = flags0) (E : w_E) (z : Nat) (T L : Nat → Nat) (V0 : w_V) (P : w_P) (mb : Nat) (hM : mOk E T L P mb) (rf rl : Nat) (rE : MS → Int32 → (MS → Prop) → Prop) (hE : ∀ (sg : MS) (x : Int32) (post : MS → Prop), rE sg x post → mMv l yX8_readExpression cX8_readExpression 3 none { frames := rf, cells := 0, slots := 0, locals := rl } E z T L V0 P mb [.ref mb, .int x] sg post) (sg : MS) (x1 : Int32) (post : MS → Prop) (w : wM_readProduct sg rE x1 post) : mMv l yX8_readProduct cX8_readProduct 3 none (rM_readProduct rf rl) E z T L V0 P mb [.ref mb, .int x1] sg post := by
  refine g_start (S := Unit) hfl (by decide +kernel) rfl [some (.ref mb), some (.int x1), none] rfl (fun _ h => h) (Nat.le_of_ble_eq_true rfl) (fun X hl hRm hEe O hQ => ?_)
  subst hl
  subst hEe
  unfold wM_readProduct at w
  refine g_aload_n O dX8_readProduct_0 rfl ?_
  refine g_iload_n O dX8_readProduct_1 rfl ?_
  refine gm_Vv (nA := 1) (As := [.int x1]) (rest := []) O hRm hM.1 (cM_readPart _ O.2.2.2.2.2.2.2.2 _ _ _ _ _ _ _ hM rf rl rE hE sg (x1) _ w) (lw_V q2006 q2008 qs64 q134 q2009) rfl rfl (by decide +kernel) ⟨(by show rf + 20 + 1 ≤ rf + 21; omega), (by show 8 + (3 + 11) + (rl + 400) ≤ rl + 460; omega)⟩ rfl rfl rfl (Nat.le_of_ble_eq_true rfl) dX8_readProduct_2 (fun g2 w => ?_)
  obtain ⟨n15, w⟩ := w
  exact vM_readProduct_5 O hRm hM rE hE x1 post hQ n15 g2 w
-- readSum
abbrev rM_readSum (rf rl : Nat) : Room := { frames := rf + 22, cells := 0, slots := 0, locals := rl + 520 }
set_option maxHeartbeats 4000000 in
theorem vM_readSum_39 {X : Cx} {z : Nat} {T L : Nat → Nat} {V0 : w_V} {P : w_P} {mb : Nat} {rf rl : Nat} (O : Okc X cX8_readSum RX8 3 none) (hRm : cxR X = rM_readSum rf rl) (hM : mOk (cxE X) T L P mb) (sg : MS) (rE : MS → Int32 → (MS → Prop) → Prop) (hE : ∀ (sg : MS) (x : Int32) (post : MS → Prop), rE sg x post → mMv (cxL X) yX8_readExpression cX8_readExpression 3 none { frames := rf, cells := 0, slots := 0, locals := rl } (cxE X) z T L V0 P mb [.ref mb, .int x] sg post) (x1 : Int32) (t0 : Int32) (post : MS → Prop) (hQ : cxMQ X (va_Qv post (fun u t => wdW (cxE X) (mW z T L V0 P mb u) t.heap) (w_A (cxE X))) 0 0) (kb : MS → Prop) (hkb : ∀ (sg : MS), kb sg → gW X 0 0 z T L (up1 V0 mb sg) P 5 [some (.ref mb), some (.int x1), none] []) (w : jM_readSum_39 sg rE x1 t0 post kb) : gW X 0 0 z T L (up1 V0 mb sg) P 39 [some (.ref mb), some (.int x1), none] [.int t0] := by
  unfold jM_readSum_39 at w
  refine g_istore_n O dX8_readSum_39 (Nat.le_of_ble_eq_true rfl) rfl (lv' := [some (.ref mb), some (.int x1), some (.int t0)]) rfl ?_
  refine g_aload_n O dX8_readSum_40 rfl ?_
  refine gm_Vv (nA := 0) (As := []) (rest := []) O hRm hM.1 (cM_stepOn _ O.2.2.2.2.2.2.2.2 _ _ _ _ _ _ _ hM sg _ w) (lw_V q1934 q1936 qs50 q134 q1937) rfl rfl (by decide +kernel) ⟨(by show 2 + 1 ≤ rf + 22; omega), (by show 8 + (2 + 11) + 33 ≤ rl + 520; omega)⟩ rfl rfl rfl (Nat.le_of_ble_eq_true rfl) dX8_readSum_41 (fun g8 w => ?_)
  refine g_aload_n O dX8_readSum_44 rfl ?_
  refine g_iload_n O dX8_readSum_45 rfl ?_
  refine gm_Vv (nA := 1) (As := [.int x1]) (rest := []) O hRm hM.1 (cM_readProduct _ O.2.2.2.2.2.2.2.2 _ _ _ _ _ _ _ hM rf rl rE hE g8 (x1) _ w) (lw_V q2002 q2004 qs63 q134 q2005) rfl rfl (by decide +kernel) ⟨(by show rf + 21 + 1 ≤ rf + 22; omega), (by show 8 + (3 + 11) + (rl + 460) ≤ rl + 520; omega)⟩ rfl rfl rfl (Nat.le_of_ble_eq_true rfl) dX8_readSum_46 (fun g10 w => ?_)
  refine g_aload_n O dX8_readSum_49 rfl ?_
  refine g_iload_n O dX8_readSum_50 rfl ?_
  refine gm_Vv (nA := 1) (As := [.int t0]) (rest := []) O hRm hM.1 (cM_lay _ O.2.2.2.2.2.2.2.2 _ _ _ _ _ _ _ hM g10 (t0) _ w) (lw_V q2010 q2012 qs65 q134 q2013) rfl rfl (by decide +kernel) ⟨(by show 1 + 1 ≤ rf + 22; omega), (by show 8 + (2 + 11) + 12 ≤ rl + 520; omega)⟩ rfl rfl rfl (Nat.le_of_ble_eq_true rfl) dX8_readSum_51 (fun g12 w => ?_)
  refine g_goto (tgt := 5) O dX8_readSum_54 (by decide) ?_
  refine g_drop [2] (lv' := [some (.ref mb), some (.int x1), none]) rfl ?_
  exact hkb  (g12) w
set_option maxHeartbeats 4000000 in
theorem vM_readSum_23 {X : Cx} {z : Nat} {T L : Nat → Nat} {V0 : w_V} {P : w_P} {mb : Nat} {rf rl : Nat} (O : Okc X cX8_readSum RX8 3 none) (hRm : cxR X = rM_readSum rf rl) (hM : mOk (cxE X) T L P mb) (sg : MS) (rE : MS → Int32 → (MS → Prop) → Prop) (hE : ∀ (sg : MS) (x : Int32) (post : MS → Prop), rE sg x post → mMv (cxL X) yX8_readExpression cX8_readExpression 3 none { frames := rf, cells := 0, slots := 0, locals := rl } (cxE X) z T L V0 P mb [.ref mb, .int x] sg post) (x1 : Int32) (post : MS → Prop) (hQ : cxMQ X (va_Qv post (fun u t => wdW (cxE X) (mW z T L V0 P mb u) t.heap) (w_A (cxE X))) 0 0) (kb : MS → Prop) (hkb : ∀ (sg : MS), kb sg → gW X 0 0 z T L (up1 V0 mb sg) P 5 [some (.ref mb), some (.int x1), none] []) (w : jM_readSum_23 sg rE x1 post kb) : gW X 0 0 z T L (up1 V0 mb sg) P 23 [some (.ref mb), some (.int x1), none] [] := by
  unfold jM_readSum_23 at w
  refine g_aload_n O dX8_readSum_23 rfl ?_
  refine g_bipush (v := 43) O dX8_readSum_24 (by decide) ?_
  refine gm_Vi0 (nA := 1) (As := [.int 43]) (rest := []) O hRm hM.1 (cM_isMarked _ O.2.2.2.2.2.2.2.2 _ _ _ _ _ _ _ hM sg (43) _ w) (lw_V q1985 q1987 qs59 q134 q1988) rfl rfl (by decide +kernel) ⟨(by show 1 + 1 ≤ rf + 22; omega), (by show 8 + (2 + 11) + 12 ≤ rl + 520; omega)⟩ rfl rfl rfl (Nat.le_of_ble_eq_true rfl) dX8_readSum_26 (fun r5 w => ?_)
  refine g_if_eq (tgt := 37) O w dX8_readSum_29 (by decide) (fun w => ?_) (fun w => ?_)
  · refine g_bipush (v := (-21)) O dX8_readSum_37 (by decide) ?_
    exact vM_readSum_39 O hRm hM sg rE hE  x1 (-21) post hQ kb hkb w
  · refine g_bipush (v := (-20)) O dX8_readSum_32 (by decide) ?_
    refine g_goto (tgt := 39) O dX8_readSum_34 (by decide) ?_
    exact vM_readSum_39 O hRm hM sg rE hE  x1 (-20) post hQ kb hkb w
set_option maxHeartbeats 4000000 in
theorem vM_readSum_5 {X : Cx} {z : Nat} {T L : Nat → Nat} {V0 : w_V} {P : w_P} {mb : Nat} {rf rl : Nat} (O : Okc X cX8_readSum RX8 3 none) (hRm : cxR X = rM_readSum rf rl) (hM : mOk (cxE X) T L P mb) (rE : MS → Int32 → (MS → Prop) → Prop) (hE : ∀ (sg : MS) (x : Int32) (post : MS → Prop), rE sg x post → mMv (cxL X) yX8_readExpression cX8_readExpression 3 none { frames := rf, cells := 0, slots := 0, locals := rl } (cxE X) z T L V0 P mb [.ref mb, .int x] sg post) (x1 : Int32) (post : MS → Prop) (hQ : cxMQ X (va_Qv post (fun u t => wdW (cxE X) (mW z T L V0 P mb u) t.heap) (w_A (cxE X))) 0 0)  : ∀ (n : Nat) (sg : MS), lM_readSum_5 rE x1 post n sg → gW X 0 0 z T L (up1 V0 mb sg) P 5 [some (.ref mb), some (.int x1), none] [] := by
  intro n
  induction n with
  | zero =>
    intro sg w
    exact w.elim
  | succ n ih =>
    intro sg w
    unfold lM_readSum_5 at w
    refine g_aload_n O dX8_readSum_5 rfl ?_
    refine g_bipush (v := 43) O dX8_readSum_6 (by decide) ?_
    refine gm_Vi0 (nA := 1) (As := [.int 43]) (rest := []) O hRm hM.1 (cM_isMarked _ O.2.2.2.2.2.2.2.2 _ _ _ _ _ _ _ hM sg (43) _ w) (lw_V q1985 q1987 qs59 q134 q1988) rfl rfl (by decide +kernel) ⟨(by show 1 + 1 ≤ rf + 22; omega), (by show 8 + (2 + 11) + 12 ≤ rl + 520; omega)⟩ rfl rfl rfl (Nat.le_of_ble_eq_true rfl) dX8_readSum_8 (fun r3 w => ?_)
    refine g_if_ne (tgt := 23) O w dX8_readSum_11 (by decide) (fun w => ?_) (fun w => ?_)
    · exact vM_readSum_23 O hRm hM sg rE hE  x1 post hQ (lM_readSum_5 rE x1 post n) ih w
    · refine g_aload_n O dX8_readSum_14 rfl ?_
      refine g_bipush (v := 45) O dX8_readSum_15 (by decide) ?_
      refine gm_Vi0 (nA := 1) (As := [.int 45]) (rest := []) O hRm hM.1 (cM_isMarked _ O.2.2.2.2.2.2.2.2 _ _ _ _ _ _ _ hM sg (45) _ w) (lw_V q1985 q1987 qs59 q134 q1988) rfl rfl (by decide +kernel) ⟨(by show 1 + 1 ≤ rf + 22; omega), (by show 8 + (2 + 11) + 12 ≤ rl + 520; omega)⟩ rfl rfl rfl (Nat.le_of_ble_eq_true rfl) dX8_readSum_17 (fun r13 w => ?_)
      refine g_if_eq (tgt := 57) O w dX8_readSum_20 (by decide) (fun w => ?_) (fun w => ?_)
      · exact gm_vret O hQ w dX8_readSum_57
      · exact vM_readSum_23 O hRm hM sg rE hE  x1 post hQ (lM_readSum_5 rE x1 post n) ih w
set_option maxHeartbeats 4000000 in
theorem cM_readSum (l : Launch) (hfl : l.flags = flags0) (E : w_E) (z : Nat) (T L : Nat → Nat) (V0 : w_V) (P : w_P) (mb : Nat) (hM : mOk E T L P mb) (rf rl : Nat) (rE : MS → Int32 → (MS → Prop) → Prop) (hE : ∀ (sg : MS) (x : Int32) (post : MS → Prop), rE sg x post → mMv l yX8_readExpression cX8_readExpression 3 none { frames := rf, cells := 0, slots := 0, locals := rl } E z T L V0 P mb [.ref mb, .int x] sg post) (sg : MS) (x1 : Int32) (post : MS → Prop) (w : wM_readSum sg rE x1 post) : mMv l yX8_readSum cX8_readSum 3 none (rM_readSum rf rl) E z T L V0 P mb [.ref mb, .int x1] sg post := by
  refine g_start (S := Unit) hfl (by decide +kernel) rfl [some (.ref mb), some (.int x1), none] rfl (fun _ h => h) (Nat.le_of_ble_eq_true rfl) (fun X hl hRm hEe O hQ => ?_)
  subst hl
  subst hEe
  unfold wM_readSum at w
  refine g_aload_n O dX8_readSum_0 rfl ?_
  refine g_iload_n O dX8_readSum_1 rfl ?_
  refine gm_Vv (nA := 1) (As := [.int x1]) (rest := []) O hRm hM.1 (cM_readProduct _ O.2.2.2.2.2.2.2.2 _ _ _ _ _ _ _ hM rf rl rE hE sg (x1) _ w) (lw_V q2002 q2004 qs63 q134 q2005) rfl rfl (by decide +kernel) ⟨(by show rf + 21 + 1 ≤ rf + 22; omega), (by show 8 + (3 + 11) + (rl + 460) ≤ rl + 520; omega)⟩ rfl rfl rfl (Nat.le_of_ble_eq_true rfl) dX8_readSum_2 (fun g2 w => ?_)
  obtain ⟨n15, w⟩ := w
  exact vM_readSum_5 O hRm hM rE hE x1 post hQ n15 g2 w
-- readNot
abbrev rM_readNot (rf rl : Nat) : Room := { frames := rf + 23, cells := 0, slots := 0, locals := rl + 580 }
set_option maxHeartbeats 4000000 in
theorem vM_readNot_22 {X : Cx} {z : Nat} {T L : Nat → Nat} {V0 : w_V} {P : w_P} {mb : Nat} {rf rl : Nat} (O : Okc X cX8_readNot RX8 4 none) (hRm : cxR X = rM_readNot rf rl) (hM : mOk (cxE X) T L P mb) (sg : MS) (rE : MS → Int32 → (MS → Prop) → Prop) (hE : ∀ (sg : MS) (x : Int32) (post : MS → Prop), rE sg x post → mMv (cxL X) yX8_readExpression cX8_readExpression 3 none { frames := rf, cells := 0, slots := 0, locals := rl } (cxE X) z T L V0 P mb [.ref mb, .int x] sg post) (x1 : Int32) (x2 : Int32) (post : MS → Prop) (hQ : cxMQ X (va_Qv post (fun u t => wdW (cxE X) (mW z T L V0 P mb u) t.heap) (w_A (cxE X))) 0 0) (kb : Int32 → MS → Prop) (hkb : ∀ (y2 : Int32) (sg : MS), kb y2 sg → gW X 0 0 z T L (up1 V0 mb sg) P 2 [some (.ref mb), some (.int x1), some (.int y2), none] []) (w : jM_readNot_22 sg rE x1 x2 post kb) : gW X 0 0 z T L (up1 V0 mb sg) P 22 [some (.ref mb), some (.int x1), some (.int x2), none] [] := by
  unfold jM_readNot_22 at w
  refine g_iinc (v := (x2 + 1)) O dX8_readNot_22 rfl rfl rfl (lv' := [some (.ref mb), some (.int x1), some (.int (x2 + 1)), none]) rfl ?_
  refine g_aload_n O dX8_readNot_25 rfl ?_
  refine gm_getI (j := 21) O hM.1 rfl (by decide) q1749 dX8_readNot_26 ?_
  refine g_if_ne (tgt := 2) O w dX8_readNot_29 (by decide) (fun w => ?_) (fun w => ?_)
  · exact hkb ((x2 + 1)) (sg) w
  · refine g_aload_n O dX8_readNot_32 rfl ?_
    refine gm_Vv (nA := 0) (As := []) (rest := []) O hRm hM.1 (cM_stepOn _ O.2.2.2.2.2.2.2.2 _ _ _ _ _ _ _ hM sg _ w) (lw_V q1934 q1936 qs50 q134 q1937) rfl rfl (by decide +kernel) ⟨(by show 2 + 1 ≤ rf + 23; omega), (by show 8 + (2 + 11) + 33 ≤ rl + 580; omega)⟩ rfl rfl rfl (Nat.le_of_ble_eq_true rfl) dX8_readNot_33 (fun g6 w => ?_)
    refine g_goto (tgt := 2) O dX8_readNot_36 (by decide) ?_
    exact hkb ((x2 + 1)) (g6) w
set_option maxHeartbeats 4000000 in
theorem vM_readNot_2 {X : Cx} {z : Nat} {T L : Nat → Nat} {V0 : w_V} {P : w_P} {mb : Nat} {rf rl : Nat} (O : Okc X cX8_readNot RX8 4 none) (hRm : cxR X = rM_readNot rf rl) (hM : mOk (cxE X) T L P mb) (rE : MS → Int32 → (MS → Prop) → Prop) (hE : ∀ (sg : MS) (x : Int32) (post : MS → Prop), rE sg x post → mMv (cxL X) yX8_readExpression cX8_readExpression 3 none { frames := rf, cells := 0, slots := 0, locals := rl } (cxE X) z T L V0 P mb [.ref mb, .int x] sg post) (x1 : Int32) (post : MS → Prop) (hQ : cxMQ X (va_Qv post (fun u t => wdW (cxE X) (mW z T L V0 P mb u) t.heap) (w_A (cxE X))) 0 0) (ke_39 : Int32 → MS → Prop) (hke_39 : ∀ (y2 : Int32) (sg : MS), ke_39 y2 sg → gW X 0 0 z T L (up1 V0 mb sg) P 39 [some (.ref mb), some (.int x1), some (.int y2), none] [])  : ∀ (n : Nat) (x2 : Int32) (sg : MS), lM_readNot_2 rE x1 post ke_39 n x2 sg → gW X 0 0 z T L (up1 V0 mb sg) P 2 [some (.ref mb), some (.int x1), some (.int x2), none] [] := by
  intro n
  induction n with
  | zero =>
    intro x2 sg w
    exact w.elim
  | succ n ih =>
    intro x2 sg w
    unfold lM_readNot_2 at w
    refine g_aload_n O dX8_readNot_2 rfl ?_
    refine gx_ldc (i := 10) (tx := [110, 111, 116]) O rfl rfl dX8_readNot_3 (fun a1 hs2 _ => ?_)
    refine gm_Vi0 (nA := 1) (As := [.ref a1]) (rest := []) O hRm hM.1 (cM_is _ O.2.2.2.2.2.2.2.2 _ _ _ _ _ _ _ hM sg [110, 111, 116] a1 hs2 _ w) (lw_V q1958 q1960 qs53 q134 q1961) rfl rfl (by decide +kernel) ⟨(by show 9 + 1 ≤ rf + 23; omega), (by show 8 + (4 + 11) + 320 ≤ rl + 580; omega)⟩ rfl rfl rfl (Nat.le_of_ble_eq_true rfl) dX8_readNot_5 (fun r3 w => ?_)
    refine g_if_eq (tgt := 39) O w dX8_readNot_8 (by decide) (fun w => ?_) (fun w => ?_)
    · exact hke_39 (x2) (sg) w
    · refine g_iload_n O dX8_readNot_11 rfl ?_
      refine g_bipush (v := 6) O dX8_readNot_12 (by decide) ?_
      refine g_icmp_ne (tgt := 22) O w dX8_readNot_14 (by decide) (fun w => ?_) (fun w => ?_)
      · exact vM_readNot_22 O hRm hM sg rE hE  x1 x2 post hQ (lM_readNot_2 rE x1 post ke_39 n) ih w
      · refine g_aload_n O dX8_readNot_17 rfl ?_
        refine g_iconst (v := 2) O dX8_readNot_18 (by decide) ?_
        refine gm_Vv (nA := 1) (As := [.int 2]) (rest := []) O hRm hM.1 (cM_wrong _ O.2.2.2.2.2.2.2.2 _ _ _ _ _ _ _ hM sg (2) _ w) (lw_V q1969 q1971 qs55 q134 q1972) rfl rfl (by decide +kernel) ⟨(by show 1 + 1 ≤ rf + 23; omega), (by show 8 + (2 + 11) + 12 ≤ rl + 580; omega)⟩ rfl rfl rfl (Nat.le_of_ble_eq_true rfl) dX8_readNot_19 (fun g8 w => ?_)
        exact vM_readNot_22 O hRm hM g8 rE hE  x1 x2 post hQ (lM_readNot_2 rE x1 post ke_39 n) ih w
set_option maxHeartbeats 4000000 in
theorem vM_readNot_95 {X : Cx} {z : Nat} {T L : Nat → Nat} {V0 : w_V} {P : w_P} {mb : Nat} {rf rl : Nat} (O : Okc X cX8_readNot RX8 4 none) (hRm : cxR X = rM_readNot rf rl) (hM : mOk (cxE X) T L P mb) (rE : MS → Int32 → (MS → Prop) → Prop) (hE : ∀ (sg : MS) (x : Int32) (post : MS → Prop), rE sg x post → mMv (cxL X) yX8_readExpression cX8_readExpression 3 none { frames := rf, cells := 0, slots := 0, locals := rl } (cxE X) z T L V0 P mb [.ref mb, .int x] sg post) (x2 : Int32) (post : MS → Prop) (hQ : cxMQ X (va_Qv post (fun u t => wdW (cxE X) (mW z T L V0 P mb u) t.heap) (w_A (cxE X))) 0 0)  : ∀ (n : Nat) (x3 : Int32) (sg : MS), lM_readNot_95 rE x2 post n x3 sg → gW X 0 0 z T L (up1 V0 mb sg) P 95 [some (.ref mb), none, some (.int x2), some (.int x3)] [] := by
  intro n
  induction n with
  | zero =>
    intro x3 sg w
    exact w.elim
  | succ n ih =>
    intro x3 sg w
    unfold lM_readNot_95 at w
    refine g_iload_n O dX8_readNot_95 rfl ?_
    refine g_iload_n O dX8_readNot_96 rfl ?_
    refine g_icmp_ge (tgt := 112) O w dX8_readNot_97 (by decide) (fun w => ?_) (fun w => ?_)
    · exact gm_vret O hQ w dX8_readNot_112
    · refine g_aload_n O dX8_readNot_100 rfl ?_
      refine g_bipush (v := (-28)) O dX8_readNot_101 (by decide) ?_
      refine gm_Vv (nA := 1) (As := [.int (-28)]) (rest := []) O hRm hM.1 (cM_lay _ O.2.2.2.2.2.2.2.2 _ _ _ _ _ _ _ hM sg ((-28)) _ w) (lw_V q2010 q2012 qs65 q134 q2013) rfl rfl (by decide +kernel) ⟨(by show 1 + 1 ≤ rf + 23; omega), (by show 8 + (2 + 11) + 12 ≤ rl + 580; omega)⟩ rfl rfl rfl (Nat.le_of_ble_eq_true rfl) dX8_readNot_103 (fun g24 w => ?_)
      refine g_iinc (v := (x3 + 1)) O dX8_readNot_106 rfl rfl rfl (lv' := [some (.ref mb), none, some (.int x2), some (.int (x3 + 1))]) rfl ?_
      refine g_goto (tgt := 95) O dX8_readNot_109 (by decide) ?_
      exact ih ((x3 + 1)) (g24) w
set_option maxHeartbeats 4000000 in
theorem vM_readNot_93 {X : Cx} {z : Nat} {T L : Nat → Nat} {V0 : w_V} {P : w_P} {mb : Nat} {rf rl : Nat} (O : Okc X cX8_readNot RX8 4 none) (hRm : cxR X = rM_readNot rf rl) (hM : mOk (cxE X) T L P mb) (sg : MS) (rE : MS → Int32 → (MS → Prop) → Prop) (hE : ∀ (sg : MS) (x : Int32) (post : MS → Prop), rE sg x post → mMv (cxL X) yX8_readExpression cX8_readExpression 3 none { frames := rf, cells := 0, slots := 0, locals := rl } (cxE X) z T L V0 P mb [.ref mb, .int x] sg post) (x2 : Int32) (post : MS → Prop) (hQ : cxMQ X (va_Qv post (fun u t => wdW (cxE X) (mW z T L V0 P mb u) t.heap) (w_A (cxE X))) 0 0) (w : jM_readNot_93 sg rE x2 post) : gW X 0 0 z T L (up1 V0 mb sg) P 93 [some (.ref mb), none, some (.int x2), none] [] := by
  unfold jM_readNot_93 at w
  refine g_iconst (v := 0) O dX8_readNot_93 (by decide) ?_
  refine g_istore_n O dX8_readNot_94 (Nat.le_of_ble_eq_true rfl) rfl (lv' := [some (.ref mb), none, some (.int x2), some (.int 0)]) rfl ?_
  obtain ⟨n25, w⟩ := w
  exact vM_readNot_95 O hRm hM rE hE x2 post hQ n25 0 sg w
set_option maxHeartbeats 4000000 in
theorem vM_readNot_78 {X : Cx} {z : Nat} {T L : Nat → Nat} {V0 : w_V} {P : w_P} {mb : Nat} {rf rl : Nat} (O : Okc X cX8_readNot RX8 4 none) (hRm : cxR X = rM_readNot rf rl) (hM : mOk (cxE X) T L P mb) (sg : MS) (rE : MS → Int32 → (MS → Prop) → Prop) (hE : ∀ (sg : MS) (x : Int32) (post : MS → Prop), rE sg x post → mMv (cxL X) yX8_readExpression cX8_readExpression 3 none { frames := rf, cells := 0, slots := 0, locals := rl } (cxE X) z T L V0 P mb [.ref mb, .int x] sg post) (x1 : Int32) (x2 : Int32) (t0 : Int32) (post : MS → Prop) (hQ : cxMQ X (va_Qv post (fun u t => wdW (cxE X) (mW z T L V0 P mb u) t.heap) (w_A (cxE X))) 0 0) (w : jM_readNot_78 sg rE x1 x2 t0 post) : gW X 0 0 z T L (up1 V0 mb sg) P 78 [some (.ref mb), some (.int x1), some (.int x2), none] [.int t0] := by
  unfold jM_readNot_78 at w
  refine g_istore_n O dX8_readNot_78 (Nat.le_of_ble_eq_true rfl) rfl (lv' := [some (.ref mb), some (.int x1), some (.int x2), some (.int t0)]) rfl ?_
  refine g_aload_n O dX8_readNot_79 rfl ?_
  refine gm_Vv (nA := 0) (As := []) (rest := []) O hRm hM.1 (cM_stepOn _ O.2.2.2.2.2.2.2.2 _ _ _ _ _ _ _ hM sg _ w) (lw_V q1934 q1936 qs50 q134 q1937) rfl rfl (by decide +kernel) ⟨(by show 2 + 1 ≤ rf + 23; omega), (by show 8 + (2 + 11) + 33 ≤ rl + 580; omega)⟩ rfl rfl rfl (Nat.le_of_ble_eq_true rfl) dX8_readNot_80 (fun g18 w => ?_)
  refine g_aload_n O dX8_readNot_83 rfl ?_
  refine g_iload_n O dX8_readNot_84 rfl ?_
  refine gm_Vv (nA := 1) (As := [.int x1]) (rest := []) O hRm hM.1 (cM_readSum _ O.2.2.2.2.2.2.2.2 _ _ _ _ _ _ _ hM rf rl rE hE g18 (x1) _ w) (lw_V q1998 q2000 qs62 q134 q2001) rfl rfl (by decide +kernel) ⟨(by show rf + 22 + 1 ≤ rf + 23; omega), (by show 8 + (3 + 11) + (rl + 520) ≤ rl + 580; omega)⟩ rfl rfl rfl (Nat.le_of_ble_eq_true rfl) dX8_readNot_85 (fun g20 w => ?_)
  refine g_aload_n O dX8_readNot_88 rfl ?_
  refine g_iload_n O dX8_readNot_89 rfl ?_
  refine gm_Vv (nA := 1) (As := [.int t0]) (rest := []) O hRm hM.1 (cM_lay _ O.2.2.2.2.2.2.2.2 _ _ _ _ _ _ _ hM g20 (t0) _ w) (lw_V q2010 q2012 qs65 q134 q2013) rfl rfl (by decide +kernel) ⟨(by show 1 + 1 ≤ rf + 23; omega), (by show 8 + (2 + 11) + 12 ≤ rl + 580; omega)⟩ rfl rfl rfl (Nat.le_of_ble_eq_true rfl) dX8_readNot_90 (fun g22 w => ?_)
  refine g_drop [1, 3] (lv' := [some (.ref mb), none, some (.int x2), none]) rfl ?_
  exact vM_readNot_93 O hRm hM g22 rE hE  x2 post hQ w
set_option maxHeartbeats 4000000 in
theorem vM_readNot_62 {X : Cx} {z : Nat} {T L : Nat → Nat} {V0 : w_V} {P : w_P} {mb : Nat} {rf rl : Nat} (O : Okc X cX8_readNot RX8 4 none) (hRm : cxR X = rM_readNot rf rl) (hM : mOk (cxE X) T L P mb) (sg : MS) (rE : MS → Int32 → (MS → Prop) → Prop) (hE : ∀ (sg : MS) (x : Int32) (post : MS → Prop), rE sg x post → mMv (cxL X) yX8_readExpression cX8_readExpression 3 none { frames := rf, cells := 0, slots := 0, locals := rl } (cxE X) z T L V0 P mb [.ref mb, .int x] sg post) (x1 : Int32) (x2 : Int32) (post : MS → Prop) (hQ : cxMQ X (va_Qv post (fun u t => wdW (cxE X) (mW z T L V0 P mb u) t.heap) (w_A (cxE X))) 0 0) (w : jM_readNot_62 sg rE x1 x2 post) : gW X 0 0 z T L (up1 V0 mb sg) P 62 [some (.ref mb), some (.int x1), some (.int x2), none] [] := by
  unfold jM_readNot_62 at w
  refine g_aload_n O dX8_readNot_62 rfl ?_
  refine g_bipush (v := 60) O dX8_readNot_63 (by decide) ?_
  refine gm_Vi0 (nA := 1) (As := [.int 60]) (rest := []) O hRm hM.1 (cM_isMarked _ O.2.2.2.2.2.2.2.2 _ _ _ _ _ _ _ hM sg (60) _ w) (lw_V q1985 q1987 qs59 q134 q1988) rfl rfl (by decide +kernel) ⟨(by show 1 + 1 ≤ rf + 23; omega), (by show 8 + (2 + 11) + 12 ≤ rl + 580; omega)⟩ rfl rfl rfl (Nat.le_of_ble_eq_true rfl) dX8_readNot_65 (fun r15 w => ?_)
  refine g_if_eq (tgt := 76) O w dX8_readNot_68 (by decide) (fun w => ?_) (fun w => ?_)
  · refine g_bipush (v := (-25)) O dX8_readNot_76 (by decide) ?_
    exact vM_readNot_78 O hRm hM sg rE hE  x1 x2 (-25) post hQ w
  · refine g_bipush (v := (-24)) O dX8_readNot_71 (by decide) ?_
    refine g_goto (tgt := 78) O dX8_readNot_73 (by decide) ?_
    exact vM_readNot_78 O hRm hM sg rE hE  x1 x2 (-24) post hQ w
set_option maxHeartbeats 4000000 in
theorem cM_readNot (l : Launch) (hfl : l.flags = flags0) (E : w_E) (z : Nat) (T L : Nat → Nat) (V0 : w_V) (P : w_P) (mb : Nat) (hM : mOk E T L P mb) (rf rl : Nat) (rE : MS → Int32 → (MS → Prop) → Prop) (hE : ∀ (sg : MS) (x : Int32) (post : MS → Prop), rE sg x post → mMv l yX8_readExpression cX8_readExpression 3 none { frames := rf, cells := 0, slots := 0, locals := rl } E z T L V0 P mb [.ref mb, .int x] sg post) (sg : MS) (x1 : Int32) (post : MS → Prop) (w : wM_readNot sg rE x1 post) : mMv l yX8_readNot cX8_readNot 4 none (rM_readNot rf rl) E z T L V0 P mb [.ref mb, .int x1] sg post := by
  refine g_start (S := Unit) hfl (by decide +kernel) rfl [some (.ref mb), some (.int x1), none, none] rfl (fun _ h => h) (Nat.le_of_ble_eq_true rfl) (fun X hl hRm hEe O hQ => ?_)
  subst hl
  subst hEe
  unfold wM_readNot at w
  refine g_iconst (v := 0) O dX8_readNot_0 (by decide) ?_
  refine g_istore_n O dX8_readNot_1 (Nat.le_of_ble_eq_true rfl) rfl (lv' := [some (.ref mb), some (.int x1), some (.int 0), none]) rfl ?_
  obtain ⟨n28, w⟩ := w
  refine vM_readNot_2 O hRm hM rE hE x1 post hQ _ (fun y9 g10 w => ?_) n28 0 sg w
  refine g_aload_n O dX8_readNot_39 rfl ?_
  refine g_iload_n O dX8_readNot_40 rfl ?_
  refine gm_Vv (nA := 1) (As := [.int x1]) (rest := []) O hRm hM.1 (cM_readSum _ O.2.2.2.2.2.2.2.2 _ _ _ _ _ _ _ hM rf rl rE hE g10 (x1) _ w) (lw_V q1998 q2000 qs62 q134 q2001) rfl rfl (by decide +kernel) ⟨(by show rf + 22 + 1 ≤ rf + 23; omega), (by show 8 + (3 + 11) + (rl + 520) ≤ rl + 580; omega)⟩ rfl rfl rfl (Nat.le_of_ble_eq_true rfl) dX8_readNot_41 (fun g12 w => ?_)
  refine g_aload_n O dX8_readNot_44 rfl ?_
  refine g_bipush (v := 60) O dX8_readNot_45 (by decide) ?_
  refine gm_Vi0 (nA := 1) (As := [.int 60]) (rest := []) O hRm hM.1 (cM_isMarked _ O.2.2.2.2.2.2.2.2 _ _ _ _ _ _ _ hM g12 (60) _ w) (lw_V q1985 q1987 qs59 q134 q1988) rfl rfl (by decide +kernel) ⟨(by show 1 + 1 ≤ rf + 23; omega), (by show 8 + (2 + 11) + 12 ≤ rl + 580; omega)⟩ rfl rfl rfl (Nat.le_of_ble_eq_true rfl) dX8_readNot_47 (fun r13 w => ?_)
  refine g_if_ne (tgt := 62) O w dX8_readNot_50 (by decide) (fun w => ?_) (fun w => ?_)
  · exact vM_readNot_62 O hRm hM g12 rE hE  x1 y9 post hQ w
  · refine g_aload_n O dX8_readNot_53 rfl ?_
    refine g_bipush (v := 61) O dX8_readNot_54 (by decide) ?_
    refine gm_Vi0 (nA := 1) (As := [.int 61]) (rest := []) O hRm hM.1 (cM_isMarked _ O.2.2.2.2.2.2.2.2 _ _ _ _ _ _ _ hM g12 (61) _ w) (lw_V q1985 q1987 qs59 q134 q1988) rfl rfl (by decide +kernel) ⟨(by show 1 + 1 ≤ rf + 23; omega), (by show 8 + (2 + 11) + 12 ≤ rl + 580; omega)⟩ rfl rfl rfl (Nat.le_of_ble_eq_true rfl) dX8_readNot_56 (fun r26 w => ?_)
    refine g_if_eq (tgt := 93) O w dX8_readNot_59 (by decide) (fun w => ?_) (fun w => ?_)
    · refine g_drop [1] (lv' := [some (.ref mb), none, some (.int y9), none]) rfl ?_
      exact vM_readNot_93 O hRm hM g12 rE hE  y9 post hQ w
    · exact vM_readNot_62 O hRm hM g12 rE hE  x1 y9 post hQ w
-- readAnd
abbrev rM_readAnd (rf rl : Nat) : Room := { frames := rf + 24, cells := 0, slots := 0, locals := rl + 640 }
set_option maxHeartbeats 4000000 in
theorem vM_readAnd_5 {X : Cx} {z : Nat} {T L : Nat → Nat} {V0 : w_V} {P : w_P} {mb : Nat} {rf rl : Nat} (O : Okc X cX8_readAnd RX8 2 none) (hRm : cxR X = rM_readAnd rf rl) (hM : mOk (cxE X) T L P mb) (rE : MS → Int32 → (MS → Prop) → Prop) (hE : ∀ (sg : MS) (x : Int32) (post : MS → Prop), rE sg x post → mMv (cxL X) yX8_readExpression cX8_readExpression 3 none { frames := rf, cells := 0, slots := 0, locals := rl } (cxE X) z T L V0 P mb [.ref mb, .int x] sg post) (x1 : Int32) (post : MS → Prop) (hQ : cxMQ X (va_Qv post (fun u t => wdW (cxE X) (mW z T L V0 P mb u) t.heap) (w_A (cxE X))) 0 0)  : ∀ (n : Nat) (sg : MS), lM_readAnd_5 rE x1 post n sg → gW X 0 0 z T L (up1 V0 mb sg) P 5 [some (.ref mb), some (.int x1)] [] := by
  intro n
  induction n with
  | zero =>
    intro sg w
    exact w.elim
  | succ n ih =>
    intro sg w
    unfold lM_readAnd_5 at w
    refine g_aload_n O dX8_readAnd_5 rfl ?_
    refine gx_ldcw (i := 11) (tx := [97, 110, 100]) O rfl rfl dX8_readAnd_6 (fun a3 hs4 _ => ?_)
    refine gm_Vi0 (nA := 1) (As := [.ref a3]) (rest := []) O hRm hM.1 (cM_is _ O.2.2.2.2.2.2.2.2 _ _ _ _ _ _ _ hM sg [97, 110, 100] a3 hs4 _ w) (lw_V q1958 q1960 qs53 q134 q1961) rfl rfl (by decide +kernel) ⟨(by show 9 + 1 ≤ rf + 24; omega), (by show 8 + (4 + 11) + 320 ≤ rl + 640; omega)⟩ rfl rfl rfl (Nat.le_of_ble_eq_true rfl) dX8_readAnd_9 (fun r5 w => ?_)
    refine g_if_eq (tgt := 33) O w dX8_readAnd_12 (by decide) (fun w => ?_) (fun w => ?_)
    · exact gm_vret O hQ w dX8_readAnd_33
    · refine g_aload_n O dX8_readAnd_15 rfl ?_
      refine gm_Vv (nA := 0) (As := []) (rest := []) O hRm hM.1 (cM_stepOn _ O.2.2.2.2.2.2.2.2 _ _ _ _ _ _ _ hM sg _ w) (lw_V q1934 q1936 qs50 q134 q1937) rfl rfl (by decide +kernel) ⟨(by show 2 + 1 ≤ rf + 24; omega), (by show 8 + (2 + 11) + 33 ≤ rl + 640; omega)⟩ rfl rfl rfl (Nat.le_of_ble_eq_true rfl) dX8_readAnd_16 (fun g8 w => ?_)
      refine g_aload_n O dX8_readAnd_19 rfl ?_
      refine g_iload_n O dX8_readAnd_20 rfl ?_
      refine gm_Vv (nA := 1) (As := [.int x1]) (rest := []) O hRm hM.1 (cM_readNot _ O.2.2.2.2.2.2.2.2 _ _ _ _ _ _ _ hM rf rl rE hE g8 (x1) _ w) (lw_V q1993 q1995 qs61 q134 q1996) rfl rfl (by decide +kernel) ⟨(by show rf + 23 + 1 ≤ rf + 24; omega), (by show 8 + (4 + 11) + (rl + 580) ≤ rl + 640; omega)⟩ rfl rfl rfl (Nat.le_of_ble_eq_true rfl) dX8_readAnd_21 (fun g10 w => ?_)
      refine g_aload_n O dX8_readAnd_24 rfl ?_
      refine g_bipush (v := (-26)) O dX8_readAnd_25 (by decide) ?_
      refine gm_Vv (nA := 1) (As := [.int (-26)]) (rest := []) O hRm hM.1 (cM_lay _ O.2.2.2.2.2.2.2.2 _ _ _ _ _ _ _ hM g10 ((-26)) _ w) (lw_V q2010 q2012 qs65 q134 q2013) rfl rfl (by decide +kernel) ⟨(by show 1 + 1 ≤ rf + 24; omega), (by show 8 + (2 + 11) + 12 ≤ rl + 640; omega)⟩ rfl rfl rfl (Nat.le_of_ble_eq_true rfl) dX8_readAnd_27 (fun g12 w => ?_)
      refine g_goto (tgt := 5) O dX8_readAnd_30 (by decide) ?_
      exact ih  (g12) w
set_option maxHeartbeats 4000000 in
theorem cM_readAnd (l : Launch) (hfl : l.flags = flags0) (E : w_E) (z : Nat) (T L : Nat → Nat) (V0 : w_V) (P : w_P) (mb : Nat) (hM : mOk E T L P mb) (rf rl : Nat) (rE : MS → Int32 → (MS → Prop) → Prop) (hE : ∀ (sg : MS) (x : Int32) (post : MS → Prop), rE sg x post → mMv l yX8_readExpression cX8_readExpression 3 none { frames := rf, cells := 0, slots := 0, locals := rl } E z T L V0 P mb [.ref mb, .int x] sg post) (sg : MS) (x1 : Int32) (post : MS → Prop) (w : wM_readAnd sg rE x1 post) : mMv l yX8_readAnd cX8_readAnd 2 none (rM_readAnd rf rl) E z T L V0 P mb [.ref mb, .int x1] sg post := by
  refine g_start (S := Unit) hfl (by decide +kernel) rfl [some (.ref mb), some (.int x1)] rfl (fun _ h => h) (Nat.le_of_ble_eq_true rfl) (fun X hl hRm hEe O hQ => ?_)
  subst hl
  subst hEe
  unfold wM_readAnd at w
  refine g_aload_n O dX8_readAnd_0 rfl ?_
  refine g_iload_n O dX8_readAnd_1 rfl ?_
  refine gm_Vv (nA := 1) (As := [.int x1]) (rest := []) O hRm hM.1 (cM_readNot _ O.2.2.2.2.2.2.2.2 _ _ _ _ _ _ _ hM rf rl rE hE sg (x1) _ w) (lw_V q1993 q1995 qs61 q134 q1996) rfl rfl (by decide +kernel) ⟨(by show rf + 23 + 1 ≤ rf + 24; omega), (by show 8 + (4 + 11) + (rl + 580) ≤ rl + 640; omega)⟩ rfl rfl rfl (Nat.le_of_ble_eq_true rfl) dX8_readAnd_2 (fun g2 w => ?_)
  obtain ⟨n13, w⟩ := w
  exact vM_readAnd_5 O hRm hM rE hE x1 post hQ n13 g2 w
-- readExpression
abbrev rM_readExpressionF (rf rl : Nat) : Room := { frames := rf + 25, cells := 0, slots := 0, locals := rl + 700 }
set_option maxHeartbeats 4000000 in
theorem vM_readExpressionF_67 {X : Cx} {z : Nat} {T L : Nat → Nat} {V0 : w_V} {P : w_P} {mb : Nat} {rf rl : Nat} (O : Okc X cX8_readExpression RX8 3 none) (hRm : cxR X = rM_readExpressionF rf rl) (hM : mOk (cxE X) T L P mb) (rE : MS → Int32 → (MS → Prop) → Prop) (hE : ∀ (sg : MS) (x : Int32) (post : MS → Prop), rE sg x post → mMv (cxL X) yX8_readExpression cX8_readExpression 3 none { frames := rf, cells := 0, slots := 0, locals := rl } (cxE X) z T L V0 P mb [.ref mb, .int x] sg post) (x1 : Int32) (post : MS → Prop) (hQ : cxMQ X (va_Qv post (fun u t => wdW (cxE X) (mW z T L V0 P mb u) t.heap) (w_A (cxE X))) 0 0)  : ∀ (n : Nat) (sg : MS), lM_readExpressionF_67 rE x1 post n sg → gW X 0 0 z T L (up1 V0 mb sg) P 67 [some (.ref mb), some (.int x1), none] [] := by
  intro n
  induction n with
  | zero =>
    intro sg w
    exact w.elim
  | succ n ih =>
    intro sg w
    unfold lM_readExpressionF_67 at w
    refine g_aload_n O dX8_readExpression_67 rfl ?_
    refine gx_ldcw (i := 12) (tx := [111, 114]) O rfl rfl dX8_readExpression_68 (fun a3 hs4 _ => ?_)
    refine gm_Vi0 (nA := 1) (As := [.ref a3]) (rest := []) O hRm hM.1 (cM_is _ O.2.2.2.2.2.2.2.2 _ _ _ _ _ _ _ hM sg [111, 114] a3 hs4 _ w) (lw_V q1958 q1960 qs53 q134 q1961) rfl rfl (by decide +kernel) ⟨(by show 9 + 1 ≤ rf + 25; omega), (by show 8 + (4 + 11) + 320 ≤ rl + 700; omega)⟩ rfl rfl rfl (Nat.le_of_ble_eq_true rfl) dX8_readExpression_71 (fun r5 w => ?_)
    refine g_if_eq (tgt := 95) O w dX8_readExpression_74 (by decide) (fun w => ?_) (fun w => ?_)
    · exact gm_vret O hQ w dX8_readExpression_95
    · refine g_aload_n O dX8_readExpression_77 rfl ?_
      refine gm_Vv (nA := 0) (As := []) (rest := []) O hRm hM.1 (cM_stepOn _ O.2.2.2.2.2.2.2.2 _ _ _ _ _ _ _ hM sg _ w) (lw_V q1934 q1936 qs50 q134 q1937) rfl rfl (by decide +kernel) ⟨(by show 2 + 1 ≤ rf + 25; omega), (by show 8 + (2 + 11) + 33 ≤ rl + 700; omega)⟩ rfl rfl rfl (Nat.le_of_ble_eq_true rfl) dX8_readExpression_78 (fun g8 w => ?_)
      refine g_aload_n O dX8_readExpression_81 rfl ?_
      refine g_iload_n O dX8_readExpression_82 rfl ?_
      refine gm_Vv (nA := 1) (As := [.int x1]) (rest := []) O hRm hM.1 (cM_readAnd _ O.2.2.2.2.2.2.2.2 _ _ _ _ _ _ _ hM rf rl rE hE g8 (x1) _ w) (lw_V q1989 q1991 qs60 q134 q1992) rfl rfl (by decide +kernel) ⟨(by show rf + 24 + 1 ≤ rf + 25; omega), (by show 8 + (2 + 11) + (rl + 640) ≤ rl + 700; omega)⟩ rfl rfl rfl (Nat.le_of_ble_eq_true rfl) dX8_readExpression_83 (fun g10 w => ?_)
      refine g_aload_n O dX8_readExpression_86 rfl ?_
      refine g_bipush (v := (-27)) O dX8_readExpression_87 (by decide) ?_
      refine gm_Vv (nA := 1) (As := [.int (-27)]) (rest := []) O hRm hM.1 (cM_lay _ O.2.2.2.2.2.2.2.2 _ _ _ _ _ _ _ hM g10 ((-27)) _ w) (lw_V q2010 q2012 qs65 q134 q2013) rfl rfl (by decide +kernel) ⟨(by show 1 + 1 ≤ rf + 25; omega), (by show 8 + (2 + 11) + 12 ≤ rl + 700; omega)⟩ rfl rfl rfl (Nat.le_of_ble_eq_true rfl) dX8_readExpression_89 (fun g12 w => ?_)
      refine g_goto (tgt := 67) O dX8_readExpression_92 (by decide) ?_
      exact ih  (g12) w
set_option maxHeartbeats 4000000 in
theorem vM_readExpressionF_62 {X : Cx} {z : Nat} {T L : Nat → Nat} {V0 : w_V} {P : w_P} {mb : Nat} {rf rl : Nat} (O : Okc X cX8_readExpression RX8 3 none) (hRm : cxR X = rM_readExpressionF rf rl) (hM : mOk (cxE X) T L P mb) (sg : MS) (rE : MS → Int32 → (MS → Prop) → Prop) (hE : ∀ (sg : MS) (x : Int32) (post : MS → Prop), rE sg x post → mMv (cxL X) yX8_readExpression cX8_readExpression 3 none { frames := rf, cells := 0, slots := 0, locals := rl } (cxE X) z T L V0 P mb [.ref mb, .int x] sg post) (x1 : Int32) (post : MS → Prop) (hQ : cxMQ X (va_Qv post (fun u t => wdW (cxE X) (mW z T L V0 P mb u) t.heap) (w_A (cxE X))) 0 0) (w : jM_readExpressionF_62 sg rE x1 post) : gW X 0 0 z T L (up1 V0 mb sg) P 62 [some (.ref mb), some (.int x1), none] [] := by
  unfold jM_readExpressionF_62 at w
  refine g_aload_n O dX8_readExpression_62 rfl ?_
  refine g_iload_n O dX8_readExpression_63 rfl ?_
  refine gm_Vv (nA := 1) (As := [.int x1]) (rest := []) O hRm hM.1 (cM_readAnd _ O.2.2.2.2.2.2.2.2 _ _ _ _ _ _ _ hM rf rl rE hE sg (x1) _ w) (lw_V q1989 q1991 qs60 q134 q1992) rfl rfl (by decide +kernel) ⟨(by show rf + 24 + 1 ≤ rf + 25; omega), (by show 8 + (2 + 11) + (rl + 640) ≤ rl + 700; omega)⟩ rfl rfl rfl (Nat.le_of_ble_eq_true rfl) dX8_readExpression_64 (fun g2 w => ?_)
  obtain ⟨n13, w⟩ := w
  exact vM_readExpressionF_67 O hRm hM rE hE x1 post hQ n13 g2 w
set_option maxHeartbeats 4000000 in
theorem vM_readExpressionF_38 {X : Cx} {z : Nat} {T L : Nat → Nat} {V0 : w_V} {P : w_P} {mb : Nat} {rf rl : Nat} (O : Okc X cX8_readExpression RX8 3 none) (hRm : cxR X = rM_readExpressionF rf rl) (hM : mOk (cxE X) T L P mb) (sg : MS) (rE : MS → Int32 → (MS → Prop) → Prop) (hE : ∀ (sg : MS) (x : Int32) (post : MS → Prop), rE sg x post → mMv (cxL X) yX8_readExpression cX8_readExpression 3 none { frames := rf, cells := 0, slots := 0, locals := rl } (cxE X) z T L V0 P mb [.ref mb, .int x] sg post) (x1 : Int32) (t0 : Int32) (post : MS → Prop) (hQ : cxMQ X (va_Qv post (fun u t => wdW (cxE X) (mW z T L V0 P mb u) t.heap) (w_A (cxE X))) 0 0) (w : jM_readExpressionF_38 sg rE x1 t0 post) : gW X 0 0 z T L (up1 V0 mb sg) P 38 [some (.ref mb), some (.int x1), none] [.int t0] := by
  unfold jM_readExpressionF_38 at w
  refine g_istore_n O dX8_readExpression_38 (Nat.le_of_ble_eq_true rfl) rfl (lv' := [some (.ref mb), some (.int x1), some (.int t0)]) rfl ?_
  refine g_iload_n O dX8_readExpression_39 rfl ?_
  refine g_if_ne (tgt := 51) O w dX8_readExpression_40 (by decide) (fun w => ?_) (fun w => ?_)
  · refine g_iload_n O dX8_readExpression_51 rfl ?_
    refine g_bipush (v := 6) O dX8_readExpression_52 (by decide) ?_
    refine g_icmp_ne (tgt := 62) O w dX8_readExpression_54 (by decide) (fun w => ?_) (fun w => ?_)
    · refine g_drop [2] (lv' := [some (.ref mb), some (.int x1), none]) rfl ?_
      exact vM_readExpressionF_62 O hRm hM sg rE hE  x1 post hQ w
    · refine g_aload_n O dX8_readExpression_57 rfl ?_
      refine g_iconst (v := 2) O dX8_readExpression_58 (by decide) ?_
      refine gm_Vv (nA := 1) (As := [.int 2]) (rest := []) O hRm hM.1 (cM_wrong _ O.2.2.2.2.2.2.2.2 _ _ _ _ _ _ _ hM sg (2) _ w) (lw_V q1969 q1971 qs55 q134 q1972) rfl rfl (by decide +kernel) ⟨(by show 1 + 1 ≤ rf + 25; omega), (by show 8 + (2 + 11) + 12 ≤ rl + 700; omega)⟩ rfl rfl rfl (Nat.le_of_ble_eq_true rfl) dX8_readExpression_59 (fun g15 w => ?_)
      refine g_drop [2] (lv' := [some (.ref mb), some (.int x1), none]) rfl ?_
      exact vM_readExpressionF_62 O hRm hM g15 rE hE  x1 post hQ w
  · refine g_aload_n O dX8_readExpression_43 rfl ?_
    refine g_iconst (v := 1) O dX8_readExpression_44 (by decide) ?_
    refine gm_Vv (nA := 1) (As := [.int 1]) (rest := []) O hRm hM.1 (cM_wrong _ O.2.2.2.2.2.2.2.2 _ _ _ _ _ _ _ hM sg (1) _ w) (lw_V q1969 q1971 qs55 q134 q1972) rfl rfl (by decide +kernel) ⟨(by show 1 + 1 ≤ rf + 25; omega), (by show 8 + (2 + 11) + 12 ≤ rl + 700; omega)⟩ rfl rfl rfl (Nat.le_of_ble_eq_true rfl) dX8_readExpression_45 (fun g17 w => ?_)
    refine g_goto (tgt := 62) O dX8_readExpression_48 (by decide) ?_
    refine g_drop [2] (lv' := [some (.ref mb), some (.int x1), none]) rfl ?_
    exact vM_readExpressionF_62 O hRm hM g17 rE hE  x1 post hQ w
set_option maxHeartbeats 4000000 in
theorem vM_readExpressionF_33 {X : Cx} {z : Nat} {T L : Nat → Nat} {V0 : w_V} {P : w_P} {mb : Nat} {rf rl : Nat} (O : Okc X cX8_readExpression RX8 3 none) (hRm : cxR X = rM_readExpressionF rf rl) (hM : mOk (cxE X) T L P mb) (sg : MS) (rE : MS → Int32 → (MS → Prop) → Prop) (hE : ∀ (sg : MS) (x : Int32) (post : MS → Prop), rE sg x post → mMv (cxL X) yX8_readExpression cX8_readExpression 3 none { frames := rf, cells := 0, slots := 0, locals := rl } (cxE X) z T L V0 P mb [.ref mb, .int x] sg post) (x1 : Int32) (post : MS → Prop) (hQ : cxMQ X (va_Qv post (fun u t => wdW (cxE X) (mW z T L V0 P mb u) t.heap) (w_A (cxE X))) 0 0) (w : jM_readExpressionF_33 sg rE x1 post) : gW X 0 0 z T L (up1 V0 mb sg) P 33 [some (.ref mb), some (.int x1), none] [] := by
  unfold jM_readExpressionF_33 at w
  refine g_iconst (v := 1) O dX8_readExpression_33 (by decide) ?_
  refine g_goto (tgt := 38) O dX8_readExpression_34 (by decide) ?_
  exact vM_readExpressionF_38 O hRm hM sg rE hE  x1 1 post hQ w
set_option maxHeartbeats 4000000 in
theorem cM_readExpressionF (l : Launch) (hfl : l.flags = flags0) (E : w_E) (z : Nat) (T L : Nat → Nat) (V0 : w_V) (P : w_P) (mb : Nat) (hM : mOk E T L P mb) (rf rl : Nat) (rE : MS → Int32 → (MS → Prop) → Prop) (hE : ∀ (sg : MS) (x : Int32) (post : MS → Prop), rE sg x post → mMv l yX8_readExpression cX8_readExpression 3 none { frames := rf, cells := 0, slots := 0, locals := rl } E z T L V0 P mb [.ref mb, .int x] sg post) (sg : MS) (x1 : Int32) (post : MS → Prop) (w : wM_readExpressionF sg rE x1 post) : mMv l yX8_readExpression cX8_readExpression 3 none (rM_readExpressionF rf rl) E z T L V0 P mb [.ref mb, .int x1] sg post := by
  refine g_start (S := Unit) hfl (by decide +kernel) rfl [some (.ref mb), some (.int x1), none] rfl (fun _ h => h) (Nat.le_of_ble_eq_true rfl) (fun X hl hRm hEe O hQ => ?_)
  subst hl
  subst hEe
  unfold wM_readExpressionF at w
  refine g_aload_n O dX8_readExpression_0 rfl ?_
  refine gm_getI (j := 21) O hM.1 rfl (by decide) q1749 dX8_readExpression_1 ?_
  refine g_if_eq (tgt := 8) O w dX8_readExpression_4 (by decide) (fun w => ?_) (fun w => ?_)
  · refine g_aload_n O dX8_readExpression_8 rfl ?_
    refine gm_getI (j := 17) O hM.1 rfl (by decide) q1745 dX8_readExpression_9 ?_
    refine g_iconst (v := 2) O dX8_readExpression_12 (by decide) ?_
    refine g_icmp_eq (tgt := 33) O w dX8_readExpression_13 (by decide) (fun w => ?_) (fun w => ?_)
    · exact vM_readExpressionF_33 O hRm hM sg rE hE  x1 post hQ w
    · refine g_aload_n O dX8_readExpression_16 rfl ?_
      refine gm_getI (j := 17) O hM.1 rfl (by decide) q1745 dX8_readExpression_17 ?_
      refine g_iconst (v := 1) O dX8_readExpression_20 (by decide) ?_
      refine g_icmp_eq (tgt := 33) O w dX8_readExpression_21 (by decide) (fun w => ?_) (fun w => ?_)
      · exact vM_readExpressionF_33 O hRm hM sg rE hE  x1 post hQ w
      · refine g_aload_n O dX8_readExpression_24 rfl ?_
        refine g_bipush (v := 40) O dX8_readExpression_25 (by decide) ?_
        refine gm_Vi0 (nA := 1) (As := [.int 40]) (rest := []) O hRm hM.1 (cM_isMarked _ O.2.2.2.2.2.2.2.2 _ _ _ _ _ _ _ hM sg (40) _ w) (lw_V q1985 q1987 qs59 q134 q1988) rfl rfl (by decide +kernel) ⟨(by show 1 + 1 ≤ rf + 25; omega), (by show 8 + (2 + 11) + 12 ≤ rl + 700; omega)⟩ rfl rfl rfl (Nat.le_of_ble_eq_true rfl) dX8_readExpression_27 (fun r18 w => ?_)
        refine g_if_eq (tgt := 37) O w dX8_readExpression_30 (by decide) (fun w => ?_) (fun w => ?_)
        · refine g_iconst (v := 0) O dX8_readExpression_37 (by decide) ?_
          exact vM_readExpressionF_38 O hRm hM sg rE hE  x1 0 post hQ w
        · exact vM_readExpressionF_33 O hRm hM sg rE hE  x1 post hQ w
  · exact gm_vret O hQ w dX8_readExpression_7
def rM_readExpression : Nat → Room
  | 0 => { frames := 1, cells := 0, slots := 0, locals := 12 }
  | d + 1 => rM_readExpressionF (rM_readExpression d).frames (rM_readExpression d).locals
theorem cM_readExpression (l : Launch) (hfl : l.flags = flags0) (E : w_E) (z : Nat) (T L : Nat → Nat) (V0 : w_V) (P : w_P) (mb : Nat) (hM : mOk E T L P mb) (d : Nat) : ∀ (sg : MS) (x1 : Int32) (post : MS → Prop) (_ : wM_readExpression d sg x1 post), mMv l yX8_readExpression cX8_readExpression 3 none (rM_readExpression d) E z T L V0 P mb [.ref mb, .int x1] sg post := by
  induction d with
  | zero =>
    intro sg x1 post w
    exact w.elim
  | succ d ih =>
    intro sg x1 post w
    refine cM_readExpressionF l hfl E z T L V0 P mb hM (rM_readExpression d).frames (rM_readExpression d).locals (wM_readExpression d) (fun sg x post w => ?_) sg x1 post w
    have h := ih sg x post w
    rw [show ({ frames := (rM_readExpression d).frames, cells := 0, slots := 0, locals := (rM_readExpression d).locals } : Room) = rM_readExpression d by cases d <;> rfl]
    exact h
-- readLine
abbrev rM_readLine : Room := { frames := 301, cells := 0, slots := 0, locals := 5634 }
set_option maxHeartbeats 4000000 in
theorem vM_readLine_163 {X : Cx} {z : Nat} {T L : Nat → Nat} {V0 : w_V} {P : w_P} {mb : Nat} (O : Okc X cX8_readLine RX8 4 (some .int)) (hRm : cxR X = rM_readLine) (hM : mOk (cxE X) T L P mb) (sg : MS) (x1 : Int32) (x2 : Int32) (post : Int32 → MS → Prop) (hQ : cxMQ X (va_Qi post (fun u t => wdW (cxE X) (mW z T L V0 P mb u) t.heap) (w_A (cxE X))) 0 0) (w : jM_readLine_163 sg x1 x2 post) : gW X 0 0 z T L (up1 V0 mb sg) P 163 [some (.ref mb), some (.int x1), some (.int x2), none] [] := by
  unfold jM_readLine_163 at w
  refine g_aload_n O dX8_readLine_163 rfl ?_
  refine g_bipush (v := 59) O dX8_readLine_164 (by decide) ?_
  refine gm_Vv (nA := 1) (As := [.int 59]) (rest := []) O hRm hM.1 (cM_mark _ O.2.2.2.2.2.2.2.2 _ _ _ _ _ _ _ hM sg (59) _ w) (lw_V q2014 q2016 qs66 q134 q2017) rfl rfl (by decide +kernel) ⟨Nat.le_of_ble_eq_true rfl, Nat.le_of_ble_eq_true rfl⟩ rfl rfl rfl (Nat.le_of_ble_eq_true rfl) dX8_readLine_166 (fun g29 w => ?_)
  refine g_iload_n O dX8_readLine_169 rfl ?_
  refine g_iload_n O dX8_readLine_170 rfl ?_
  refine g_ior O dX8_readLine_171 ?_
  exact gm_iret O hQ rfl w dX8_readLine_172
set_option maxHeartbeats 4000000 in
theorem vM_readLine_65 {X : Cx} {z : Nat} {T L : Nat → Nat} {V0 : w_V} {P : w_P} {mb : Nat} (O : Okc X cX8_readLine RX8 4 (some .int)) (hRm : cxR X = rM_readLine) (hM : mOk (cxE X) T L P mb) (sg : MS) (x1 : Int32) (x2 : Int32) (post : Int32 → MS → Prop) (hQ : cxMQ X (va_Qi post (fun u t => wdW (cxE X) (mW z T L V0 P mb u) t.heap) (w_A (cxE X))) 0 0) (w : jM_readLine_65 sg x1 x2 post) : gW X 0 0 z T L (up1 V0 mb sg) P 65 [some (.ref mb), some (.int x1), some (.int x2), none] [] := by
  unfold jM_readLine_65 at w
  refine g_iload_n O dX8_readLine_65 rfl ?_
  refine g_iconst (v := 1) O dX8_readLine_66 (by decide) ?_
  refine g_icmp_ne (tgt := 87) O w dX8_readLine_67 (by decide) (fun w => ?_) (fun w => ?_)
  · refine g_aload_n O dX8_readLine_87 rfl ?_
    refine g_iconst (v := 0) O dX8_readLine_88 (by decide) ?_
    refine gm_Vv (nA := 1) (As := [.int 0]) (rest := []) O hRm hM.1 (cM_readExpression _ O.2.2.2.2.2.2.2.2 _ _ _ _ _ _ _ hM 7 sg (0) _ w) (lw_V q1981 q1983 qs58 q134 q1984) rfl rfl (by decide +kernel) ⟨Nat.le_of_ble_eq_true rfl, Nat.le_of_ble_eq_true rfl⟩ rfl rfl rfl (Nat.le_of_ble_eq_true rfl) dX8_readLine_89 (fun g39 w => ?_)
    refine g_goto (tgt := 163) O dX8_readLine_92 (by decide) ?_
    exact vM_readLine_163 O hRm hM g39  x1 x2 post hQ w
  · refine g_aload_n O dX8_readLine_70 rfl ?_
    refine gm_getA (j := 3) O hM.1 rfl (by decide) q1731 dX8_readLine_71 ?_
    refine g_bipush (v := 10) O dX8_readLine_74 (by decide) ?_
    refine g_aload_n O dX8_readLine_76 rfl ?_
    refine g_iconst (v := 1) O dX8_readLine_77 (by decide) ?_
    refine g_bipush (v := 40) O dX8_readLine_78 (by decide) ?_
    refine gm_Vi (nA := 2) (As := [.int 1, .int 40]) (rest := [.int 10, .ref (mb + 3)]) O hRm hM.1 (cM_readNumber _ O.2.2.2.2.2.2.2.2 _ _ _ _ _ _ _ hM sg (1) (40) _ w) (lw_V q1973 q1975 qs56 q134 q1976) rfl rfl (by decide +kernel) ⟨Nat.le_of_ble_eq_true rfl, Nat.le_of_ble_eq_true rfl⟩ rfl rfl rfl (Nat.le_of_ble_eq_true rfl) dX8_readLine_80 (fun r40 g41 w => ?_)
    refine gm_ast (j := 3) (len := 14) (nn := 10) O hM.1 rfl (by decide) (by decide) rfl dX8_readLine_83 ?_
    refine g_goto (tgt := 163) O dX8_readLine_84 (by decide) ?_
    exact vM_readLine_163 O hRm hM (s2 g41 4 10 r40)  x1 x2 post hQ w
set_option maxHeartbeats 4000000 in
theorem vM_readLine_50 {X : Cx} {z : Nat} {T L : Nat → Nat} {V0 : w_V} {P : w_P} {mb : Nat} (O : Okc X cX8_readLine RX8 4 (some .int)) (hRm : cxR X = rM_readLine) (hM : mOk (cxE X) T L P mb) (sg : MS) (x1 : Int32) (x2 : Int32) (x3 : Int32) (post : Int32 → MS → Prop) (hQ : cxMQ X (va_Qi post (fun u t => wdW (cxE X) (mW z T L V0 P mb u) t.heap) (w_A (cxE X))) 0 0) (w : jM_readLine_50 sg x1 x2 x3 post) : gW X 0 0 z T L (up1 V0 mb sg) P 50 [some (.ref mb), some (.int x1), some (.int x2), some (.int x3)] [] := by
  unfold jM_readLine_50 at w
  refine g_iload_n O dX8_readLine_50 rfl ?_
  refine g_if_le (tgt := 95) O w dX8_readLine_51 (by decide) (fun w => ?_) (fun w => ?_)
  · refine g_iload_n O dX8_readLine_95 rfl ?_
    refine g_iconst (v := (-1)) O dX8_readLine_96 (by decide) ?_
    refine g_icmp_eq (tgt := 108) O w dX8_readLine_97 (by decide) (fun w => ?_) (fun w => ?_)
    · refine g_aload_n O dX8_readLine_108 rfl ?_
      refine gx_ldc (i := 6) (tx := [116, 111, 119, 110]) O rfl rfl dX8_readLine_109 (fun a14 hs15 _ => ?_)
      refine gm_Vi0 (nA := 1) (As := [.ref a14]) (rest := []) O hRm hM.1 (cM_is _ O.2.2.2.2.2.2.2.2 _ _ _ _ _ _ _ hM sg [116, 111, 119, 110] a14 hs15 _ w) (lw_V q1958 q1960 qs53 q134 q1961) rfl rfl (by decide +kernel) ⟨Nat.le_of_ble_eq_true rfl, Nat.le_of_ble_eq_true rfl⟩ rfl rfl rfl (Nat.le_of_ble_eq_true rfl) dX8_readLine_111 (fun r16 w => ?_)
      refine g_if_eq (tgt := 124) O w dX8_readLine_114 (by decide) (fun w => ?_) (fun w => ?_)
      · refine g_aload_n O dX8_readLine_124 rfl ?_
        refine gx_ldcw (i := 14) (tx := [114, 111, 97, 100]) O rfl rfl dX8_readLine_125 (fun a18 hs19 _ => ?_)
        refine gm_Vi0 (nA := 1) (As := [.ref a18]) (rest := []) O hRm hM.1 (cM_is _ O.2.2.2.2.2.2.2.2 _ _ _ _ _ _ _ hM sg [114, 111, 97, 100] a18 hs19 _ w) (lw_V q1958 q1960 qs53 q134 q1961) rfl rfl (by decide +kernel) ⟨Nat.le_of_ble_eq_true rfl, Nat.le_of_ble_eq_true rfl⟩ rfl rfl rfl (Nat.le_of_ble_eq_true rfl) dX8_readLine_128 (fun r20 w => ?_)
        refine g_if_eq (tgt := 141) O w dX8_readLine_131 (by decide) (fun w => ?_) (fun w => ?_)
        · refine g_aload_n O dX8_readLine_141 rfl ?_
          refine gx_ldcw (i := 15) (tx := [99, 97, 115, 101]) O rfl rfl dX8_readLine_142 (fun a22 hs23 _ => ?_)
          refine gm_Vi0 (nA := 1) (As := [.ref a22]) (rest := []) O hRm hM.1 (cM_is _ O.2.2.2.2.2.2.2.2 _ _ _ _ _ _ _ hM sg [99, 97, 115, 101] a22 hs23 _ w) (lw_V q1958 q1960 qs53 q134 q1961) rfl rfl (by decide +kernel) ⟨Nat.le_of_ble_eq_true rfl, Nat.le_of_ble_eq_true rfl⟩ rfl rfl rfl (Nat.le_of_ble_eq_true rfl) dX8_readLine_145 (fun r24 w => ?_)
          refine g_if_eq (tgt := 158) O w dX8_readLine_148 (by decide) (fun w => ?_) (fun w => ?_)
          · refine g_aload_n O dX8_readLine_158 rfl ?_
            refine g_iconst (v := 1) O dX8_readLine_159 (by decide) ?_
            refine gm_Vv (nA := 1) (As := [.int 1]) (rest := []) O hRm hM.1 (cM_wrong _ O.2.2.2.2.2.2.2.2 _ _ _ _ _ _ _ hM sg (1) _ w) (lw_V q1969 q1971 qs55 q134 q1972) rfl rfl (by decide +kernel) ⟨Nat.le_of_ble_eq_true rfl, Nat.le_of_ble_eq_true rfl⟩ rfl rfl rfl (Nat.le_of_ble_eq_true rfl) dX8_readLine_160 (fun g27 w => ?_)
            refine g_drop [3] (lv' := [some (.ref mb), some (.int x1), some (.int x2), none]) rfl ?_
            exact vM_readLine_163 O hRm hM g27  x1 x2 post hQ w
          · refine g_aload_n O dX8_readLine_151 rfl ?_
            refine gm_Vv (nA := 0) (As := []) (rest := []) O hRm hM.1 (cM_readCase _ O.2.2.2.2.2.2.2.2 _ _ _ _ _ _ _ hM sg _ w) (lw_V q2046 q2048 qs72 q134 q2049) rfl rfl (by decide +kernel) ⟨Nat.le_of_ble_eq_true rfl, Nat.le_of_ble_eq_true rfl⟩ rfl rfl rfl (Nat.le_of_ble_eq_true rfl) dX8_readLine_152 (fun g31 w => ?_)
            refine g_goto (tgt := 163) O dX8_readLine_155 (by decide) ?_
            refine g_drop [3] (lv' := [some (.ref mb), some (.int x1), some (.int x2), none]) rfl ?_
            exact vM_readLine_163 O hRm hM g31  x1 x2 post hQ w
        · refine g_aload_n O dX8_readLine_134 rfl ?_
          refine gm_Vv (nA := 0) (As := []) (rest := []) O hRm hM.1 (cM_readRoad _ O.2.2.2.2.2.2.2.2 _ _ _ _ _ _ _ hM sg _ w) (lw_V q2041 q2043 qs71 q134 q2044) rfl rfl (by decide +kernel) ⟨Nat.le_of_ble_eq_true rfl, Nat.le_of_ble_eq_true rfl⟩ rfl rfl rfl (Nat.le_of_ble_eq_true rfl) dX8_readLine_135 (fun g33 w => ?_)
          refine g_goto (tgt := 163) O dX8_readLine_138 (by decide) ?_
          refine g_drop [3] (lv' := [some (.ref mb), some (.int x1), some (.int x2), none]) rfl ?_
          exact vM_readLine_163 O hRm hM g33  x1 x2 post hQ w
      · refine g_aload_n O dX8_readLine_117 rfl ?_
        refine gm_Vv (nA := 0) (As := []) (rest := []) O hRm hM.1 (cM_readTown _ O.2.2.2.2.2.2.2.2 _ _ _ _ _ _ _ hM sg _ w) (lw_V q2035 q2037 qs70 q134 q2038) rfl rfl (by decide +kernel) ⟨Nat.le_of_ble_eq_true rfl, Nat.le_of_ble_eq_true rfl⟩ rfl rfl rfl (Nat.le_of_ble_eq_true rfl) dX8_readLine_118 (fun g35 w => ?_)
        refine g_goto (tgt := 163) O dX8_readLine_121 (by decide) ?_
        refine g_drop [3] (lv' := [some (.ref mb), some (.int x1), some (.int x2), none]) rfl ?_
        exact vM_readLine_163 O hRm hM g35  x1 x2 post hQ w
    · refine g_aload_n O dX8_readLine_100 rfl ?_
      refine g_iload_n O dX8_readLine_101 rfl ?_
      refine gm_Vv (nA := 1) (As := [.int x3]) (rest := []) O hRm hM.1 (cM_readJudge _ O.2.2.2.2.2.2.2.2 _ _ _ _ _ _ _ hM sg (x3) _ w) (lw_V q2020 q2022 qs67 q134 q2023) rfl rfl (by decide +kernel) ⟨Nat.le_of_ble_eq_true rfl, Nat.le_of_ble_eq_true rfl⟩ rfl rfl rfl (Nat.le_of_ble_eq_true rfl) dX8_readLine_102 (fun g37 w => ?_)
      refine g_goto (tgt := 163) O dX8_readLine_105 (by decide) ?_
      refine g_drop [3] (lv' := [some (.ref mb), some (.int x1), some (.int x2), none]) rfl ?_
      exact vM_readLine_163 O hRm hM g37  x1 x2 post hQ w
  · refine g_aload_n O dX8_readLine_54 rfl ?_
    refine gm_getI (j := 21) O hM.1 rfl (by decide) q1749 dX8_readLine_55 ?_
    refine g_if_ne (tgt := 65) O w dX8_readLine_58 (by decide) (fun w => ?_) (fun w => ?_)
    · refine g_drop [3] (lv' := [some (.ref mb), some (.int x1), some (.int x2), none]) rfl ?_
      exact vM_readLine_65 O hRm hM sg  x1 x2 post hQ w
    · refine g_aload_n O dX8_readLine_61 rfl ?_
      refine gm_Vv (nA := 0) (As := []) (rest := []) O hRm hM.1 (cM_stepOn _ O.2.2.2.2.2.2.2.2 _ _ _ _ _ _ _ hM sg _ w) (lw_V q1934 q1936 qs50 q134 q1937) rfl rfl (by decide +kernel) ⟨Nat.le_of_ble_eq_true rfl, Nat.le_of_ble_eq_true rfl⟩ rfl rfl rfl (Nat.le_of_ble_eq_true rfl) dX8_readLine_62 (fun g43 w => ?_)
      refine g_drop [3] (lv' := [some (.ref mb), some (.int x1), some (.int x2), none]) rfl ?_
      exact vM_readLine_65 O hRm hM g43  x1 x2 post hQ w
set_option maxHeartbeats 4000000 in
theorem vM_readLine_29 {X : Cx} {z : Nat} {T L : Nat → Nat} {V0 : w_V} {P : w_P} {mb : Nat} (O : Okc X cX8_readLine RX8 4 (some .int)) (hRm : cxR X = rM_readLine) (hM : mOk (cxE X) T L P mb) (sg : MS) (x1 : Int32) (t0 : Int32) (post : Int32 → MS → Prop) (hQ : cxMQ X (va_Qi post (fun u t => wdW (cxE X) (mW z T L V0 P mb u) t.heap) (w_A (cxE X))) 0 0) (w : jM_readLine_29 sg x1 t0 post) : gW X 0 0 z T L (up1 V0 mb sg) P 29 [some (.ref mb), some (.int x1), none, none] [.int t0] := by
  unfold jM_readLine_29 at w
  refine g_istore_n O dX8_readLine_29 (Nat.le_of_ble_eq_true rfl) rfl (lv' := [some (.ref mb), some (.int x1), some (.int t0), none]) rfl ?_
  refine g_aload_n O dX8_readLine_30 rfl ?_
  refine g_aload_n O dX8_readLine_31 rfl ?_
  obtain ⟨a9, hp10, hs11⟩ := hM.2.1
  refine gm_getR (j := 0) O hM.1 rfl hp10 (by decide) q1728 dX8_readLine_32 ?_
  refine gm_Vi0 (nA := 1) (As := [.ref a9]) (rest := []) O hRm hM.1 (cM_which _ O.2.2.2.2.2.2.2.2 _ _ _ _ _ _ _ hM sg [[106, 117, 100, 103, 101], [100, 101, 97, 102], [119, 105, 115, 101]] a9 hs11 _ w) (lw_V q1965 q1967 qs54 q134 q1968) rfl rfl (by decide +kernel) ⟨Nat.le_of_ble_eq_true rfl, Nat.le_of_ble_eq_true rfl⟩ rfl rfl rfl (Nat.le_of_ble_eq_true rfl) dX8_readLine_35 (fun r12 w => ?_)
  refine g_istore_n O dX8_readLine_38 (Nat.le_of_ble_eq_true rfl) rfl (lv' := [some (.ref mb), some (.int x1), some (.int t0), some (.int r12)]) rfl ?_
  refine g_iload_n O dX8_readLine_39 rfl ?_
  refine g_iload_n O dX8_readLine_40 rfl ?_
  refine g_iand O dX8_readLine_41 ?_
  refine g_if_eq (tgt := 50) O w dX8_readLine_42 (by decide) (fun w => ?_) (fun w => ?_)
  · exact vM_readLine_50 O hRm hM sg  x1 t0 r12 post hQ w
  · refine g_aload_n O dX8_readLine_45 rfl ?_
    refine g_iconst (v := 5) O dX8_readLine_46 (by decide) ?_
    refine gm_Vv (nA := 1) (As := [.int 5]) (rest := []) O hRm hM.1 (cM_wrong _ O.2.2.2.2.2.2.2.2 _ _ _ _ _ _ _ hM sg (5) _ w) (lw_V q1969 q1971 qs55 q134 q1972) rfl rfl (by decide +kernel) ⟨Nat.le_of_ble_eq_true rfl, Nat.le_of_ble_eq_true rfl⟩ rfl rfl rfl (Nat.le_of_ble_eq_true rfl) dX8_readLine_47 (fun g45 w => ?_)
    exact vM_readLine_50 O hRm hM g45  x1 t0 r12 post hQ w
set_option maxHeartbeats 4000000 in
theorem cM_readLine (l : Launch) (hfl : l.flags = flags0) (E : w_E) (z : Nat) (T L : Nat → Nat) (V0 : w_V) (P : w_P) (mb : Nat) (hM : mOk E T L P mb) (sg : MS) (x1 : Int32) (post : Int32 → MS → Prop) (w : wM_readLine sg x1 post) : mMi l yX8_readLine cX8_readLine 4 (some .int) rM_readLine E z T L V0 P mb [.ref mb, .int x1] sg post := by
  refine g_start (S := Unit) hfl (by decide +kernel) rfl [some (.ref mb), some (.int x1), none, none] rfl (fun _ h => h) (Nat.le_of_ble_eq_true rfl) (fun X hl hRm hEe O hQ => ?_)
  subst hl
  subst hEe
  unfold wM_readLine at w
  refine g_aload_n O dX8_readLine_0 rfl ?_
  refine gx_ldcw (i := 8) (tx := [103, 111, 115, 115, 105, 112]) O rfl rfl dX8_readLine_1 (fun a1 hs2 _ => ?_)
  refine gm_Vi0 (nA := 1) (As := [.ref a1]) (rest := []) O hRm hM.1 (cM_is _ O.2.2.2.2.2.2.2.2 _ _ _ _ _ _ _ hM sg [103, 111, 115, 115, 105, 112] a1 hs2 _ w) (lw_V q1958 q1960 qs53 q134 q1961) rfl rfl (by decide +kernel) ⟨Nat.le_of_ble_eq_true rfl, Nat.le_of_ble_eq_true rfl⟩ rfl rfl rfl (Nat.le_of_ble_eq_true rfl) dX8_readLine_4 (fun r3 w => ?_)
  refine g_if_eq (tgt := 14) O w dX8_readLine_7 (by decide) (fun w => ?_) (fun w => ?_)
  · refine g_aload_n O dX8_readLine_14 rfl ?_
    refine gx_ldcw (i := 9) (tx := [108, 97, 119]) O rfl rfl dX8_readLine_15 (fun a5 hs6 _ => ?_)
    refine gm_Vi0 (nA := 1) (As := [.ref a5]) (rest := []) O hRm hM.1 (cM_is _ O.2.2.2.2.2.2.2.2 _ _ _ _ _ _ _ hM sg [108, 97, 119] a5 hs6 _ w) (lw_V q1958 q1960 qs53 q134 q1961) rfl rfl (by decide +kernel) ⟨Nat.le_of_ble_eq_true rfl, Nat.le_of_ble_eq_true rfl⟩ rfl rfl rfl (Nat.le_of_ble_eq_true rfl) dX8_readLine_18 (fun r7 w => ?_)
    refine g_if_eq (tgt := 28) O w dX8_readLine_21 (by decide) (fun w => ?_) (fun w => ?_)
    · refine g_iconst (v := 0) O dX8_readLine_28 (by decide) ?_
      exact vM_readLine_29 O hRm hM sg  x1 0 post hQ w
    · refine g_iconst (v := 2) O dX8_readLine_24 (by decide) ?_
      refine g_goto (tgt := 29) O dX8_readLine_25 (by decide) ?_
      exact vM_readLine_29 O hRm hM sg  x1 2 post hQ w
  · refine g_iconst (v := 1) O dX8_readLine_10 (by decide) ?_
    refine g_goto (tgt := 29) O dX8_readLine_11 (by decide) ?_
    exact vM_readLine_29 O hRm hM sg  x1 1 post hQ w
-- takeHalf
abbrev rM_takeHalf : Room := { frames := 1, cells := 0, slots := 0, locals := 12 }
set_option maxHeartbeats 4000000 in
theorem vM_takeHalf_2 {X : Cx} {z : Nat} {T L : Nat → Nat} {V0 : w_V} {P : w_P} {mb : Nat} (O : Okc X cX8_takeHalf RX8 2 none) (hRm : cxR X = rM_takeHalf) (hM : mOk (cxE X) T L P mb) (a0 o0 n0 : Nat) (h0 : aOk a0 o0 n0) (post : MS → Prop) (hQ : cxMQ X (va_Qv post (fun u t => wdW (cxE X) (mW z T L V0 P mb u) t.heap) (w_A (cxE X))) 0 0)  : ∀ (n : Nat) (x1 : Int32) (sg : MS), lM_takeHalf_2 a0 n0 post n x1 sg → gW X 0 0 z T L (up1 V0 mb sg) P 2 [some (.ref (mb + o0)), some (.int x1)] [] := by
  intro n
  induction n with
  | zero =>
    intro x1 sg w
    exact w.elim
  | succ n ih =>
    intro x1 sg w
    unfold lM_takeHalf_2 at w
    refine g_iload_n O dX8_takeHalf_2 rfl ?_
    refine g_aload_n O dX8_takeHalf_3 rfl ?_
    refine gm_alen (j := a0) (len := n0) O hM.1 h0.1 dX8_takeHalf_4 ?_
    refine g_iconst (v := 2) O dX8_takeHalf_5 (by decide) ?_
    refine g_idiv O (by decide) dX8_takeHalf_6 ?_
    refine g_icmp_ge (tgt := 27) O w dX8_takeHalf_7 (by decide) (fun w => ?_) (fun w => ?_)
    · exact gm_vret O hQ w dX8_takeHalf_27
    · refine g_aload_n O dX8_takeHalf_10 rfl ?_
      refine g_iload_n O dX8_takeHalf_11 rfl ?_
      refine g_aload_n O dX8_takeHalf_12 rfl ?_
      refine g_aload_n O dX8_takeHalf_13 rfl ?_
      refine gm_alen (j := a0) (len := n0) O hM.1 h0.1 dX8_takeHalf_14 ?_
      refine g_iconst (v := 2) O dX8_takeHalf_15 (by decide) ?_
      refine g_idiv O (by decide) dX8_takeHalf_16 ?_
      refine g_iload_n O dX8_takeHalf_17 rfl ?_
      refine g_iadd O dX8_takeHalf_18 ?_
      obtain ⟨i1, hi2, e3, w⟩ := w
      refine gm_ald (j := a0) (len := n0) (nn := i1) O hM.1 h0.1 hi2 h0.2 e3 dX8_takeHalf_19 ?_
      obtain ⟨i4, hi5, e6, w⟩ := w
      refine gm_ast (j := a0) (len := n0) (nn := i4) O hM.1 h0.1 hi5 h0.2 e6 dX8_takeHalf_20 ?_
      refine g_iinc (v := (x1 + 1)) O dX8_takeHalf_21 rfl rfl rfl (lv' := [some (.ref (mb + o0)), some (.int (x1 + 1))]) rfl ?_
      refine g_goto (tgt := 2) O dX8_takeHalf_24 (by decide) ?_
      exact ih ((x1 + 1)) ((s2 sg (a0 + 1) i4 (sg (a0 + 1) i1))) w
set_option maxHeartbeats 4000000 in
theorem cM_takeHalf (l : Launch) (hfl : l.flags = flags0) (E : w_E) (z : Nat) (T L : Nat → Nat) (V0 : w_V) (P : w_P) (mb : Nat) (hM : mOk E T L P mb) (sg : MS) (a0 o0 n0 : Nat) (h0 : aOk a0 o0 n0) (post : MS → Prop) (w : wM_takeHalf sg a0 n0 post) : mMv l yX8_takeHalf cX8_takeHalf 2 none rM_takeHalf E z T L V0 P mb [.ref (mb + o0)] sg post := by
  refine g_start (S := Unit) hfl (by decide +kernel) rfl [some (.ref (mb + o0)), none] rfl (fun _ h => h) (Nat.le_of_ble_eq_true rfl) (fun X hl hRm hEe O hQ => ?_)
  subst hl
  subst hEe
  unfold wM_takeHalf at w
  refine g_iconst (v := 0) O dX8_takeHalf_0 (by decide) ?_
  refine g_istore_n O dX8_takeHalf_1 (Nat.le_of_ble_eq_true rfl) rfl (lv' := [some (.ref (mb + o0)), some (.int 0)]) rfl ?_
  obtain ⟨n7, w⟩ := w
  exact vM_takeHalf_2 O hRm hM a0 o0 n0 h0 post hQ n7 0 sg w
-- tellFar
abbrev rM_tellFar : Room := { frames := 2, cells := 0, slots := 0, locals := 33 }
set_option maxHeartbeats 4000000 in
theorem vM_tellFar_70 {X : Cx} {z : Nat} {T L : Nat → Nat} {V0 : w_V} {P : w_P} {mb : Nat} (O : Okc X cX8_tellFar RX8 4 none) (hRm : cxR X = rM_tellFar) (hM : mOk (cxE X) T L P mb) (sg : MS) (x1 : Int32) (x2 : Int32) (t0 : Int32) (t1 : Int32) (post : MS → Prop) (hQ : cxMQ X (va_Qv post (fun u t => wdW (cxE X) (mW z T L V0 P mb u) t.heap) (w_A (cxE X))) 0 0) (kb : Int32 → MS → Prop) (hkb : ∀ (y2 : Int32) (sg : MS), kb y2 sg → gW X 0 0 z T L (up1 V0 mb sg) P 14 [some (.ref mb), some (.int x1), some (.int y2), none] []) (w : jM_tellFar_70 sg x1 x2 t0 t1 post kb) : gW X 0 0 z T L (up1 V0 mb sg) P 70 [some (.ref mb), some (.int x1), some (.int x2), none] [.int t0, .int t1, .ref (mb + 14)] := by
  unfold jM_tellFar_70 at w
  obtain ⟨i8, hi9, e10, w⟩ := w
  refine gm_ast (j := 24) (len := 81) (nn := i8) O hM.1 rfl hi9 (by decide) e10 dX8_tellFar_70 ?_
  refine g_iinc (v := (x2 + 1)) O dX8_tellFar_71 rfl rfl rfl (lv' := [some (.ref mb), some (.int x1), some (.int (x2 + 1)), none]) rfl ?_
  refine g_goto (tgt := 14) O dX8_tellFar_74 (by decide) ?_
  exact hkb ((x2 + 1)) ((s2 sg 25 i8 t0)) w
set_option maxHeartbeats 4000000 in
theorem vM_tellFar_14 {X : Cx} {z : Nat} {T L : Nat → Nat} {V0 : w_V} {P : w_P} {mb : Nat} (O : Okc X cX8_tellFar RX8 4 none) (hRm : cxR X = rM_tellFar) (hM : mOk (cxE X) T L P mb) (x1 : Int32) (post : MS → Prop) (hQ : cxMQ X (va_Qv post (fun u t => wdW (cxE X) (mW z T L V0 P mb u) t.heap) (w_A (cxE X))) 0 0) (ke_77 : MS → Prop) (hke_77 : ∀ (sg : MS), ke_77 sg → gW X 0 0 z T L (up1 V0 mb sg) P 77 [some (.ref mb), some (.int x1), none, none] [])  : ∀ (n : Nat) (x2 : Int32) (sg : MS), lM_tellFar_14 x1 post ke_77 n x2 sg → gW X 0 0 z T L (up1 V0 mb sg) P 14 [some (.ref mb), some (.int x1), some (.int x2), none] [] := by
  intro n
  induction n with
  | zero =>
    intro x2 sg w
    exact w.elim
  | succ n ih =>
    intro x2 sg w
    unfold lM_tellFar_14 at w
    refine g_iload_n O dX8_tellFar_14 rfl ?_
    refine g_aload_n O dX8_tellFar_15 rfl ?_
    refine gm_getA (j := 3) O hM.1 rfl (by decide) q1731 dX8_tellFar_16 ?_
    refine g_iconst (v := 0) O dX8_tellFar_19 (by decide) ?_
    refine gm_ald (j := 3) (len := 14) (nn := 0) O hM.1 rfl (by decide) (by decide) rfl dX8_tellFar_20 ?_
    refine g_icmp_ge (tgt := 77) O w dX8_tellFar_21 (by decide) (fun w => ?_) (fun w => ?_)
    · refine g_drop [2] (lv' := [some (.ref mb), some (.int x1), none, none]) rfl ?_
      exact hke_77  (sg) w
    · refine g_aload_n O dX8_tellFar_24 rfl ?_
      refine gm_getA (j := 24) O hM.1 rfl (by decide) q1752 dX8_tellFar_25 ?_
      refine g_iload_n O dX8_tellFar_28 rfl ?_
      refine g_iload_n O dX8_tellFar_29 rfl ?_
      refine gm_Si0 (nA := 2) (As := [.int x1, .int x2]) (rest := [.ref (mb + 14)]) O hRm (cM_couple _ O.2.2.2.2.2.2.2.2 _ _ _ _ _ _ _ hM sg (x1) (x2) _ w) (lw_S q2032 q2033 q134 q2034) rfl rfl (by decide +kernel) ⟨Nat.le_of_ble_eq_true rfl, Nat.le_of_ble_eq_true rfl⟩ rfl rfl rfl (Nat.le_of_ble_eq_true rfl) dX8_tellFar_30 (fun r1 w => ?_)
      refine g_iload_n O dX8_tellFar_33 rfl ?_
      refine g_iload_n O dX8_tellFar_34 rfl ?_
      refine g_icmp_ne (tgt := 42) O w dX8_tellFar_35 (by decide) (fun w => ?_) (fun w => ?_)
      · refine g_aload_n O dX8_tellFar_42 rfl ?_
        refine gm_getA (j := 4) O hM.1 rfl (by decide) q1732 dX8_tellFar_43 ?_
        refine g_iload_n O dX8_tellFar_46 rfl ?_
        refine g_iload_n O dX8_tellFar_47 rfl ?_
        refine gm_Si0 (nA := 2) (As := [.int x1, .int x2]) (rest := [.ref (mb + 4), .int r1, .ref (mb + 14)]) O hRm (cM_couple _ O.2.2.2.2.2.2.2.2 _ _ _ _ _ _ _ hM sg (x1) (x2) _ w) (lw_S q2032 q2033 q134 q2034) rfl rfl (by decide +kernel) ⟨Nat.le_of_ble_eq_true rfl, Nat.le_of_ble_eq_true rfl⟩ rfl rfl rfl (Nat.le_of_ble_eq_true rfl) dX8_tellFar_48 (fun r3 w => ?_)
        obtain ⟨i5, hi6, e7, w⟩ := w
        refine gm_ald (j := 4) (len := 162) (nn := i5) O hM.1 rfl hi6 (by decide) e7 dX8_tellFar_51 ?_
        refine g_if_le (tgt := 68) O w dX8_tellFar_52 (by decide) (fun w => ?_) (fun w => ?_)
        · refine g_ldc O q1948 dX8_tellFar_68 ?_
          exact vM_tellFar_70 O hRm hM sg  x1 x2 100000 r1 post hQ (lM_tellFar_14 x1 post ke_77 n) ih w
        · refine g_aload_n O dX8_tellFar_55 rfl ?_
          refine gm_getA (j := 4) O hM.1 rfl (by decide) q1732 dX8_tellFar_56 ?_
          refine g_iload_n O dX8_tellFar_59 rfl ?_
          refine g_iload_n O dX8_tellFar_60 rfl ?_
          refine gm_Si0 (nA := 2) (As := [.int x1, .int x2]) (rest := [.ref (mb + 4), .int r1, .ref (mb + 14)]) O hRm (cM_couple _ O.2.2.2.2.2.2.2.2 _ _ _ _ _ _ _ hM sg (x1) (x2) _ w) (lw_S q2032 q2033 q134 q2034) rfl rfl (by decide +kernel) ⟨Nat.le_of_ble_eq_true rfl, Nat.le_of_ble_eq_true rfl⟩ rfl rfl rfl (Nat.le_of_ble_eq_true rfl) dX8_tellFar_61 (fun r11 w => ?_)
          obtain ⟨i13, hi14, e15, w⟩ := w
          refine gm_ald (j := 4) (len := 162) (nn := i13) O hM.1 rfl hi14 (by decide) e15 dX8_tellFar_64 ?_
          refine g_goto (tgt := 70) O dX8_tellFar_65 (by decide) ?_
          exact vM_tellFar_70 O hRm hM sg  x1 x2 (sg 5 i13) r1 post hQ (lM_tellFar_14 x1 post ke_77 n) ih w
      · refine g_iconst (v := 0) O dX8_tellFar_38 (by decide) ?_
        refine g_goto (tgt := 70) O dX8_tellFar_39 (by decide) ?_
        exact vM_tellFar_70 O hRm hM sg  x1 x2 0 r1 post hQ (lM_tellFar_14 x1 post ke_77 n) ih w
set_option maxHeartbeats 4000000 in
theorem vM_tellFar_2 {X : Cx} {z : Nat} {T L : Nat → Nat} {V0 : w_V} {P : w_P} {mb : Nat} (O : Okc X cX8_tellFar RX8 4 none) (hRm : cxR X = rM_tellFar) (hM : mOk (cxE X) T L P mb) (post : MS → Prop) (hQ : cxMQ X (va_Qv post (fun u t => wdW (cxE X) (mW z T L V0 P mb u) t.heap) (w_A (cxE X))) 0 0) (ke_83 : MS → Prop) (hke_83 : ∀ (sg : MS), ke_83 sg → gW X 0 0 z T L (up1 V0 mb sg) P 83 [some (.ref mb), none, none, none] [])  : ∀ (n : Nat) (x1 : Int32) (sg : MS), lM_tellFar_2 post ke_83 n x1 sg → gW X 0 0 z T L (up1 V0 mb sg) P 2 [some (.ref mb), some (.int x1), none, none] [] := by
  intro n
  induction n with
  | zero =>
    intro x1 sg w
    exact w.elim
  | succ n ih =>
    intro x1 sg w
    unfold lM_tellFar_2 at w
    refine g_iload_n O dX8_tellFar_2 rfl ?_
    refine g_aload_n O dX8_tellFar_3 rfl ?_
    refine gm_getA (j := 3) O hM.1 rfl (by decide) q1731 dX8_tellFar_4 ?_
    refine g_iconst (v := 0) O dX8_tellFar_7 (by decide) ?_
    refine gm_ald (j := 3) (len := 14) (nn := 0) O hM.1 rfl (by decide) (by decide) rfl dX8_tellFar_8 ?_
    refine g_icmp_ge (tgt := 83) O w dX8_tellFar_9 (by decide) (fun w => ?_) (fun w => ?_)
    · refine g_drop [1] (lv' := [some (.ref mb), none, none, none]) rfl ?_
      exact hke_83  (sg) w
    · refine g_iconst (v := 0) O dX8_tellFar_12 (by decide) ?_
      refine g_istore_n O dX8_tellFar_13 (Nat.le_of_ble_eq_true rfl) rfl (lv' := [some (.ref mb), some (.int x1), some (.int 0), none]) rfl ?_
      obtain ⟨n17, w⟩ := w
      refine vM_tellFar_14 O hRm hM x1 post hQ _ (fun g16 w => ?_) n17 0 sg w
      refine g_iinc (v := (x1 + 1)) O dX8_tellFar_77 rfl rfl rfl (lv' := [some (.ref mb), some (.int (x1 + 1)), none, none]) rfl ?_
      refine g_goto (tgt := 2) O dX8_tellFar_80 (by decide) ?_
      exact ih ((x1 + 1)) (g16) w
set_option maxHeartbeats 4000000 in
theorem vM_tellFar_109 {X : Cx} {z : Nat} {T L : Nat → Nat} {V0 : w_V} {P : w_P} {mb : Nat} (O : Okc X cX8_tellFar RX8 4 none) (hRm : cxR X = rM_tellFar) (hM : mOk (cxE X) T L P mb) (x1 : Int32) (x2 : Int32) (post : MS → Prop) (hQ : cxMQ X (va_Qv post (fun u t => wdW (cxE X) (mW z T L V0 P mb u) t.heap) (w_A (cxE X))) 0 0) (ke_169 : MS → Prop) (hke_169 : ∀ (sg : MS), ke_169 sg → gW X 0 0 z T L (up1 V0 mb sg) P 169 [some (.ref mb), some (.int x1), some (.int x2), none] [])  : ∀ (n : Nat) (x3 : Int32) (sg : MS), lM_tellFar_109 x1 x2 post ke_169 n x3 sg → gW X 0 0 z T L (up1 V0 mb sg) P 109 [some (.ref mb), some (.int x1), some (.int x2), some (.int x3)] [] := by
  intro n
  induction n with
  | zero =>
    intro x3 sg w
    exact w.elim
  | succ n ih =>
    intro x3 sg w
    unfold lM_tellFar_109 at w
    refine g_iload_n O dX8_tellFar_109 rfl ?_
    refine g_aload_n O dX8_tellFar_110 rfl ?_
    refine gm_getA (j := 3) O hM.1 rfl (by decide) q1731 dX8_tellFar_111 ?_
    refine g_iconst (v := 0) O dX8_tellFar_114 (by decide) ?_
    refine gm_ald (j := 3) (len := 14) (nn := 0) O hM.1 rfl (by decide) (by decide) rfl dX8_tellFar_115 ?_
    refine g_icmp_ge (tgt := 169) O w dX8_tellFar_116 (by decide) (fun w => ?_) (fun w => ?_)
    · refine g_drop [3] (lv' := [some (.ref mb), some (.int x1), some (.int x2), none]) rfl ?_
      exact hke_169  (sg) w
    · refine g_aload_n O dX8_tellFar_119 rfl ?_
      refine gm_getA (j := 24) O hM.1 rfl (by decide) q1752 dX8_tellFar_120 ?_
      refine g_iload_n O dX8_tellFar_123 rfl ?_
      refine g_iload_n O dX8_tellFar_124 rfl ?_
      refine gm_Si0 (nA := 2) (As := [.int x2, .int x3]) (rest := [.ref (mb + 14)]) O hRm (cM_couple _ O.2.2.2.2.2.2.2.2 _ _ _ _ _ _ _ hM sg (x2) (x3) _ w) (lw_S q2032 q2033 q134 q2034) rfl rfl (by decide +kernel) ⟨Nat.le_of_ble_eq_true rfl, Nat.le_of_ble_eq_true rfl⟩ rfl rfl rfl (Nat.le_of_ble_eq_true rfl) dX8_tellFar_125 (fun r19 w => ?_)
      refine g_aload_n O dX8_tellFar_128 rfl ?_
      refine gm_getA (j := 24) O hM.1 rfl (by decide) q1752 dX8_tellFar_129 ?_
      refine g_iload_n O dX8_tellFar_132 rfl ?_
      refine g_iload_n O dX8_tellFar_133 rfl ?_
      refine gm_Si0 (nA := 2) (As := [.int x2, .int x3]) (rest := [.ref (mb + 14), .int r19, .ref (mb + 14)]) O hRm (cM_couple _ O.2.2.2.2.2.2.2.2 _ _ _ _ _ _ _ hM sg (x2) (x3) _ w) (lw_S q2032 q2033 q134 q2034) rfl rfl (by decide +kernel) ⟨Nat.le_of_ble_eq_true rfl, Nat.le_of_ble_eq_true rfl⟩ rfl rfl rfl (Nat.le_of_ble_eq_true rfl) dX8_tellFar_134 (fun r21 w => ?_)
      obtain ⟨i23, hi24, e25, w⟩ := w
      refine gm_ald (j := 24) (len := 81) (nn := i23) O hM.1 rfl hi24 (by decide) e25 dX8_tellFar_137 ?_
      refine g_aload_n O dX8_tellFar_138 rfl ?_
      refine gm_getA (j := 24) O hM.1 rfl (by decide) q1752 dX8_tellFar_139 ?_
      refine g_iload_n O dX8_tellFar_142 rfl ?_
      refine g_iload_n O dX8_tellFar_143 rfl ?_
      refine gm_Si0 (nA := 2) (As := [.int x2, .int x1]) (rest := [.ref (mb + 14), .int (sg 25 i23), .int r19, .ref (mb + 14)]) O hRm (cM_couple _ O.2.2.2.2.2.2.2.2 _ _ _ _ _ _ _ hM sg (x2) (x1) _ w) (lw_S q2032 q2033 q134 q2034) rfl rfl (by decide +kernel) ⟨Nat.le_of_ble_eq_true rfl, Nat.le_of_ble_eq_true rfl⟩ rfl rfl rfl (Nat.le_of_ble_eq_true rfl) dX8_tellFar_144 (fun r26 w => ?_)
      obtain ⟨i28, hi29, e30, w⟩ := w
      refine gm_ald (j := 24) (len := 81) (nn := i28) O hM.1 rfl hi29 (by decide) e30 dX8_tellFar_147 ?_
      refine g_aload_n O dX8_tellFar_148 rfl ?_
      refine gm_getA (j := 24) O hM.1 rfl (by decide) q1752 dX8_tellFar_149 ?_
      refine g_iload_n O dX8_tellFar_152 rfl ?_
      refine g_iload_n O dX8_tellFar_153 rfl ?_
      refine gm_Si0 (nA := 2) (As := [.int x1, .int x3]) (rest := [.ref (mb + 14), .int (sg 25 i28), .int (sg 25 i23), .int r19, .ref (mb + 14)]) O hRm (cM_couple _ O.2.2.2.2.2.2.2.2 _ _ _ _ _ _ _ hM sg (x1) (x3) _ w) (lw_S q2032 q2033 q134 q2034) rfl rfl (by decide +kernel) ⟨Nat.le_of_ble_eq_true rfl, Nat.le_of_ble_eq_true rfl⟩ rfl rfl rfl (Nat.le_of_ble_eq_true rfl) dX8_tellFar_154 (fun r31 w => ?_)
      obtain ⟨i33, hi34, e35, w⟩ := w
      refine gm_ald (j := 24) (len := 81) (nn := i33) O hM.1 rfl hi34 (by decide) e35 dX8_tellFar_157 ?_
      refine g_iadd O dX8_tellFar_158 ?_
      refine g_mmin O q1949 hRm (Nat.le_of_ble_eq_true rfl) (Nat.le_of_ble_eq_true rfl) ⟨Nat.le_of_ble_eq_true rfl, Nat.le_of_ble_eq_true rfl⟩ rfl dX8_tellFar_159 ?_
      obtain ⟨i36, hi37, e38, w⟩ := w
      refine gm_ast (j := 24) (len := 81) (nn := i36) O hM.1 rfl hi37 (by decide) e38 dX8_tellFar_162 ?_
      refine g_iinc (v := (x3 + 1)) O dX8_tellFar_163 rfl rfl rfl (lv' := [some (.ref mb), some (.int x1), some (.int x2), some (.int (x3 + 1))]) rfl ?_
      refine g_goto (tgt := 109) O dX8_tellFar_166 (by decide) ?_
      exact ih ((x3 + 1)) ((s2 sg 25 i36 (if ((sg 25 i28) + (sg 25 i33)) < (sg 25 i23) then ((sg 25 i28) + (sg 25 i33)) else (sg 25 i23)))) w
set_option maxHeartbeats 4000000 in
theorem vM_tellFar_97 {X : Cx} {z : Nat} {T L : Nat → Nat} {V0 : w_V} {P : w_P} {mb : Nat} (O : Okc X cX8_tellFar RX8 4 none) (hRm : cxR X = rM_tellFar) (hM : mOk (cxE X) T L P mb) (x1 : Int32) (post : MS → Prop) (hQ : cxMQ X (va_Qv post (fun u t => wdW (cxE X) (mW z T L V0 P mb u) t.heap) (w_A (cxE X))) 0 0) (ke_175 : MS → Prop) (hke_175 : ∀ (sg : MS), ke_175 sg → gW X 0 0 z T L (up1 V0 mb sg) P 175 [some (.ref mb), some (.int x1), none, none] [])  : ∀ (n : Nat) (x2 : Int32) (sg : MS), lM_tellFar_97 x1 post ke_175 n x2 sg → gW X 0 0 z T L (up1 V0 mb sg) P 97 [some (.ref mb), some (.int x1), some (.int x2), none] [] := by
  intro n
  induction n with
  | zero =>
    intro x2 sg w
    exact w.elim
  | succ n ih =>
    intro x2 sg w
    unfold lM_tellFar_97 at w
    refine g_iload_n O dX8_tellFar_97 rfl ?_
    refine g_aload_n O dX8_tellFar_98 rfl ?_
    refine gm_getA (j := 3) O hM.1 rfl (by decide) q1731 dX8_tellFar_99 ?_
    refine g_iconst (v := 0) O dX8_tellFar_102 (by decide) ?_
    refine gm_ald (j := 3) (len := 14) (nn := 0) O hM.1 rfl (by decide) (by decide) rfl dX8_tellFar_103 ?_
    refine g_icmp_ge (tgt := 175) O w dX8_tellFar_104 (by decide) (fun w => ?_) (fun w => ?_)
    · refine g_drop [2] (lv' := [some (.ref mb), some (.int x1), none, none]) rfl ?_
      exact hke_175  (sg) w
    · refine g_iconst (v := 0) O dX8_tellFar_107 (by decide) ?_
      refine g_istore_n O dX8_tellFar_108 (Nat.le_of_ble_eq_true rfl) rfl (lv' := [some (.ref mb), some (.int x1), some (.int x2), some (.int 0)]) rfl ?_
      obtain ⟨n40, w⟩ := w
      refine vM_tellFar_109 O hRm hM x1 x2 post hQ _ (fun g39 w => ?_) n40 0 sg w
      refine g_iinc (v := (x2 + 1)) O dX8_tellFar_169 rfl rfl rfl (lv' := [some (.ref mb), some (.int x1), some (.int (x2 + 1)), none]) rfl ?_
      refine g_goto (tgt := 97) O dX8_tellFar_172 (by decide) ?_
      exact ih ((x2 + 1)) (g39) w
set_option maxHeartbeats 4000000 in
theorem vM_tellFar_85 {X : Cx} {z : Nat} {T L : Nat → Nat} {V0 : w_V} {P : w_P} {mb : Nat} (O : Okc X cX8_tellFar RX8 4 none) (hRm : cxR X = rM_tellFar) (hM : mOk (cxE X) T L P mb) (post : MS → Prop) (hQ : cxMQ X (va_Qv post (fun u t => wdW (cxE X) (mW z T L V0 P mb u) t.heap) (w_A (cxE X))) 0 0)  : ∀ (n : Nat) (x1 : Int32) (sg : MS), lM_tellFar_85 post n x1 sg → gW X 0 0 z T L (up1 V0 mb sg) P 85 [some (.ref mb), some (.int x1), none, none] [] := by
  intro n
  induction n with
  | zero =>
    intro x1 sg w
    exact w.elim
  | succ n ih =>
    intro x1 sg w
    unfold lM_tellFar_85 at w
    refine g_iload_n O dX8_tellFar_85 rfl ?_
    refine g_aload_n O dX8_tellFar_86 rfl ?_
    refine gm_getA (j := 3) O hM.1 rfl (by decide) q1731 dX8_tellFar_87 ?_
    refine g_iconst (v := 0) O dX8_tellFar_90 (by decide) ?_
    refine gm_ald (j := 3) (len := 14) (nn := 0) O hM.1 rfl (by decide) (by decide) rfl dX8_tellFar_91 ?_
    refine g_icmp_ge (tgt := 181) O w dX8_tellFar_92 (by decide) (fun w => ?_) (fun w => ?_)
    · exact gm_vret O hQ w dX8_tellFar_181
    · refine g_iconst (v := 0) O dX8_tellFar_95 (by decide) ?_
      refine g_istore_n O dX8_tellFar_96 (Nat.le_of_ble_eq_true rfl) rfl (lv' := [some (.ref mb), some (.int x1), some (.int 0), none]) rfl ?_
      obtain ⟨n42, w⟩ := w
      refine vM_tellFar_97 O hRm hM x1 post hQ _ (fun g41 w => ?_) n42 0 sg w
      refine g_iinc (v := (x1 + 1)) O dX8_tellFar_175 rfl rfl rfl (lv' := [some (.ref mb), some (.int (x1 + 1)), none, none]) rfl ?_
      refine g_goto (tgt := 85) O dX8_tellFar_178 (by decide) ?_
      exact ih ((x1 + 1)) (g41) w
set_option maxHeartbeats 4000000 in
theorem cM_tellFar (l : Launch) (hfl : l.flags = flags0) (E : w_E) (z : Nat) (T L : Nat → Nat) (V0 : w_V) (P : w_P) (mb : Nat) (hM : mOk E T L P mb) (sg : MS) (post : MS → Prop) (w : wM_tellFar sg post) : mMv l yX8_tellFar cX8_tellFar 4 none rM_tellFar E z T L V0 P mb [.ref mb] sg post := by
  refine g_start (S := Unit) hfl (by decide +kernel) rfl [some (.ref mb), none, none, none] rfl (fun _ h => h) (Nat.le_of_ble_eq_true rfl) (fun X hl hRm hEe O hQ => ?_)
  subst hl
  subst hEe
  unfold wM_tellFar at w
  refine g_iconst (v := 0) O dX8_tellFar_0 (by decide) ?_
  refine g_istore_n O dX8_tellFar_1 (Nat.le_of_ble_eq_true rfl) rfl (lv' := [some (.ref mb), some (.int 0), none, none]) rfl ?_
  obtain ⟨n44, w⟩ := w
  refine vM_tellFar_2 O hRm hM post hQ _ (fun g18 w => ?_) n44 0 sg w
  refine g_iconst (v := 0) O dX8_tellFar_83 (by decide) ?_
  refine g_istore_n O dX8_tellFar_84 (Nat.le_of_ble_eq_true rfl) rfl (lv' := [some (.ref mb), some (.int 0), none, none]) rfl ?_
  obtain ⟨n43, w⟩ := w
  exact vM_tellFar_85 O hRm hM post hQ n43 0 g18 w
-- takeOver
abbrev rM_takeOver : Room := { frames := 3, cells := 0, slots := 0, locals := 56 }
set_option maxHeartbeats 4000000 in
theorem cM_takeOver (l : Launch) (hfl : l.flags = flags0) (E : w_E) (z : Nat) (T L : Nat → Nat) (V0 : w_V) (P : w_P) (mb : Nat) (hM : mOk E T L P mb) (sg : MS) (post : MS → Prop) (w : wM_takeOver sg post) : mMv l yX8_takeOver cX8_takeOver 1 none rM_takeOver E z T L V0 P mb [.ref mb] sg post := by
  refine g_start (S := Unit) hfl (by decide +kernel) rfl [some (.ref mb)] rfl (fun _ h => h) (Nat.le_of_ble_eq_true rfl) (fun X hl hRm hEe O hQ => ?_)
  subst hl
  subst hEe
  unfold wM_takeOver at w
  refine g_aload_n O dX8_takeOver_0 rfl ?_
  refine gm_getA (j := 3) O hM.1 rfl (by decide) q1731 dX8_takeOver_1 ?_
  refine gm_Sv (nA := 1) (As := [.ref (mb + 3)]) (rest := []) O hRm (cM_takeHalf _ O.2.2.2.2.2.2.2.2 _ _ _ _ _ _ _ hM sg 3 3 14 ⟨rfl, by decide⟩ _ w) (lw_S q2054 q2055 q134 q2056) rfl rfl (by decide +kernel) ⟨Nat.le_of_ble_eq_true rfl, Nat.le_of_ble_eq_true rfl⟩ rfl rfl rfl (Nat.le_of_ble_eq_true rfl) dX8_takeOver_4 (fun g2 w => ?_)
  refine g_aload_n O dX8_takeOver_7 rfl ?_
  refine gm_getA (j := 4) O hM.1 rfl (by decide) q1732 dX8_takeOver_8 ?_
  refine gm_Sv (nA := 1) (As := [.ref (mb + 4)]) (rest := []) O hRm (cM_takeHalf _ O.2.2.2.2.2.2.2.2 _ _ _ _ _ _ _ hM g2 4 4 162 ⟨rfl, by decide⟩ _ w) (lw_S q2054 q2055 q134 q2056) rfl rfl (by decide +kernel) ⟨Nat.le_of_ble_eq_true rfl, Nat.le_of_ble_eq_true rfl⟩ rfl rfl rfl (Nat.le_of_ble_eq_true rfl) dX8_takeOver_11 (fun g4 w => ?_)
  refine g_aload_n O dX8_takeOver_14 rfl ?_
  refine gm_getA (j := 5) O hM.1 rfl (by decide) q1733 dX8_takeOver_15 ?_
  refine gm_Sv (nA := 1) (As := [.ref (mb + 5)]) (rest := []) O hRm (cM_takeHalf _ O.2.2.2.2.2.2.2.2 _ _ _ _ _ _ _ hM g4 5 5 10 ⟨rfl, by decide⟩ _ w) (lw_S q2054 q2055 q134 q2056) rfl rfl (by decide +kernel) ⟨Nat.le_of_ble_eq_true rfl, Nat.le_of_ble_eq_true rfl⟩ rfl rfl rfl (Nat.le_of_ble_eq_true rfl) dX8_takeOver_18 (fun g6 w => ?_)
  refine g_aload_n O dX8_takeOver_21 rfl ?_
  refine gm_getA (j := 6) O hM.1 rfl (by decide) q1734 dX8_takeOver_22 ?_
  refine gm_Sv (nA := 1) (As := [.ref (mb + 6)]) (rest := []) O hRm (cM_takeHalf _ O.2.2.2.2.2.2.2.2 _ _ _ _ _ _ _ hM g6 6 6 10 ⟨rfl, by decide⟩ _ w) (lw_S q2054 q2055 q134 q2056) rfl rfl (by decide +kernel) ⟨Nat.le_of_ble_eq_true rfl, Nat.le_of_ble_eq_true rfl⟩ rfl rfl rfl (Nat.le_of_ble_eq_true rfl) dX8_takeOver_25 (fun g8 w => ?_)
  refine g_aload_n O dX8_takeOver_28 rfl ?_
  refine gm_getA (j := 7) O hM.1 rfl (by decide) q1735 dX8_takeOver_29 ?_
  refine gm_Sv (nA := 1) (As := [.ref (mb + 7)]) (rest := []) O hRm (cM_takeHalf _ O.2.2.2.2.2.2.2.2 _ _ _ _ _ _ _ hM g8 7 7 10 ⟨rfl, by decide⟩ _ w) (lw_S q2054 q2055 q134 q2056) rfl rfl (by decide +kernel) ⟨Nat.le_of_ble_eq_true rfl, Nat.le_of_ble_eq_true rfl⟩ rfl rfl rfl (Nat.le_of_ble_eq_true rfl) dX8_takeOver_32 (fun g10 w => ?_)
  refine g_aload_n O dX8_takeOver_35 rfl ?_
  refine gm_getA (j := 8) O hM.1 rfl (by decide) q1736 dX8_takeOver_36 ?_
  refine gm_Sv (nA := 1) (As := [.ref (mb + 8)]) (rest := []) O hRm (cM_takeHalf _ O.2.2.2.2.2.2.2.2 _ _ _ _ _ _ _ hM g10 8 8 10 ⟨rfl, by decide⟩ _ w) (lw_S q2054 q2055 q134 q2056) rfl rfl (by decide +kernel) ⟨Nat.le_of_ble_eq_true rfl, Nat.le_of_ble_eq_true rfl⟩ rfl rfl rfl (Nat.le_of_ble_eq_true rfl) dX8_takeOver_39 (fun g12 w => ?_)
  refine g_aload_n O dX8_takeOver_42 rfl ?_
  refine gm_getA (j := 9) O hM.1 rfl (by decide) q1737 dX8_takeOver_43 ?_
  refine gm_Sv (nA := 1) (As := [.ref (mb + 9)]) (rest := []) O hRm (cM_takeHalf _ O.2.2.2.2.2.2.2.2 _ _ _ _ _ _ _ hM g12 9 9 70 ⟨rfl, by decide⟩ _ w) (lw_S q2054 q2055 q134 q2056) rfl rfl (by decide +kernel) ⟨Nat.le_of_ble_eq_true rfl, Nat.le_of_ble_eq_true rfl⟩ rfl rfl rfl (Nat.le_of_ble_eq_true rfl) dX8_takeOver_46 (fun g14 w => ?_)
  refine g_aload_n O dX8_takeOver_49 rfl ?_
  refine gm_getA (j := 10) O hM.1 rfl (by decide) q1738 dX8_takeOver_50 ?_
  refine gm_Sv (nA := 1) (As := [.ref (mb + 10)]) (rest := []) O hRm (cM_takeHalf _ O.2.2.2.2.2.2.2.2 _ _ _ _ _ _ _ hM g14 10 10 108 ⟨rfl, by decide⟩ _ w) (lw_S q2054 q2055 q134 q2056) rfl rfl (by decide +kernel) ⟨Nat.le_of_ble_eq_true rfl, Nat.le_of_ble_eq_true rfl⟩ rfl rfl rfl (Nat.le_of_ble_eq_true rfl) dX8_takeOver_53 (fun g16 w => ?_)
  refine g_aload_n O dX8_takeOver_56 rfl ?_
  refine gm_getA (j := 11) O hM.1 rfl (by decide) q1739 dX8_takeOver_57 ?_
  refine gm_Sv (nA := 1) (As := [.ref (mb + 11)]) (rest := []) O hRm (cM_takeHalf _ O.2.2.2.2.2.2.2.2 _ _ _ _ _ _ _ hM g16 11 11 1200 ⟨rfl, by decide⟩ _ w) (lw_S q2054 q2055 q134 q2056) rfl rfl (by decide +kernel) ⟨Nat.le_of_ble_eq_true rfl, Nat.le_of_ble_eq_true rfl⟩ rfl rfl rfl (Nat.le_of_ble_eq_true rfl) dX8_takeOver_60 (fun g18 w => ?_)
  refine g_aload_n O dX8_takeOver_63 rfl ?_
  refine g_aload_n O dX8_takeOver_64 rfl ?_
  refine gm_getA (j := 3) O hM.1 rfl (by decide) q1731 dX8_takeOver_65 ?_
  refine g_iconst (v := 1) O dX8_takeOver_68 (by decide) ?_
  refine gm_ald (j := 3) (len := 14) (nn := 1) O hM.1 rfl (by decide) (by decide) rfl dX8_takeOver_69 ?_
  refine gm_putI (j := 29) (ty := .int) O hM.1 rfl (by decide) q1757 rfl rfl rfl rfl dX8_takeOver_70 ?_
  refine g_aload_n O dX8_takeOver_73 rfl ?_
  refine g_iconst (v := 0) O dX8_takeOver_74 (by decide) ?_
  refine gm_putI (j := 30) (ty := .int) O hM.1 rfl (by decide) q1758 rfl rfl rfl rfl dX8_takeOver_75 ?_
  refine g_aload_n O dX8_takeOver_78 rfl ?_
  refine g_iconst (v := 0) O dX8_takeOver_79 (by decide) ?_
  refine gm_putI (j := 31) (ty := .int) O hM.1 rfl (by decide) q1759 rfl rfl rfl rfl dX8_takeOver_80 ?_
  refine g_aload_n O dX8_takeOver_83 rfl ?_
  refine g_iconst (v := 0) O dX8_takeOver_84 (by decide) ?_
  refine gm_putI (j := 32) (ty := .int) O hM.1 rfl (by decide) q1760 rfl rfl rfl rfl dX8_takeOver_85 ?_
  refine g_aload_n O dX8_takeOver_88 rfl ?_
  refine g_iconst (v := 0) O dX8_takeOver_89 (by decide) ?_
  refine gm_putI (j := 33) (ty := .int) O hM.1 rfl (by decide) q1761 rfl rfl rfl rfl dX8_takeOver_90 ?_
  refine g_aload_n O dX8_takeOver_93 rfl ?_
  refine g_iconst (v := 0) O dX8_takeOver_94 (by decide) ?_
  refine gm_putI (j := 34) (ty := .int) O hM.1 rfl (by decide) q1762 rfl rfl rfl rfl dX8_takeOver_95 ?_
  refine g_aload_n O dX8_takeOver_98 rfl ?_
  refine g_iconst (v := 0) O dX8_takeOver_99 (by decide) ?_
  refine gm_putI (j := 54) (ty := .boolean) O hM.1 rfl (by decide) q1782 rfl rfl rfl rfl dX8_takeOver_100 ?_
  refine g_aload_n O dX8_takeOver_103 rfl ?_
  refine gm_Vv (nA := 0) (As := []) (rest := []) O hRm hM.1 (cM_tellFar _ O.2.2.2.2.2.2.2.2 _ _ _ _ _ _ _ hM (s2 (s2 (s2 (s2 (s2 (s2 (s2 g18 0 29 (g18 4 1)) 0 30 0) 0 31 0) 0 32 0) 0 33 0) 0 34 0) 0 54 0) _ w) (lw_V q2057 q2059 qs74 q134 q2060) rfl rfl (by decide +kernel) ⟨Nat.le_of_ble_eq_true rfl, Nat.le_of_ble_eq_true rfl⟩ rfl rfl rfl (Nat.le_of_ble_eq_true rfl) dX8_takeOver_104 (fun g20 w => ?_)
  exact gm_vret O hQ w dX8_takeOver_107
-- land
abbrev rM_land : Room := { frames := 302, cells := 0, slots := 0, locals := 5657 }
set_option maxHeartbeats 4000000 in
theorem vM_land_17 {X : Cx} {z : Nat} {T L : Nat → Nat} {V0 : w_V} {P : w_P} {mb : Nat} (O : Okc X cX8_land RX8 3 (some .int)) (hRm : cxR X = rM_land) (hM : mOk (cxE X) T L P mb) (sg : MS) (post : Int32 → MS → Prop) (hQ : cxMQ X (va_Qi post (fun u t => wdW (cxE X) (mW z T L V0 P mb u) t.heap) (w_A (cxE X))) 0 0) (w : jM_land_17 sg post) : gW X 0 0 z T L (up1 V0 mb sg) P 17 [some (.ref mb), none, none] [] := by
  unfold jM_land_17 at w
  refine g_aload_n O dX8_land_17 rfl ?_
  refine g_iconst (v := 1) O dX8_land_18 (by decide) ?_
  refine gm_Vi (nA := 1) (As := [.int 1]) (rest := []) O hRm hM.1 (cM_fail _ O.2.2.2.2.2.2.2.2 _ _ _ _ _ _ _ hM sg (1) _ w) (lw_V q1930 q1932 qs49 q134 q1933) rfl rfl (by decide +kernel) ⟨Nat.le_of_ble_eq_true rfl, Nat.le_of_ble_eq_true rfl⟩ rfl rfl rfl (Nat.le_of_ble_eq_true rfl) dX8_land_19 (fun r1 g2 w => ?_)
  exact gm_iret O hQ rfl w dX8_land_22
set_option maxHeartbeats 4000000 in
theorem vM_land_75 {X : Cx} {z : Nat} {T L : Nat → Nat} {V0 : w_V} {P : w_P} {mb : Nat} (O : Okc X cX8_land RX8 3 (some .int)) (hRm : cxR X = rM_land) (hM : mOk (cxE X) T L P mb) (sg : MS) (x2 : Int32) (t0 : Int32) (t1 : Int32) (post : Int32 → MS → Prop) (hQ : cxMQ X (va_Qi post (fun u t => wdW (cxE X) (mW z T L V0 P mb u) t.heap) (w_A (cxE X))) 0 0) (kb : Int32 → MS → Prop) (hkb : ∀ (y2 : Int32) (sg : MS), kb y2 sg → gW X 0 0 z T L (up1 V0 mb sg) P 50 [some (.ref mb), none, some (.int y2)] []) (w : jM_land_75 sg x2 t0 t1 post kb) : gW X 0 0 z T L (up1 V0 mb sg) P 75 [some (.ref mb), none, some (.int x2)] [.int t0, .int t1, .ref (mb + 3)] := by
  unfold jM_land_75 at w
  obtain ⟨i3, hi4, e5, w⟩ := w
  refine gm_ast (j := 3) (len := 14) (nn := i3) O hM.1 rfl hi4 (by decide) e5 dX8_land_75 ?_
  refine g_iinc (v := (x2 + 1)) O dX8_land_76 rfl rfl rfl (lv' := [some (.ref mb), none, some (.int (x2 + 1))]) rfl ?_
  refine g_goto (tgt := 50) O dX8_land_79 (by decide) ?_
  exact hkb ((x2 + 1)) ((s2 sg 4 i3 t0)) w
set_option maxHeartbeats 4000000 in
theorem vM_land_50 {X : Cx} {z : Nat} {T L : Nat → Nat} {V0 : w_V} {P : w_P} {mb : Nat} (O : Okc X cX8_land RX8 3 (some .int)) (hRm : cxR X = rM_land) (hM : mOk (cxE X) T L P mb) (post : Int32 → MS → Prop) (hQ : cxMQ X (va_Qi post (fun u t => wdW (cxE X) (mW z T L V0 P mb u) t.heap) (w_A (cxE X))) 0 0) (ke_82 : MS → Prop) (hke_82 : ∀ (sg : MS), ke_82 sg → gW X 0 0 z T L (up1 V0 mb sg) P 82 [some (.ref mb), none, none] [])  : ∀ (n : Nat) (x2 : Int32) (sg : MS), lM_land_50 post ke_82 n x2 sg → gW X 0 0 z T L (up1 V0 mb sg) P 50 [some (.ref mb), none, some (.int x2)] [] := by
  intro n
  induction n with
  | zero =>
    intro x2 sg w
    exact w.elim
  | succ n ih =>
    intro x2 sg w
    unfold lM_land_50 at w
    refine g_iload_n O dX8_land_50 rfl ?_
    refine g_bipush (v := 7) O dX8_land_51 (by decide) ?_
    refine g_icmp_ge (tgt := 82) O w dX8_land_53 (by decide) (fun w => ?_) (fun w => ?_)
    · refine g_drop [2] (lv' := [some (.ref mb), none, none]) rfl ?_
      exact hke_82  (sg) w
    · refine g_aload_n O dX8_land_56 rfl ?_
      refine gm_getA (j := 3) O hM.1 rfl (by decide) q1731 dX8_land_57 ?_
      refine g_bipush (v := 7) O dX8_land_60 (by decide) ?_
      refine g_iload_n O dX8_land_62 rfl ?_
      refine g_iadd O dX8_land_63 ?_
      refine g_iload_n O dX8_land_64 rfl ?_
      refine g_iconst (v := 3) O dX8_land_65 (by decide) ?_
      refine g_icmp_ne (tgt := 74) O w dX8_land_66 (by decide) (fun w => ?_) (fun w => ?_)
      · refine g_iconst (v := 0) O dX8_land_74 (by decide) ?_
        exact vM_land_75 O hRm hM sg  x2 0 (7 + x2) post hQ (lM_land_50 post ke_82 n) ih w
      · refine g_bipush (v := 10) O dX8_land_69 (by decide) ?_
        refine g_goto (tgt := 75) O dX8_land_71 (by decide) ?_
        exact vM_land_75 O hRm hM sg  x2 10 (7 + x2) post hQ (lM_land_50 post ke_82 n) ih w
set_option maxHeartbeats 4000000 in
theorem vM_land_84 {X : Cx} {z : Nat} {T L : Nat → Nat} {V0 : w_V} {P : w_P} {mb : Nat} (O : Okc X cX8_land RX8 3 (some .int)) (hRm : cxR X = rM_land) (hM : mOk (cxE X) T L P mb) (post : Int32 → MS → Prop) (hQ : cxMQ X (va_Qi post (fun u t => wdW (cxE X) (mW z T L V0 P mb u) t.heap) (w_A (cxE X))) 0 0) (ke_106 : MS → Prop) (hke_106 : ∀ (sg : MS), ke_106 sg → gW X 0 0 z T L (up1 V0 mb sg) P 106 [some (.ref mb), none, none] [])  : ∀ (n : Nat) (x2 : Int32) (sg : MS), lM_land_84 post ke_106 n x2 sg → gW X 0 0 z T L (up1 V0 mb sg) P 84 [some (.ref mb), none, some (.int x2)] [] := by
  intro n
  induction n with
  | zero =>
    intro x2 sg w
    exact w.elim
  | succ n ih =>
    intro x2 sg w
    unfold lM_land_84 at w
    refine g_iload_n O dX8_land_84 rfl ?_
    refine g_bipush (v := 81) O dX8_land_85 (by decide) ?_
    refine g_icmp_ge (tgt := 106) O w dX8_land_87 (by decide) (fun w => ?_) (fun w => ?_)
    · refine g_drop [2] (lv' := [some (.ref mb), none, none]) rfl ?_
      exact hke_106  (sg) w
    · refine g_aload_n O dX8_land_90 rfl ?_
      refine gm_getA (j := 4) O hM.1 rfl (by decide) q1732 dX8_land_91 ?_
      refine g_bipush (v := 81) O dX8_land_94 (by decide) ?_
      refine g_iload_n O dX8_land_96 rfl ?_
      refine g_iadd O dX8_land_97 ?_
      refine g_iconst (v := 0) O dX8_land_98 (by decide) ?_
      obtain ⟨i7, hi8, e9, w⟩ := w
      refine gm_ast (j := 4) (len := 162) (nn := i7) O hM.1 rfl hi8 (by decide) e9 dX8_land_99 ?_
      refine g_iinc (v := (x2 + 1)) O dX8_land_100 rfl rfl rfl (lv' := [some (.ref mb), none, some (.int (x2 + 1))]) rfl ?_
      refine g_goto (tgt := 84) O dX8_land_103 (by decide) ?_
      exact ih ((x2 + 1)) ((s2 sg 5 i7 0)) w
set_option maxHeartbeats 4000000 in
theorem vM_land_112 {X : Cx} {z : Nat} {T L : Nat → Nat} {V0 : w_V} {P : w_P} {mb : Nat} (O : Okc X cX8_land RX8 3 (some .int)) (hRm : cxR X = rM_land) (hM : mOk (cxE X) T L P mb) (post : Int32 → MS → Prop) (hQ : cxMQ X (va_Qi post (fun u t => wdW (cxE X) (mW z T L V0 P mb u) t.heap) (w_A (cxE X))) 0 0) (ke_135 : MS → Prop) (hke_135 : ∀ (sg : MS), ke_135 sg → gW X 0 0 z T L (up1 V0 mb sg) P 135 [some (.ref mb), none, none] [])  : ∀ (n : Nat) (x2 : Int32) (sg : MS), lM_land_112 post ke_135 n x2 sg → gW X 0 0 z T L (up1 V0 mb sg) P 112 [some (.ref mb), none, some (.int x2)] [] := by
  intro n
  induction n with
  | zero =>
    intro x2 sg w
    exact w.elim
  | succ n ih =>
    intro x2 sg w
    unfold lM_land_112 at w
    refine g_aload_n O dX8_land_112 rfl ?_
    refine gm_getI (j := 21) O hM.1 rfl (by decide) q1749 dX8_land_113 ?_
    refine g_if_ne (tgt := 135) O w dX8_land_116 (by decide) (fun w => ?_) (fun w => ?_)
    · refine g_drop [2] (lv' := [some (.ref mb), none, none]) rfl ?_
      exact hke_135  (sg) w
    · refine g_aload_n O dX8_land_119 rfl ?_
      refine gm_getI (j := 17) O hM.1 rfl (by decide) q1745 dX8_land_120 ?_
      refine g_if_eq (tgt := 135) O w dX8_land_123 (by decide) (fun w => ?_) (fun w => ?_)
      · refine g_drop [2] (lv' := [some (.ref mb), none, none]) rfl ?_
        exact hke_135  (sg) w
      · refine g_aload_n O dX8_land_126 rfl ?_
        refine g_iload_n O dX8_land_127 rfl ?_
        refine gm_Vi (nA := 1) (As := [.int x2]) (rest := []) O hRm hM.1 (cM_readLine _ O.2.2.2.2.2.2.2.2 _ _ _ _ _ _ _ hM sg (x2) _ w) (lw_V q1953 q1955 qs52 q134 q1956) rfl rfl (by decide +kernel) ⟨Nat.le_of_ble_eq_true rfl, Nat.le_of_ble_eq_true rfl⟩ rfl rfl rfl (Nat.le_of_ble_eq_true rfl) dX8_land_128 (fun r13 g14 w => ?_)
        refine g_istore_n O dX8_land_131 (Nat.le_of_ble_eq_true rfl) rfl (lv' := [some (.ref mb), none, some (.int r13)]) rfl ?_
        refine g_goto (tgt := 112) O dX8_land_132 (by decide) ?_
        exact ih (r13) (g14) w
set_option maxHeartbeats 4000000 in
theorem vM_land_135 {X : Cx} {z : Nat} {T L : Nat → Nat} {V0 : w_V} {P : w_P} {mb : Nat} (O : Okc X cX8_land RX8 3 (some .int)) (hRm : cxR X = rM_land) (hM : mOk (cxE X) T L P mb) (sg : MS) (post : Int32 → MS → Prop) (hQ : cxMQ X (va_Qi post (fun u t => wdW (cxE X) (mW z T L V0 P mb u) t.heap) (w_A (cxE X))) 0 0) (w : jM_land_135 sg post) : gW X 0 0 z T L (up1 V0 mb sg) P 135 [some (.ref mb), none, none] [] := by
  unfold jM_land_135 at w
  refine g_aload_n O dX8_land_135 rfl ?_
  refine gm_getI (j := 21) O hM.1 rfl (by decide) q1749 dX8_land_136 ?_
  refine g_if_eq (tgt := 165) O w dX8_land_139 (by decide) (fun w => ?_) (fun w => ?_)
  · refine g_aload_n O dX8_land_165 rfl ?_
    refine gm_Vv (nA := 0) (As := []) (rest := []) O hRm hM.1 (cM_takeOver _ O.2.2.2.2.2.2.2.2 _ _ _ _ _ _ _ hM sg _ w) (lw_V q2050 q2052 qs73 q134 q2053) rfl rfl (by decide +kernel) ⟨Nat.le_of_ble_eq_true rfl, Nat.le_of_ble_eq_true rfl⟩ rfl rfl rfl (Nat.le_of_ble_eq_true rfl) dX8_land_166 (fun g17 w => ?_)
    refine g_iconst (v := 0) O dX8_land_169 (by decide) ?_
    exact gm_iret O hQ rfl w dX8_land_170
  · refine g_aload_n O dX8_land_142 rfl ?_
    refine g_aload_n O dX8_land_143 rfl ?_
    refine gm_getI (j := 22) O hM.1 rfl (by decide) q1750 dX8_land_144 ?_
    refine gm_putI (j := 23) (ty := .int) O hM.1 rfl (by decide) q1751 rfl rfl rfl rfl dX8_land_147 ?_
    refine g_aload_n O dX8_land_150 rfl ?_
    refine gm_getA (j := 12) O hM.1 rfl (by decide) q1740 dX8_land_151 ?_
    refine g_iconst (v := 0) O dX8_land_154 (by decide) ?_
    refine g_dup2 O dX8_land_155 rfl rfl ?_
    refine gm_ald (j := 12) (len := 3) (nn := 0) O hM.1 rfl (by decide) (by decide) rfl dX8_land_156 ?_
    refine g_iconst (v := 1) O dX8_land_157 (by decide) ?_
    refine g_iadd O dX8_land_158 ?_
    refine gm_ast (j := 12) (len := 3) (nn := 0) O hM.1 rfl (by decide) (by decide) rfl dX8_land_159 ?_
    refine g_aload_n O dX8_land_160 rfl ?_
    refine gm_getI (j := 21) O hM.1 rfl (by decide) q1749 dX8_land_161 ?_
    exact gm_iret O hQ rfl w dX8_land_164
set_option maxHeartbeats 4000000 in
theorem cM_land (l : Launch) (hfl : l.flags = flags0) (E : w_E) (z : Nat) (T L : Nat → Nat) (V0 : w_V) (P : w_P) (mb : Nat) (hM : mOk E T L P mb) (sg : MS) (x1 : Int32) (post : Int32 → MS → Prop) (w : wM_land sg x1 post) : mMi l yX8_land cX8_land 3 (some .int) rM_land E z T L V0 P mb [.ref mb, .int x1] sg post := by
  refine g_start (S := Unit) hfl (by decide +kernel) rfl [some (.ref mb), some (.int x1), none] rfl (fun _ h => h) (Nat.le_of_ble_eq_true rfl) (fun X hl hRm hEe O hQ => ?_)
  subst hl
  subst hEe
  unfold wM_land at w
  refine g_aload_n O dX8_land_0 rfl ?_
  refine g_iconst (v := 0) O dX8_land_1 (by decide) ?_
  refine gm_putI (j := 2) (ty := .int) O hM.1 rfl (by decide) q1730 rfl rfl rfl rfl dX8_land_2 ?_
  refine g_iload_n O dX8_land_5 rfl ?_
  refine g_if_lt (tgt := 17) O w dX8_land_6 (by decide) (fun w => ?_) (fun w => ?_)
  · refine g_drop [1] (lv' := [some (.ref mb), none, none]) rfl ?_
    exact vM_land_17 O hRm hM (s2 sg 0 2 0)  post hQ w
  · refine g_iload_n O dX8_land_9 rfl ?_
    refine g_aload_n O dX8_land_10 rfl ?_
    refine gm_getI (j := 14) O hM.1 rfl (by decide) q1742 dX8_land_11 ?_
    refine g_icmp_le (tgt := 23) O w dX8_land_14 (by decide) (fun w => ?_) (fun w => ?_)
    · refine g_aload_n O dX8_land_23 rfl ?_
      refine g_iconst (v := 0) O dX8_land_24 (by decide) ?_
      refine gm_putI (j := 14) (ty := .int) O hM.1 rfl (by decide) q1742 rfl rfl rfl rfl dX8_land_25 ?_
      refine g_aload_n O dX8_land_28 rfl ?_
      refine g_iload_n O dX8_land_29 rfl ?_
      refine gm_putI (j := 16) (ty := .int) O hM.1 rfl (by decide) q1744 rfl rfl rfl rfl dX8_land_30 ?_
      refine g_aload_n O dX8_land_33 rfl ?_
      refine g_iconst (v := 0) O dX8_land_34 (by decide) ?_
      refine gm_putI (j := 15) (ty := .int) O hM.1 rfl (by decide) q1743 rfl rfl rfl rfl dX8_land_35 ?_
      refine g_aload_n O dX8_land_38 rfl ?_
      refine g_iconst (v := 0) O dX8_land_39 (by decide) ?_
      refine gm_putI (j := 21) (ty := .int) O hM.1 rfl (by decide) q1749 rfl rfl rfl rfl dX8_land_40 ?_
      refine g_aload_n O dX8_land_43 rfl ?_
      refine g_iconst (v := (-1)) O dX8_land_44 (by decide) ?_
      refine gm_putI (j := 23) (ty := .int) O hM.1 rfl (by decide) q1751 rfl rfl rfl rfl dX8_land_45 ?_
      refine g_iconst (v := 0) O dX8_land_48 (by decide) ?_
      refine g_istore_n O dX8_land_49 (Nat.le_of_ble_eq_true rfl) rfl (lv' := [some (.ref mb), some (.int x1), some (.int 0)]) rfl ?_
      obtain ⟨n20, w⟩ := w
      refine g_drop [1] (lv' := [some (.ref mb), none, some (.int 0)]) rfl ?_
      refine vM_land_50 O hRm hM post hQ _ (fun g6 w => ?_) n20 0 (s2 (s2 (s2 (s2 (s2 (s2 sg 0 2 0) 0 14 0) 0 16 x1) 0 15 0) 0 21 0) 0 23 (-1)) w
      refine g_iconst (v := 0) O dX8_land_82 (by decide) ?_
      refine g_istore_n O dX8_land_83 (Nat.le_of_ble_eq_true rfl) rfl (lv' := [some (.ref mb), none, some (.int 0)]) rfl ?_
      obtain ⟨n19, w⟩ := w
      refine vM_land_84 O hRm hM post hQ _ (fun g10 w => ?_) n19 0 g6 w
      refine g_aload_n O dX8_land_106 rfl ?_
      refine gm_Vv (nA := 0) (As := []) (rest := []) O hRm hM.1 (cM_stepOn _ O.2.2.2.2.2.2.2.2 _ _ _ _ _ _ _ hM g10 _ w) (lw_V q1934 q1936 qs50 q134 q1937) rfl rfl (by decide +kernel) ⟨Nat.le_of_ble_eq_true rfl, Nat.le_of_ble_eq_true rfl⟩ rfl rfl rfl (Nat.le_of_ble_eq_true rfl) dX8_land_107 (fun g12 w => ?_)
      refine g_iconst (v := 0) O dX8_land_110 (by decide) ?_
      refine g_istore_n O dX8_land_111 (Nat.le_of_ble_eq_true rfl) rfl (lv' := [some (.ref mb), none, some (.int 0)]) rfl ?_
      obtain ⟨n18, w⟩ := w
      refine vM_land_112 O hRm hM post hQ _ (fun g15 w => ?_) n18 0 g12 w
      exact vM_land_135 O hRm hM g15  post hQ w
    · refine g_drop [1] (lv' := [some (.ref mb), none, none]) rfl ?_
      exact vM_land_17 O hRm hM (s2 sg 0 2 0)  post hQ w
-- fault
abbrev rM_fault : Room := { frames := 1, cells := 0, slots := 0, locals := 12 }
set_option maxHeartbeats 4000000 in
theorem cM_fault (l : Launch) (hfl : l.flags = flags0) (E : w_E) (z : Nat) (T L : Nat → Nat) (V0 : w_V) (P : w_P) (mb : Nat) (hM : mOk E T L P mb) (sg : MS) (post : Int32 → MS → Prop) (w : wM_fault sg post) : mMi l yX8_fault cX8_fault 1 (some .int) rM_fault E z T L V0 P mb [.ref mb] sg post := by
  refine g_start (S := Unit) hfl (by decide +kernel) rfl [some (.ref mb)] rfl (fun _ h => h) (Nat.le_of_ble_eq_true rfl) (fun X hl hRm hEe O hQ => ?_)
  subst hl
  subst hEe
  unfold wM_fault at w
  refine g_aload_n O dX8_fault_0 rfl ?_
  refine g_iconst (v := 0) O dX8_fault_1 (by decide) ?_
  refine gm_putI (j := 2) (ty := .int) O hM.1 rfl (by decide) q1730 rfl rfl rfl rfl dX8_fault_2 ?_
  refine g_aload_n O dX8_fault_5 rfl ?_
  refine gm_getI (j := 23) O hM.1 rfl (by decide) q1751 dX8_fault_6 ?_
  exact gm_iret O hQ rfl w dX8_fault_9
-- set
abbrev rM_set : Room := { frames := 1, cells := 0, slots := 0, locals := 12 }
set_option maxHeartbeats 4000000 in
theorem vM_set_54 {X : Cx} {z : Nat} {T L : Nat → Nat} {V0 : w_V} {P : w_P} {mb : Nat} (O : Okc X cX8_set RX8 2 none) (hRm : cxR X = rM_set) (hM : mOk (cxE X) T L P mb) (sg : MS) (x1 : Int32) (t0 : Int32) (t1 : Int32) (post : MS → Prop) (hQ : cxMQ X (va_Qv post (fun u t => wdW (cxE X) (mW z T L V0 P mb u) t.heap) (w_A (cxE X))) 0 0) (kb : Int32 → MS → Prop) (hkb : ∀ (y1 : Int32) (sg : MS), kb y1 sg → gW X 0 0 z T L (up1 V0 mb sg) P 22 [some (.ref mb), some (.int y1)] []) (w : jM_set_54 sg x1 t0 t1 post kb) : gW X 0 0 z T L (up1 V0 mb sg) P 54 [some (.ref mb), some (.int x1)] [.int t0, .int t1, .ref mb] := by
  unfold jM_set_54 at w
  refine g_ior O dX8_set_54 ?_
  refine gm_putI (j := 41) (ty := .int) O hM.1 rfl (by decide) q1769 rfl rfl rfl rfl dX8_set_55 ?_
  refine g_iinc (v := (x1 + 1)) O dX8_set_58 rfl rfl rfl (lv' := [some (.ref mb), some (.int (x1 + 1))]) rfl ?_
  refine g_goto (tgt := 22) O dX8_set_61 (by decide) ?_
  exact hkb ((x1 + 1)) ((s2 sg 0 41 (t1 ||| t0))) w
set_option maxHeartbeats 4000000 in
theorem vM_set_22 {X : Cx} {z : Nat} {T L : Nat → Nat} {V0 : w_V} {P : w_P} {mb : Nat} (O : Okc X cX8_set RX8 2 none) (hRm : cxR X = rM_set) (hM : mOk (cxE X) T L P mb) (post : MS → Prop) (hQ : cxMQ X (va_Qv post (fun u t => wdW (cxE X) (mW z T L V0 P mb u) t.heap) (w_A (cxE X))) 0 0)  : ∀ (n : Nat) (x1 : Int32) (sg : MS), lM_set_22 post n x1 sg → gW X 0 0 z T L (up1 V0 mb sg) P 22 [some (.ref mb), some (.int x1)] [] := by
  intro n
  induction n with
  | zero =>
    intro x1 sg w
    exact w.elim
  | succ n ih =>
    intro x1 sg w
    unfold lM_set_22 at w
    refine g_iload_n O dX8_set_22 rfl ?_
    refine g_aload_n O dX8_set_23 rfl ?_
    refine gm_getA (j := 3) O hM.1 rfl (by decide) q1731 dX8_set_24 ?_
    refine g_iconst (v := 4) O dX8_set_27 (by decide) ?_
    refine gm_ald (j := 3) (len := 14) (nn := 4) O hM.1 rfl (by decide) (by decide) rfl dX8_set_28 ?_
    refine g_icmp_ge (tgt := 64) O w dX8_set_29 (by decide) (fun w => ?_) (fun w => ?_)
    · exact gm_vret O hQ w dX8_set_64
    · refine g_aload_n O dX8_set_32 rfl ?_
      refine g_dup O dX8_set_33 rfl ?_
      refine gm_getI (j := 41) O hM.1 rfl (by decide) q1769 dX8_set_34 ?_
      refine g_aload_n O dX8_set_37 rfl ?_
      refine gm_getA (j := 5) O hM.1 rfl (by decide) q1733 dX8_set_38 ?_
      refine g_iload_n O dX8_set_41 rfl ?_
      obtain ⟨i1, hi2, e3, w⟩ := w
      refine gm_ald (j := 5) (len := 10) (nn := i1) O hM.1 rfl hi2 (by decide) e3 dX8_set_42 ?_
      refine g_iconst (v := 1) O dX8_set_43 (by decide) ?_
      refine g_icmp_ne (tgt := 53) O w dX8_set_44 (by decide) (fun w => ?_) (fun w => ?_)
      · refine g_iconst (v := 0) O dX8_set_53 (by decide) ?_
        exact vM_set_54 O hRm hM sg  x1 0 (sg 0 41) post hQ (lM_set_22 post n) ih w
      · refine g_iconst (v := 1) O dX8_set_47 (by decide) ?_
        refine g_iload_n O dX8_set_48 rfl ?_
        refine g_ishl O dX8_set_49 ?_
        refine g_goto (tgt := 54) O dX8_set_50 (by decide) ?_
        exact vM_set_54 O hRm hM sg  x1 ((1 : Int32) <<< ((x1 : Int32) &&& 31)) (sg 0 41) post hQ (lM_set_22 post n) ih w
set_option maxHeartbeats 4000000 in
theorem cM_set (l : Launch) (hfl : l.flags = flags0) (E : w_E) (z : Nat) (T L : Nat → Nat) (V0 : w_V) (P : w_P) (mb : Nat) (hM : mOk E T L P mb) (sg : MS) (post : MS → Prop) (w : wM_set sg post) : mMv l yX8_set cX8_set 2 none rM_set E z T L V0 P mb [.ref mb] sg post := by
  refine g_start (S := Unit) hfl (by decide +kernel) rfl [some (.ref mb), none] rfl (fun _ h => h) (Nat.le_of_ble_eq_true rfl) (fun X hl hRm hEe O hQ => ?_)
  subst hl
  subst hEe
  unfold wM_set at w
  refine g_aload_n O dX8_set_0 rfl ?_
  refine g_iconst (v := (-1)) O dX8_set_1 (by decide) ?_
  refine gm_putI (j := 40) (ty := .int) O hM.1 rfl (by decide) q1768 rfl rfl rfl rfl dX8_set_2 ?_
  refine g_aload_n O dX8_set_5 rfl ?_
  refine g_iconst (v := 0) O dX8_set_6 (by decide) ?_
  refine gm_putI (j := 42) (ty := .int) O hM.1 rfl (by decide) q1770 rfl rfl rfl rfl dX8_set_7 ?_
  refine g_aload_n O dX8_set_10 rfl ?_
  refine g_iconst (v := (-1)) O dX8_set_11 (by decide) ?_
  refine gm_putI (j := 43) (ty := .int) O hM.1 rfl (by decide) q1771 rfl rfl rfl rfl dX8_set_12 ?_
  refine g_aload_n O dX8_set_15 rfl ?_
  refine g_iconst (v := 0) O dX8_set_16 (by decide) ?_
  refine gm_putI (j := 41) (ty := .int) O hM.1 rfl (by decide) q1769 rfl rfl rfl rfl dX8_set_17 ?_
  refine g_iconst (v := 0) O dX8_set_20 (by decide) ?_
  refine g_istore_n O dX8_set_21 (Nat.le_of_ble_eq_true rfl) rfl (lv' := [some (.ref mb), some (.int 0)]) rfl ?_
  obtain ⟨n4, w⟩ := w
  exact vM_set_22 O hRm hM post hQ n4 0 (s2 (s2 (s2 (s2 sg 0 40 (-1)) 0 42 0) 0 43 (-1)) 0 41 0) w
-- saidAhead
abbrev rM_saidAhead : Room := { frames := 1, cells := 0, slots := 0, locals := 12 }
set_option maxHeartbeats 4000000 in
theorem vM_saidAhead_52 {X : Cx} {z : Nat} {T L : Nat → Nat} {V0 : w_V} {P : w_P} {mb : Nat} (O : Okc X cX8_saidAhead RX8 5 (some .int)) (hRm : cxR X = rM_saidAhead) (hM : mOk (cxE X) T L P mb) (sg : MS) (x1 : Int32) (x2 : Int32) (x4 : Int32) (t0 : Int32) (t1 : Int32) (post : Int32 → Prop) (hQ : cxMQ X (va_Qi (fun x (_ : Unit) => post x) (fun (_ : Unit) t => wdW (cxE X) (mW z T L V0 P mb sg) t.heap) (w_A (cxE X))) 0 0) (kb : Int32 → Int32 → Prop) (hkb : ∀ (y3 : Int32) (y4 : Int32), kb y3 y4 → gW X 0 0 z T L (up1 V0 mb sg) P 5 [some (.ref mb), some (.int x1), some (.int x2), some (.int y3), some (.int y4)] []) (w : jM_saidAhead_52 sg x1 x2 x4 t0 t1 post kb) : gW X 0 0 z T L (up1 V0 mb sg) P 52 [some (.ref mb), some (.int x1), some (.int x2), none, some (.int x4)] [.int t0, .int t1] := by
  unfold jM_saidAhead_52 at w
  refine g_iadd O dX8_saidAhead_52 ?_
  refine g_istore_n O dX8_saidAhead_53 (Nat.le_of_ble_eq_true rfl) rfl (lv' := [some (.ref mb), some (.int x1), some (.int x2), some (.int (t1 + t0)), some (.int x4)]) rfl ?_
  refine g_iinc (v := (x4 + 1)) O dX8_saidAhead_54 rfl rfl rfl (lv' := [some (.ref mb), some (.int x1), some (.int x2), some (.int (t1 + t0)), some (.int (x4 + 1))]) rfl ?_
  refine g_goto (tgt := 5) O dX8_saidAhead_57 (by decide) ?_
  exact hkb ((t1 + t0)) ((x4 + 1)) w
set_option maxHeartbeats 4000000 in
theorem vM_saidAhead_51 {X : Cx} {z : Nat} {T L : Nat → Nat} {V0 : w_V} {P : w_P} {mb : Nat} (O : Okc X cX8_saidAhead RX8 5 (some .int)) (hRm : cxR X = rM_saidAhead) (hM : mOk (cxE X) T L P mb) (sg : MS) (x1 : Int32) (x2 : Int32) (x4 : Int32) (t0 : Int32) (post : Int32 → Prop) (hQ : cxMQ X (va_Qi (fun x (_ : Unit) => post x) (fun (_ : Unit) t => wdW (cxE X) (mW z T L V0 P mb sg) t.heap) (w_A (cxE X))) 0 0) (kb : Int32 → Int32 → Prop) (hkb : ∀ (y3 : Int32) (y4 : Int32), kb y3 y4 → gW X 0 0 z T L (up1 V0 mb sg) P 5 [some (.ref mb), some (.int x1), some (.int x2), some (.int y3), some (.int y4)] []) (w : jM_saidAhead_51 sg x1 x2 x4 t0 post kb) : gW X 0 0 z T L (up1 V0 mb sg) P 51 [some (.ref mb), some (.int x1), some (.int x2), none, some (.int x4)] [.int t0] := by
  unfold jM_saidAhead_51 at w
  refine g_iconst (v := 0) O dX8_saidAhead_51 (by decide) ?_
  exact vM_saidAhead_52 O hRm hM sg  x1 x2 x4 0 t0 post hQ kb hkb w
set_option maxHeartbeats 4000000 in
theorem vM_saidAhead_5 {X : Cx} {z : Nat} {T L : Nat → Nat} {V0 : w_V} {P : w_P} {mb : Nat} (O : Okc X cX8_saidAhead RX8 5 (some .int)) (hRm : cxR X = rM_saidAhead) (hM : mOk (cxE X) T L P mb) (sg : MS) (x1 : Int32) (x2 : Int32) (post : Int32 → Prop) (hQ : cxMQ X (va_Qi (fun x (_ : Unit) => post x) (fun (_ : Unit) t => wdW (cxE X) (mW z T L V0 P mb sg) t.heap) (w_A (cxE X))) 0 0)  : ∀ (n : Nat) (x3 : Int32) (x4 : Int32), lM_saidAhead_5 sg x1 x2 post n x3 x4 → gW X 0 0 z T L (up1 V0 mb sg) P 5 [some (.ref mb), some (.int x1), some (.int x2), some (.int x3), some (.int x4)] [] := by
  intro n
  induction n with
  | zero =>
    intro x3 x4 w
    exact w.elim
  | succ n ih =>
    intro x3 x4 w
    unfold lM_saidAhead_5 at w
    refine g_iload O dX8_saidAhead_5 rfl ?_
    refine g_aload_n O dX8_saidAhead_7 rfl ?_
    refine gm_getA (j := 3) O hM.1 rfl (by decide) q1731 dX8_saidAhead_8 ?_
    refine g_iconst (v := 4) O dX8_saidAhead_11 (by decide) ?_
    refine gm_ald (j := 3) (len := 14) (nn := 4) O hM.1 rfl (by decide) (by decide) rfl dX8_saidAhead_12 ?_
    refine g_icmp_ge (tgt := 60) O w dX8_saidAhead_13 (by decide) (fun w => ?_) (fun w => ?_)
    · refine g_iload_n O dX8_saidAhead_60 rfl ?_
      exact gm_iret0 O hQ rfl w dX8_saidAhead_61
    · refine g_iload_n O dX8_saidAhead_16 rfl ?_
      refine g_aload_n O dX8_saidAhead_17 rfl ?_
      refine gm_getA (j := 44) O hM.1 rfl (by decide) q1772 dX8_saidAhead_18 ?_
      refine g_iconst (v := 5) O dX8_saidAhead_21 (by decide) ?_
      refine g_iload_n O dX8_saidAhead_22 rfl ?_
      refine g_imul O dX8_saidAhead_23 ?_
      refine g_iload O dX8_saidAhead_24 rfl ?_
      refine g_iadd O dX8_saidAhead_26 ?_
      obtain ⟨i1, hi2, e3, w⟩ := w
      refine gm_ald (j := 44) (len := 30) (nn := i1) O hM.1 rfl hi2 (by decide) e3 dX8_saidAhead_27 ?_
      refine g_iconst (v := (-1)) O dX8_saidAhead_28 (by decide) ?_
      refine g_icmp_eq (tgt := 51) O w dX8_saidAhead_29 (by decide) (fun w => ?_) (fun w => ?_)
      · refine g_drop [3] (lv' := [some (.ref mb), some (.int x1), some (.int x2), none, some (.int x4)]) rfl ?_
        exact vM_saidAhead_51 O hRm hM sg  x1 x2 x4 x3 post hQ (lM_saidAhead_5 sg x1 x2 post n) ih w
      · refine g_aload_n O dX8_saidAhead_32 rfl ?_
        refine gm_getA (j := 45) O hM.1 rfl (by decide) q1773 dX8_saidAhead_33 ?_
        refine g_iconst (v := 5) O dX8_saidAhead_36 (by decide) ?_
        refine g_iload_n O dX8_saidAhead_37 rfl ?_
        refine g_imul O dX8_saidAhead_38 ?_
        refine g_iload O dX8_saidAhead_39 rfl ?_
        refine g_iadd O dX8_saidAhead_41 ?_
        obtain ⟨i4, hi5, e6, w⟩ := w
        refine gm_ald (j := 45) (len := 30) (nn := i4) O hM.1 rfl hi5 (by decide) e6 dX8_saidAhead_42 ?_
        refine g_iload_n O dX8_saidAhead_43 rfl ?_
        refine g_icmp_ge (tgt := 51) O w dX8_saidAhead_44 (by decide) (fun w => ?_) (fun w => ?_)
        · refine g_drop [3] (lv' := [some (.ref mb), some (.int x1), some (.int x2), none, some (.int x4)]) rfl ?_
          exact vM_saidAhead_51 O hRm hM sg  x1 x2 x4 x3 post hQ (lM_saidAhead_5 sg x1 x2 post n) ih w
        · refine g_iconst (v := 1) O dX8_saidAhead_47 (by decide) ?_
          refine g_goto (tgt := 52) O dX8_saidAhead_48 (by decide) ?_
          refine g_drop [3] (lv' := [some (.ref mb), some (.int x1), some (.int x2), none, some (.int x4)]) rfl ?_
          exact vM_saidAhead_52 O hRm hM sg  x1 x2 x4 1 x3 post hQ (lM_saidAhead_5 sg x1 x2 post n) ih w
set_option maxHeartbeats 4000000 in
theorem cM_saidAhead (l : Launch) (hfl : l.flags = flags0) (E : w_E) (z : Nat) (T L : Nat → Nat) (V0 : w_V) (P : w_P) (mb : Nat) (hM : mOk E T L P mb) (sg : MS) (x1 : Int32) (x2 : Int32) (post : Int32 → Prop) (w : wM_saidAhead sg x1 x2 post) : mMi0 l yX8_saidAhead cX8_saidAhead 5 (some .int) rM_saidAhead E z T L V0 P mb [.ref mb, .int x1, .int x2] sg post := by
  refine g_start (S := Unit) hfl (by decide +kernel) rfl [some (.ref mb), some (.int x1), some (.int x2), none, none] rfl (fun _ h => h) (Nat.le_of_ble_eq_true rfl) (fun X hl hRm hEe O hQ => ?_)
  subst hl
  subst hEe
  unfold wM_saidAhead at w
  refine g_iconst (v := 0) O dX8_saidAhead_0 (by decide) ?_
  refine g_istore_n O dX8_saidAhead_1 (Nat.le_of_ble_eq_true rfl) rfl (lv' := [some (.ref mb), some (.int x1), some (.int x2), some (.int 0), none]) rfl ?_
  refine g_iconst (v := 0) O dX8_saidAhead_2 (by decide) ?_
  refine g_istore O dX8_saidAhead_3 (Nat.le_of_ble_eq_true rfl) rfl (lv' := [some (.ref mb), some (.int x1), some (.int x2), some (.int 0), some (.int 0)]) rfl ?_
  obtain ⟨n7, w⟩ := w
  exact vM_saidAhead_5 O hRm hM sg x1 x2 post hQ n7 0 0 w
-- reckon
abbrev rM_reckon : Room := { frames := 1, cells := 0, slots := 0, locals := 12 }
set_option maxHeartbeats 4000000 in
theorem cM_reckon (l : Launch) (hfl : l.flags = flags0) (E : w_E) (z : Nat) (T L : Nat → Nat) (V0 : w_V) (P : w_P) (mb : Nat) (hM : mOk E T L P mb) (sg : MS) (x0 : Int32) (x1 : Int32) (x2 : Int32) (post : Int32 → Prop) (w : wM_reckon sg x0 x1 x2 post) : mMi0 l yX8_reckon cX8_reckon 3 (some .int) rM_reckon E z T L V0 P mb [.int x0, .int x1, .int x2] sg post := by
  refine g_start (S := Unit) hfl (by decide +kernel) rfl [some (.int x0), some (.int x1), some (.int x2)] rfl (fun _ h => h) (Nat.le_of_ble_eq_true rfl) (fun X hl hRm hEe O hQ => ?_)
  subst hl
  subst hEe
  unfold wM_reckon at w
  refine g_iload_n O dX8_reckon_0 rfl ?_
  by_cases c0 : x0 = (-26)
  · rw [if_pos c0] at w
    refine g_tabE (tgt := 90) O c0 dX8_reckon_1 (by decide) (by decide) rfl (by decide) ?_
    refine g_iload_n O dX8_reckon_90 rfl ?_
    refine g_if_eq (tgt := 102) O w dX8_reckon_91 (by decide) (fun w => ?_) (fun w => ?_)
    · refine g_iconst (v := 0) O dX8_reckon_102 (by decide) ?_
      exact gm_iret0 O hQ rfl w dX8_reckon_103
    · refine g_iload_n O dX8_reckon_94 rfl ?_
      refine g_if_eq (tgt := 102) O w dX8_reckon_95 (by decide) (fun w => ?_) (fun w => ?_)
      · refine g_iconst (v := 0) O dX8_reckon_102 (by decide) ?_
        exact gm_iret0 O hQ rfl w dX8_reckon_103
      · refine g_iconst (v := 1) O dX8_reckon_98 (by decide) ?_
        refine g_goto (tgt := 103) O dX8_reckon_99 (by decide) ?_
        exact gm_iret0 O hQ rfl w dX8_reckon_103
  rw [if_neg c0] at w
  by_cases c1 : x0 = (-25)
  · rw [if_pos c1] at w
    refine g_tabE (tgt := 79) O c1 dX8_reckon_1 (by decide) (by decide) rfl (by decide) ?_
    refine g_iload_n O dX8_reckon_79 rfl ?_
    refine g_iload_n O dX8_reckon_80 rfl ?_
    refine g_icmp_ne (tgt := 88) O w dX8_reckon_81 (by decide) (fun w => ?_) (fun w => ?_)
    · refine g_iconst (v := 0) O dX8_reckon_88 (by decide) ?_
      exact gm_iret0 O hQ rfl w dX8_reckon_89
    · refine g_iconst (v := 1) O dX8_reckon_84 (by decide) ?_
      refine g_goto (tgt := 89) O dX8_reckon_85 (by decide) ?_
      exact gm_iret0 O hQ rfl w dX8_reckon_89
  rw [if_neg c1] at w
  by_cases c2 : x0 = (-24)
  · rw [if_pos c2] at w
    refine g_tabE (tgt := 68) O c2 dX8_reckon_1 (by decide) (by decide) rfl (by decide) ?_
    refine g_iload_n O dX8_reckon_68 rfl ?_
    refine g_iload_n O dX8_reckon_69 rfl ?_
    refine g_icmp_ge (tgt := 77) O w dX8_reckon_70 (by decide) (fun w => ?_) (fun w => ?_)
    · refine g_iconst (v := 0) O dX8_reckon_77 (by decide) ?_
      exact gm_iret0 O hQ rfl w dX8_reckon_78
    · refine g_iconst (v := 1) O dX8_reckon_73 (by decide) ?_
      refine g_goto (tgt := 78) O dX8_reckon_74 (by decide) ?_
      exact gm_iret0 O hQ rfl w dX8_reckon_78
  rw [if_neg c2] at w
  by_cases c3 : x0 = (-23)
  · rw [if_pos c3] at w
    refine g_tabE (tgt := 56) O c3 dX8_reckon_1 (by decide) (by decide) rfl (by decide) ?_
    refine g_iload_n O dX8_reckon_56 rfl ?_
    refine g_if_ne (tgt := 64) O w dX8_reckon_57 (by decide) (fun w => ?_) (fun w => ?_)
    · refine g_iload_n O dX8_reckon_64 rfl ?_
      refine g_iload_n O dX8_reckon_65 rfl ?_
      obtain ⟨hne, w⟩ := w
      refine g_idiv O hne dX8_reckon_66 ?_
      exact gm_iret0 O hQ rfl w dX8_reckon_67
    · refine g_iconst (v := 0) O dX8_reckon_60 (by decide) ?_
      refine g_goto (tgt := 67) O dX8_reckon_61 (by decide) ?_
      exact gm_iret0 O hQ rfl w dX8_reckon_67
  rw [if_neg c3] at w
  by_cases c4 : x0 = (-22)
  · rw [if_pos c4] at w
    refine g_tabE (tgt := 52) O c4 dX8_reckon_1 (by decide) (by decide) rfl (by decide) ?_
    refine g_iload_n O dX8_reckon_52 rfl ?_
    refine g_iload_n O dX8_reckon_53 rfl ?_
    refine g_imul O dX8_reckon_54 ?_
    exact gm_iret0 O hQ rfl w dX8_reckon_55
  rw [if_neg c4] at w
  by_cases c5 : x0 = (-21)
  · rw [if_pos c5] at w
    refine g_tabE (tgt := 48) O c5 dX8_reckon_1 (by decide) (by decide) rfl (by decide) ?_
    refine g_iload_n O dX8_reckon_48 rfl ?_
    refine g_iload_n O dX8_reckon_49 rfl ?_
    refine g_isub O dX8_reckon_50 ?_
    exact gm_iret0 O hQ rfl w dX8_reckon_51
  rw [if_neg c5] at w
  by_cases c6 : x0 = (-20)
  · rw [if_pos c6] at w
    refine g_tabE (tgt := 44) O c6 dX8_reckon_1 (by decide) (by decide) rfl (by decide) ?_
    refine g_iload_n O dX8_reckon_44 rfl ?_
    refine g_iload_n O dX8_reckon_45 rfl ?_
    refine g_iadd O dX8_reckon_46 ?_
    exact gm_iret0 O hQ rfl w dX8_reckon_47
  rw [if_neg c6] at w
  refine g_tabOut (tgt := 104) O dX8_reckon_1 (tab_out (fun j h1 h2 => by
    have h3 : j = (-26) ∨ j = (-25) ∨ j = (-24) ∨ j = (-23) ∨ j = (-22) ∨ j = (-21) ∨ j = (-20) := by omega
    rcases h3 with rfl | rfl | rfl | rfl | rfl | rfl | rfl
    · exact c0
    · exact c1
    · exact c2
    · exact c3
    · exact c4
    · exact c5
    · exact c6)) (by decide) ?_
  refine g_iload_n O dX8_reckon_104 rfl ?_
  refine g_if_ne (tgt := 112) O w dX8_reckon_105 (by decide) (fun w => ?_) (fun w => ?_)
  · refine g_iconst (v := 1) O dX8_reckon_112 (by decide) ?_
    refine g_goto (tgt := 117) O dX8_reckon_113 (by decide) ?_
    exact gm_iret0 O hQ rfl w dX8_reckon_117
  · refine g_iload_n O dX8_reckon_108 rfl ?_
    refine g_if_eq (tgt := 116) O w dX8_reckon_109 (by decide) (fun w => ?_) (fun w => ?_)
    · refine g_iconst (v := 0) O dX8_reckon_116 (by decide) ?_
      exact gm_iret0 O hQ rfl w dX8_reckon_117
    · refine g_iconst (v := 1) O dX8_reckon_112 (by decide) ?_
      refine g_goto (tgt := 117) O dX8_reckon_113 (by decide) ?_
      exact gm_iret0 O hQ rfl w dX8_reckon_117
-- valueNow
abbrev rM_valueNow : Room := { frames := 2, cells := 0, slots := 0, locals := 34 }
set_option maxHeartbeats 4000000 in
theorem vM_valueNow_118 {X : Cx} {z : Nat} {T L : Nat → Nat} {V0 : w_V} {P : w_P} {mb : Nat} (O : Okc X cX8_valueNow RX8 4 (some .int)) (hRm : cxR X = rM_valueNow) (hM : mOk (cxE X) T L P mb) (sg : MS) (x1 : Int32) (x2 : Int32) (post : Int32 → MS → Prop) (hQ : cxMQ X (va_Qi post (fun u t => wdW (cxE X) (mW z T L V0 P mb u) t.heap) (w_A (cxE X))) 0 0) (kb : Int32 → Int32 → MS → Prop) (hkb : ∀ (y1 : Int32) (y2 : Int32) (sg : MS), kb y1 y2 sg → gW X 0 0 z T L (up1 V0 mb sg) P 4 [some (.ref mb), some (.int y1), some (.int y2), none] []) (w : jM_valueNow_118 sg x1 x2 post kb) : gW X 0 0 z T L (up1 V0 mb sg) P 118 [some (.ref mb), some (.int x1), some (.int x2), none] [] := by
  unfold jM_valueNow_118 at w
  refine g_iinc (v := (x2 + 1)) O dX8_valueNow_118 rfl rfl rfl (lv' := [some (.ref mb), some (.int x1), some (.int (x2 + 1)), none]) rfl ?_
  refine g_goto (tgt := 4) O dX8_valueNow_121 (by decide) ?_
  exact hkb (x1) ((x2 + 1)) (sg) w
set_option maxHeartbeats 4000000 in
theorem vM_valueNow_85 {X : Cx} {z : Nat} {T L : Nat → Nat} {V0 : w_V} {P : w_P} {mb : Nat} (O : Okc X cX8_valueNow RX8 4 (some .int)) (hRm : cxR X = rM_valueNow) (hM : mOk (cxE X) T L P mb) (sg : MS) (x1 : Int32) (x2 : Int32) (t0 : Int32) (t1 : Int32) (post : Int32 → MS → Prop) (hQ : cxMQ X (va_Qi post (fun u t => wdW (cxE X) (mW z T L V0 P mb u) t.heap) (w_A (cxE X))) 0 0) (kb : Int32 → Int32 → MS → Prop) (hkb : ∀ (y1 : Int32) (y2 : Int32) (sg : MS), kb y1 y2 sg → gW X 0 0 z T L (up1 V0 mb sg) P 4 [some (.ref mb), some (.int y1), some (.int y2), none] []) (w : jM_valueNow_85 sg x1 x2 t0 t1 post kb) : gW X 0 0 z T L (up1 V0 mb sg) P 85 [some (.ref mb), some (.int x1), some (.int x2), none] [.int t0, .int t1, .ref (mb + 20)] := by
  unfold jM_valueNow_85 at w
  obtain ⟨i18, hi19, e20, w⟩ := w
  refine gm_ast (j := 36) (len := 64) (nn := i18) O hM.1 rfl hi19 (by decide) e20 dX8_valueNow_85 ?_
  refine g_goto (tgt := 118) O dX8_valueNow_86 (by decide) ?_
  exact vM_valueNow_118 O hRm hM (s2 sg 37 i18 t0)  x1 x2 post hQ kb hkb w
set_option maxHeartbeats 4000000 in
theorem vM_valueNow_49 {X : Cx} {z : Nat} {T L : Nat → Nat} {V0 : w_V} {P : w_P} {mb : Nat} (O : Okc X cX8_valueNow RX8 4 (some .int)) (hRm : cxR X = rM_valueNow) (hM : mOk (cxE X) T L P mb) (sg : MS) (x1 : Int32) (x2 : Int32) (t0 : Int32) (t1 : Int32) (post : Int32 → MS → Prop) (hQ : cxMQ X (va_Qi post (fun u t => wdW (cxE X) (mW z T L V0 P mb u) t.heap) (w_A (cxE X))) 0 0) (kb : Int32 → Int32 → MS → Prop) (hkb : ∀ (y1 : Int32) (y2 : Int32) (sg : MS), kb y1 y2 sg → gW X 0 0 z T L (up1 V0 mb sg) P 4 [some (.ref mb), some (.int y1), some (.int y2), none] []) (w : jM_valueNow_49 sg x1 x2 t0 t1 post kb) : gW X 0 0 z T L (up1 V0 mb sg) P 49 [some (.ref mb), some (.int x1), some (.int x2), none] [.int t0, .int t1, .ref (mb + 20)] := by
  unfold jM_valueNow_49 at w
  obtain ⟨i24, hi25, e26, w⟩ := w
  refine gm_ast (j := 36) (len := 64) (nn := i24) O hM.1 rfl hi25 (by decide) e26 dX8_valueNow_49 ?_
  refine g_iinc (v := (x1 + 1)) O dX8_valueNow_50 rfl rfl rfl (lv' := [some (.ref mb), some (.int (x1 + 1)), some (.int x2), none]) rfl ?_
  refine g_goto (tgt := 118) O dX8_valueNow_53 (by decide) ?_
  exact vM_valueNow_118 O hRm hM (s2 sg 37 i24 t0)  (x1 + 1) x2 post hQ kb hkb w
set_option maxHeartbeats 4000000 in
theorem vM_valueNow_4 {X : Cx} {z : Nat} {T L : Nat → Nat} {V0 : w_V} {P : w_P} {mb : Nat} (O : Okc X cX8_valueNow RX8 4 (some .int)) (hRm : cxR X = rM_valueNow) (hM : mOk (cxE X) T L P mb) (post : Int32 → MS → Prop) (hQ : cxMQ X (va_Qi post (fun u t => wdW (cxE X) (mW z T L V0 P mb u) t.heap) (w_A (cxE X))) 0 0) (ke_124 : MS → Prop) (hke_124 : ∀ (sg : MS), ke_124 sg → gW X 0 0 z T L (up1 V0 mb sg) P 124 [some (.ref mb), none, none, none] [])  : ∀ (n : Nat) (x1 : Int32) (x2 : Int32) (sg : MS), lM_valueNow_4 post ke_124 n x1 x2 sg → gW X 0 0 z T L (up1 V0 mb sg) P 4 [some (.ref mb), some (.int x1), some (.int x2), none] [] := by
  intro n
  induction n with
  | zero =>
    intro x1 x2 sg w
    exact w.elim
  | succ n ih =>
    intro x1 x2 sg w
    unfold lM_valueNow_4 at w
    refine g_iload_n O dX8_valueNow_4 rfl ?_
    refine g_aload_n O dX8_valueNow_5 rfl ?_
    refine gm_getA (j := 3) O hM.1 rfl (by decide) q1731 dX8_valueNow_6 ?_
    refine g_bipush (v := 6) O dX8_valueNow_9 (by decide) ?_
    refine gm_ald (j := 3) (len := 14) (nn := 6) O hM.1 rfl (by decide) (by decide) rfl dX8_valueNow_11 ?_
    refine g_icmp_ge (tgt := 124) O w dX8_valueNow_12 (by decide) (fun w => ?_) (fun w => ?_)
    · refine g_drop [1, 2] (lv' := [some (.ref mb), none, none, none]) rfl ?_
      exact hke_124  (sg) w
    · refine g_aload_n O dX8_valueNow_15 rfl ?_
      refine gm_getA (j := 11) O hM.1 rfl (by decide) q1739 dX8_valueNow_16 ?_
      refine g_iload_n O dX8_valueNow_19 rfl ?_
      obtain ⟨i1, hi2, e3, w⟩ := w
      refine gm_ald (j := 11) (len := 1200) (nn := i1) O hM.1 rfl hi2 (by decide) e3 dX8_valueNow_20 ?_
      refine g_istore_n O dX8_valueNow_21 (Nat.le_of_ble_eq_true rfl) rfl (lv' := [some (.ref mb), some (.int x1), some (.int x2), some (.int (sg 12 i1))]) rfl ?_
      refine g_iload_n O dX8_valueNow_22 rfl ?_
      refine g_bipush (v := (-20)) O dX8_valueNow_23 (by decide) ?_
      refine g_icmp_le (tgt := 56) O w dX8_valueNow_25 (by decide) (fun w => ?_) (fun w => ?_)
      · refine g_iload_n O dX8_valueNow_56 rfl ?_
        refine g_bipush (v := (-28)) O dX8_valueNow_57 (by decide) ?_
        refine g_icmp_ne (tgt := 89) O w dX8_valueNow_59 (by decide) (fun w => ?_) (fun w => ?_)
        · refine g_iinc (v := (x1 + (-1))) O dX8_valueNow_89 rfl rfl rfl (lv' := [some (.ref mb), some (.int (x1 + (-1))), some (.int x2), some (.int (sg 12 i1))]) rfl ?_
          refine g_aload_n O dX8_valueNow_92 rfl ?_
          refine gm_getA (j := 36) O hM.1 rfl (by decide) q1764 dX8_valueNow_93 ?_
          refine g_iload_n O dX8_valueNow_96 rfl ?_
          refine g_iconst (v := 1) O dX8_valueNow_97 (by decide) ?_
          refine g_isub O dX8_valueNow_98 ?_
          refine g_iload_n O dX8_valueNow_99 rfl ?_
          refine g_aload_n O dX8_valueNow_100 rfl ?_
          refine gm_getA (j := 36) O hM.1 rfl (by decide) q1764 dX8_valueNow_101 ?_
          refine g_iload_n O dX8_valueNow_104 rfl ?_
          refine g_iconst (v := 1) O dX8_valueNow_105 (by decide) ?_
          refine g_isub O dX8_valueNow_106 ?_
          obtain ⟨i4, hi5, e6, w⟩ := w
          refine gm_ald (j := 36) (len := 64) (nn := i4) O hM.1 rfl hi5 (by decide) e6 dX8_valueNow_107 ?_
          refine g_aload_n O dX8_valueNow_108 rfl ?_
          refine gm_getA (j := 36) O hM.1 rfl (by decide) q1764 dX8_valueNow_109 ?_
          refine g_iload_n O dX8_valueNow_112 rfl ?_
          obtain ⟨i7, hi8, e9, w⟩ := w
          refine gm_ald (j := 36) (len := 64) (nn := i7) O hM.1 rfl hi8 (by decide) e9 dX8_valueNow_113 ?_
          refine gm_Si0 (nA := 3) (As := [.int (sg 12 i1), .int (sg 37 i4), .int (sg 37 i7)]) (rest := [.int ((x1 + (-1)) - 1), .ref (mb + 20)]) O hRm (cM_reckon _ O.2.2.2.2.2.2.2.2 _ _ _ _ _ _ _ hM sg ((sg 12 i1)) ((sg 37 i4)) ((sg 37 i7)) _ w) (lw_S q2117 q2118 q134 q2119) rfl rfl (by decide +kernel) ⟨Nat.le_of_ble_eq_true rfl, Nat.le_of_ble_eq_true rfl⟩ rfl rfl rfl (Nat.le_of_ble_eq_true rfl) dX8_valueNow_114 (fun r10 w => ?_)
          obtain ⟨i12, hi13, e14, w⟩ := w
          refine gm_ast (j := 36) (len := 64) (nn := i12) O hM.1 rfl hi13 (by decide) e14 dX8_valueNow_117 ?_
          refine g_drop [3] (lv' := [some (.ref mb), some (.int (x1 + (-1))), some (.int x2), none]) rfl ?_
          exact vM_valueNow_118 O hRm hM (s2 sg 37 i12 r10)  (x1 + (-1)) x2 post hQ (lM_valueNow_4 post ke_124 n) ih w
        · refine g_aload_n O dX8_valueNow_62 rfl ?_
          refine gm_getA (j := 36) O hM.1 rfl (by decide) q1764 dX8_valueNow_63 ?_
          refine g_iload_n O dX8_valueNow_66 rfl ?_
          refine g_iconst (v := 1) O dX8_valueNow_67 (by decide) ?_
          refine g_isub O dX8_valueNow_68 ?_
          refine g_aload_n O dX8_valueNow_69 rfl ?_
          refine gm_getA (j := 36) O hM.1 rfl (by decide) q1764 dX8_valueNow_70 ?_
          refine g_iload_n O dX8_valueNow_73 rfl ?_
          refine g_iconst (v := 1) O dX8_valueNow_74 (by decide) ?_
          refine g_isub O dX8_valueNow_75 ?_
          obtain ⟨i15, hi16, e17, w⟩ := w
          refine gm_ald (j := 36) (len := 64) (nn := i15) O hM.1 rfl hi16 (by decide) e17 dX8_valueNow_76 ?_
          refine g_if_eq (tgt := 84) O w dX8_valueNow_77 (by decide) (fun w => ?_) (fun w => ?_)
          · refine g_iconst (v := 1) O dX8_valueNow_84 (by decide) ?_
            refine g_drop [3] (lv' := [some (.ref mb), some (.int x1), some (.int x2), none]) rfl ?_
            exact vM_valueNow_85 O hRm hM sg  x1 x2 1 (x1 - 1) post hQ (lM_valueNow_4 post ke_124 n) ih w
          · refine g_iconst (v := 0) O dX8_valueNow_80 (by decide) ?_
            refine g_goto (tgt := 85) O dX8_valueNow_81 (by decide) ?_
            refine g_drop [3] (lv' := [some (.ref mb), some (.int x1), some (.int x2), none]) rfl ?_
            exact vM_valueNow_85 O hRm hM sg  x1 x2 0 (x1 - 1) post hQ (lM_valueNow_4 post ke_124 n) ih w
      · refine g_aload_n O dX8_valueNow_28 rfl ?_
        refine gm_getA (j := 36) O hM.1 rfl (by decide) q1764 dX8_valueNow_29 ?_
        refine g_iload_n O dX8_valueNow_32 rfl ?_
        refine g_iload_n O dX8_valueNow_33 rfl ?_
        refine g_if_lt (tgt := 41) O w dX8_valueNow_34 (by decide) (fun w => ?_) (fun w => ?_)
        · refine g_aload_n O dX8_valueNow_41 rfl ?_
          refine gm_getA (j := 35) O hM.1 rfl (by decide) q1763 dX8_valueNow_42 ?_
          refine g_iconst (v := (-1)) O dX8_valueNow_45 (by decide) ?_
          refine g_iload_n O dX8_valueNow_46 rfl ?_
          refine g_isub O dX8_valueNow_47 ?_
          obtain ⟨i21, hi22, e23, w⟩ := w
          refine gm_ald (j := 35) (len := 5) (nn := i21) O hM.1 rfl hi22 (by decide) e23 dX8_valueNow_48 ?_
          refine g_drop [3] (lv' := [some (.ref mb), some (.int x1), some (.int x2), none]) rfl ?_
          exact vM_valueNow_49 O hRm hM sg  x1 x2 (sg 36 i21) x1 post hQ (lM_valueNow_4 post ke_124 n) ih w
        · refine g_iload_n O dX8_valueNow_37 rfl ?_
          refine g_goto (tgt := 49) O dX8_valueNow_38 (by decide) ?_
          refine g_drop [3] (lv' := [some (.ref mb), some (.int x1), some (.int x2), none]) rfl ?_
          exact vM_valueNow_49 O hRm hM sg  x1 x2 (sg 12 i1) x1 post hQ (lM_valueNow_4 post ke_124 n) ih w
set_option maxHeartbeats 4000000 in
theorem cM_valueNow (l : Launch) (hfl : l.flags = flags0) (E : w_E) (z : Nat) (T L : Nat → Nat) (V0 : w_V) (P : w_P) (mb : Nat) (hM : mOk E T L P mb) (sg : MS) (post : Int32 → MS → Prop) (w : wM_valueNow sg post) : mMi l yX8_valueNow cX8_valueNow 4 (some .int) rM_valueNow E z T L V0 P mb [.ref mb] sg post := by
  refine g_start (S := Unit) hfl (by decide +kernel) rfl [some (.ref mb), none, none, none] rfl (fun _ h => h) (Nat.le_of_ble_eq_true rfl) (fun X hl hRm hEe O hQ => ?_)
  subst hl
  subst hEe
  unfold wM_valueNow at w
  refine g_iconst (v := 0) O dX8_valueNow_0 (by decide) ?_
  refine g_istore_n O dX8_valueNow_1 (Nat.le_of_ble_eq_true rfl) rfl (lv' := [some (.ref mb), some (.int 0), none, none]) rfl ?_
  refine g_iconst (v := 0) O dX8_valueNow_2 (by decide) ?_
  refine g_istore_n O dX8_valueNow_3 (Nat.le_of_ble_eq_true rfl) rfl (lv' := [some (.ref mb), some (.int 0), some (.int 0), none]) rfl ?_
  obtain ⟨n28, w⟩ := w
  refine vM_valueNow_4 O hRm hM post hQ _ (fun g27 w => ?_) n28 0 0 sg w
  refine g_aload_n O dX8_valueNow_124 rfl ?_
  refine gm_getA (j := 36) O hM.1 rfl (by decide) q1764 dX8_valueNow_125 ?_
  refine g_iconst (v := 0) O dX8_valueNow_128 (by decide) ?_
  refine gm_ald (j := 36) (len := 64) (nn := 0) O hM.1 rfl (by decide) (by decide) rfl dX8_valueNow_129 ?_
  exact gm_iret O hQ rfl w dX8_valueNow_130
-- holds
abbrev rM_holds : Room := { frames := 3, cells := 0, slots := 0, locals := 57 }
set_option maxHeartbeats 4000000 in
theorem vM_holds_115 {X : Cx} {z : Nat} {T L : Nat → Nat} {V0 : w_V} {P : w_P} {mb : Nat} (O : Okc X cX8_holds RX8 7 (some .boolean)) (hRm : cxR X = rM_holds) (hM : mOk (cxE X) T L P mb) (sg : MS) (t0 : Int32) (t1 : Int32) (post : Int32 → MS → Prop) (hQ : cxMQ X (va_Qi post (fun u t => wdW (cxE X) (mW z T L V0 P mb u) t.heap) (w_A (cxE X))) 0 0) (w : jM_holds_115 sg t0 t1 post) : gW X 0 0 z T L (up1 V0 mb sg) P 115 [some (.ref mb), none, none, none, none, none, none] [.int t0, .int t1] := by
  unfold jM_holds_115 at w
  refine g_icmp_eq (tgt := 122) O w dX8_holds_115 (by decide) (fun w => ?_) (fun w => ?_)
  · refine g_iconst (v := 0) O dX8_holds_122 (by decide) ?_
    exact gm_iret O hQ rfl w dX8_holds_123
  · refine g_iconst (v := 1) O dX8_holds_118 (by decide) ?_
    refine g_goto (tgt := 123) O dX8_holds_119 (by decide) ?_
    exact gm_iret O hQ rfl w dX8_holds_123
set_option maxHeartbeats 4000000 in
theorem vM_holds_98 {X : Cx} {z : Nat} {T L : Nat → Nat} {V0 : w_V} {P : w_P} {mb : Nat} (O : Okc X cX8_holds RX8 7 (some .boolean)) (hRm : cxR X = rM_holds) (hM : mOk (cxE X) T L P mb) (sg : MS) (x2 : Int32) (x6 : Int32) (post : Int32 → MS → Prop) (hQ : cxMQ X (va_Qi post (fun u t => wdW (cxE X) (mW z T L V0 P mb u) t.heap) (w_A (cxE X))) 0 0) (w : jM_holds_98 sg x2 x6 post) : gW X 0 0 z T L (up1 V0 mb sg) P 98 [some (.ref mb), none, some (.int x2), none, none, none, some (.int x6)] [] := by
  unfold jM_holds_98 at w
  refine g_iload O dX8_holds_98 rfl ?_
  refine g_aload_n O dX8_holds_100 rfl ?_
  refine gm_getA (j := 5) O hM.1 rfl (by decide) q1733 dX8_holds_101 ?_
  refine g_iload_n O dX8_holds_104 rfl ?_
  obtain ⟨i4, hi5, e6, w⟩ := w
  refine gm_ald (j := 5) (len := 10) (nn := i4) O hM.1 rfl hi5 (by decide) e6 dX8_holds_105 ?_
  refine g_iconst (v := 2) O dX8_holds_106 (by decide) ?_
  refine g_icmp_ne (tgt := 114) O w dX8_holds_107 (by decide) (fun w => ?_) (fun w => ?_)
  · refine g_iconst (v := 0) O dX8_holds_114 (by decide) ?_
    refine g_drop [2, 6] (lv' := [some (.ref mb), none, none, none, none, none, none]) rfl ?_
    exact vM_holds_115 O hRm hM sg  0 x6 post hQ w
  · refine g_iconst (v := 1) O dX8_holds_110 (by decide) ?_
    refine g_goto (tgt := 115) O dX8_holds_111 (by decide) ?_
    refine g_drop [2, 6] (lv' := [some (.ref mb), none, none, none, none, none, none]) rfl ?_
    exact vM_holds_115 O hRm hM sg  1 x6 post hQ w
set_option maxHeartbeats 4000000 in
theorem vM_holds_96 {X : Cx} {z : Nat} {T L : Nat → Nat} {V0 : w_V} {P : w_P} {mb : Nat} (O : Okc X cX8_holds RX8 7 (some .boolean)) (hRm : cxR X = rM_holds) (hM : mOk (cxE X) T L P mb) (sg : MS) (x2 : Int32) (t0 : Int32) (post : Int32 → MS → Prop) (hQ : cxMQ X (va_Qi post (fun u t => wdW (cxE X) (mW z T L V0 P mb u) t.heap) (w_A (cxE X))) 0 0) (w : jM_holds_96 sg x2 t0 post) : gW X 0 0 z T L (up1 V0 mb sg) P 96 [some (.ref mb), none, some (.int x2), none, none, none, none] [.int t0] := by
  unfold jM_holds_96 at w
  refine g_istore O dX8_holds_96 (Nat.le_of_ble_eq_true rfl) rfl (lv' := [some (.ref mb), none, some (.int x2), none, none, none, some (.int t0)]) rfl ?_
  exact vM_holds_98 O hRm hM sg  x2 t0 post hQ w
set_option maxHeartbeats 4000000 in
theorem vM_holds_24 {X : Cx} {z : Nat} {T L : Nat → Nat} {V0 : w_V} {P : w_P} {mb : Nat} (O : Okc X cX8_holds RX8 7 (some .boolean)) (hRm : cxR X = rM_holds) (hM : mOk (cxE X) T L P mb) (sg : MS) (x1 : Int32) (x2 : Int32) (x3 : Int32) (x4 : Int32) (x5 : Int32) (t0 : Int32) (post : Int32 → MS → Prop) (hQ : cxMQ X (va_Qi post (fun u t => wdW (cxE X) (mW z T L V0 P mb u) t.heap) (w_A (cxE X))) 0 0) (w : jM_holds_24 sg x1 x2 x3 x4 x5 t0 post) : gW X 0 0 z T L (up1 V0 mb sg) P 24 [some (.ref mb), some (.int x1), some (.int x2), some (.int x3), some (.int x4), some (.int x5), none] [.int t0] := by
  unfold jM_holds_24 at w
  refine g_istore O dX8_holds_24 (Nat.le_of_ble_eq_true rfl) rfl (lv' := [some (.ref mb), some (.int x1), some (.int x2), some (.int x3), some (.int x4), some (.int x5), some (.int t0)]) rfl ?_
  refine g_aload_n O dX8_holds_26 rfl ?_
  refine gm_getA (j := 3) O hM.1 rfl (by decide) q1731 dX8_holds_27 ?_
  refine g_bipush (v := 6) O dX8_holds_30 (by decide) ?_
  refine gm_ald (j := 3) (len := 14) (nn := 6) O hM.1 rfl (by decide) (by decide) rfl dX8_holds_32 ?_
  refine g_if_le (tgt := 98) O w dX8_holds_33 (by decide) (fun w => ?_) (fun w => ?_)
  · refine g_drop [1, 3, 4, 5] (lv' := [some (.ref mb), none, some (.int x2), none, none, none, some (.int t0)]) rfl ?_
    exact vM_holds_98 O hRm hM sg  x2 t0 post hQ w
  · refine g_aload_n O dX8_holds_36 rfl ?_
    refine gm_getA (j := 35) O hM.1 rfl (by decide) q1763 dX8_holds_37 ?_
    refine g_iconst (v := 0) O dX8_holds_40 (by decide) ?_
    refine g_iload O dX8_holds_41 rfl ?_
    refine gm_ast (j := 35) (len := 5) (nn := 0) O hM.1 rfl (by decide) (by decide) rfl dX8_holds_43 ?_
    refine g_aload_n O dX8_holds_44 rfl ?_
    refine gm_getA (j := 35) O hM.1 rfl (by decide) q1763 dX8_holds_45 ?_
    refine g_iconst (v := 1) O dX8_holds_48 (by decide) ?_
    refine g_aload_n O dX8_holds_49 rfl ?_
    refine gm_getA (j := 7) O hM.1 rfl (by decide) q1735 dX8_holds_50 ?_
    refine g_iload_n O dX8_holds_53 rfl ?_
    obtain ⟨i7, hi8, e9, w⟩ := w
    refine gm_ald (j := 7) (len := 10) (nn := i7) O hM.1 rfl hi8 (by decide) e9 dX8_holds_54 ?_
    refine gm_ast (j := 35) (len := 5) (nn := 1) O hM.1 rfl (by decide) (by decide) rfl dX8_holds_55 ?_
    refine g_aload_n O dX8_holds_56 rfl ?_
    refine gm_getA (j := 35) O hM.1 rfl (by decide) q1763 dX8_holds_57 ?_
    refine g_iconst (v := 2) O dX8_holds_60 (by decide) ?_
    refine g_iload O dX8_holds_61 rfl ?_
    refine gm_ast (j := 35) (len := 5) (nn := 2) O hM.1 rfl (by decide) (by decide) rfl dX8_holds_63 ?_
    refine g_aload_n O dX8_holds_64 rfl ?_
    refine gm_getA (j := 35) O hM.1 rfl (by decide) q1763 dX8_holds_65 ?_
    refine g_iconst (v := 3) O dX8_holds_68 (by decide) ?_
    refine g_iload_n O dX8_holds_69 rfl ?_
    refine gm_ast (j := 35) (len := 5) (nn := 3) O hM.1 rfl (by decide) (by decide) rfl dX8_holds_70 ?_
    refine g_aload_n O dX8_holds_71 rfl ?_
    refine gm_getA (j := 35) O hM.1 rfl (by decide) q1763 dX8_holds_72 ?_
    refine g_iconst (v := 4) O dX8_holds_75 (by decide) ?_
    refine g_aload_n O dX8_holds_76 rfl ?_
    refine g_iload_n O dX8_holds_77 rfl ?_
    refine g_iload O dX8_holds_78 rfl ?_
    refine gm_Vi0 (nA := 2) (As := [.int x1, .int x4]) (rest := [.int 4, .ref (mb + 19)]) O hRm hM.1 (cM_saidAhead _ O.2.2.2.2.2.2.2.2 _ _ _ _ _ _ _ hM (s2 (s2 (s2 (s2 sg 36 0 x5) 36 1 ((s2 sg 36 0 x5) 8 i7)) 36 2 x4) 36 3 x3) (x1) (x4) _ w) (lw_V q2109 q2111 qs85 q134 q2112) rfl rfl (by decide +kernel) ⟨Nat.le_of_ble_eq_true rfl, Nat.le_of_ble_eq_true rfl⟩ rfl rfl rfl (Nat.le_of_ble_eq_true rfl) dX8_holds_80 (fun r10 w => ?_)
    refine gm_ast (j := 35) (len := 5) (nn := 4) O hM.1 rfl (by decide) (by decide) rfl dX8_holds_83 ?_
    refine g_aload_n O dX8_holds_84 rfl ?_
    refine gm_Vi (nA := 0) (As := []) (rest := []) O hRm hM.1 (cM_valueNow _ O.2.2.2.2.2.2.2.2 _ _ _ _ _ _ _ hM (s2 (s2 (s2 (s2 (s2 sg 36 0 x5) 36 1 ((s2 sg 36 0 x5) 8 i7)) 36 2 x4) 36 3 x3) 36 4 r10) _ w) (lw_V q2113 q2115 qs86 q134 q2116) rfl rfl (by decide +kernel) ⟨Nat.le_of_ble_eq_true rfl, Nat.le_of_ble_eq_true rfl⟩ rfl rfl rfl (Nat.le_of_ble_eq_true rfl) dX8_holds_85 (fun r12 g13 w => ?_)
    refine g_if_le (tgt := 95) O w dX8_holds_88 (by decide) (fun w => ?_) (fun w => ?_)
    · refine g_iconst (v := 0) O dX8_holds_95 (by decide) ?_
      refine g_drop [1, 3, 4, 5, 6] (lv' := [some (.ref mb), none, some (.int x2), none, none, none, none]) rfl ?_
      exact vM_holds_96 O hRm hM g13  x2 0 post hQ w
    · refine g_iconst (v := 1) O dX8_holds_91 (by decide) ?_
      refine g_goto (tgt := 96) O dX8_holds_92 (by decide) ?_
      refine g_drop [1, 3, 4, 5, 6] (lv' := [some (.ref mb), none, some (.int x2), none, none, none, none]) rfl ?_
      exact vM_holds_96 O hRm hM g13  x2 1 post hQ w
set_option maxHeartbeats 4000000 in
theorem cM_holds (l : Launch) (hfl : l.flags = flags0) (E : w_E) (z : Nat) (T L : Nat → Nat) (V0 : w_V) (P : w_P) (mb : Nat) (hM : mOk E T L P mb) (sg : MS) (x1 : Int32) (x2 : Int32) (x3 : Int32) (x4 : Int32) (post : Int32 → MS → Prop) (w : wM_holds sg x1 x2 x3 x4 post) : mMi l yX8_holds cX8_holds 7 (some .boolean) rM_holds E z T L V0 P mb [.ref mb, .int x1, .int x2, .int x3, .int x4] sg post := by
  refine g_start (S := Unit) hfl (by decide +kernel) rfl [some (.ref mb), some (.int x1), some (.int x2), some (.int x3), some (.int x4), none, none] rfl (fun _ h => h) (Nat.le_of_ble_eq_true rfl) (fun X hl hRm hEe O hQ => ?_)
  subst hl
  subst hEe
  unfold wM_holds at w
  refine g_aload_n O dX8_holds_0 rfl ?_
  refine gm_getA (j := 10) O hM.1 rfl (by decide) q1738 dX8_holds_1 ?_
  refine g_bipush (v := 9) O dX8_holds_4 (by decide) ?_
  refine g_iload_n O dX8_holds_6 rfl ?_
  refine g_imul O dX8_holds_7 ?_
  refine g_iload_n O dX8_holds_8 rfl ?_
  refine g_iadd O dX8_holds_9 ?_
  obtain ⟨i1, hi2, e3, w⟩ := w
  refine gm_ald (j := 10) (len := 108) (nn := i1) O hM.1 rfl hi2 (by decide) e3 dX8_holds_10 ?_
  refine g_istore O dX8_holds_11 (Nat.le_of_ble_eq_true rfl) rfl (lv' := [some (.ref mb), some (.int x1), some (.int x2), some (.int x3), some (.int x4), some (.int (sg 11 i1)), none]) rfl ?_
  refine g_iload O dX8_holds_13 rfl ?_
  refine g_iconst (v := 4) O dX8_holds_15 (by decide) ?_
  refine g_icmp_le (tgt := 23) O w dX8_holds_16 (by decide) (fun w => ?_) (fun w => ?_)
  · refine g_iconst (v := 0) O dX8_holds_23 (by decide) ?_
    exact vM_holds_24 O hRm hM sg  x1 x2 x3 x4 (sg 11 i1) 0 post hQ w
  · refine g_iconst (v := 1) O dX8_holds_19 (by decide) ?_
    refine g_goto (tgt := 24) O dX8_holds_20 (by decide) ?_
    exact vM_holds_24 O hRm hM sg  x1 x2 x3 x4 (sg 11 i1) 1 post hQ w
-- isFeast
abbrev rM_isFeast : Room := { frames := 1, cells := 0, slots := 0, locals := 12 }
set_option maxHeartbeats 4000000 in
theorem vM_isFeast_52 {X : Cx} {z : Nat} {T L : Nat → Nat} {V0 : w_V} {P : w_P} {mb : Nat} (O : Okc X cX8_isFeast RX8 4 (some .boolean)) (hRm : cxR X = rM_isFeast) (hM : mOk (cxE X) T L P mb) (sg : MS) (x1 : Int32) (x2 : Int32) (x3 : Int32) (post : Int32 → Prop) (hQ : cxMQ X (va_Qi (fun x (_ : Unit) => post x) (fun (_ : Unit) t => wdW (cxE X) (mW z T L V0 P mb sg) t.heap) (w_A (cxE X))) 0 0) (kb : Int32 → Prop) (hkb : ∀ (y3 : Int32), kb y3 → gW X 0 0 z T L (up1 V0 mb sg) P 2 [some (.ref mb), some (.int x1), some (.int x2), some (.int y3)] []) (w : jM_isFeast_52 sg x1 x2 x3 post kb) : gW X 0 0 z T L (up1 V0 mb sg) P 52 [some (.ref mb), some (.int x1), some (.int x2), some (.int x3)] [] := by
  unfold jM_isFeast_52 at w
  refine g_iinc (v := (x3 + 1)) O dX8_isFeast_52 rfl rfl rfl (lv' := [some (.ref mb), some (.int x1), some (.int x2), some (.int (x3 + 1))]) rfl ?_
  refine g_goto (tgt := 2) O dX8_isFeast_55 (by decide) ?_
  exact hkb ((x3 + 1)) w
set_option maxHeartbeats 4000000 in
theorem vM_isFeast_2 {X : Cx} {z : Nat} {T L : Nat → Nat} {V0 : w_V} {P : w_P} {mb : Nat} (O : Okc X cX8_isFeast RX8 4 (some .boolean)) (hRm : cxR X = rM_isFeast) (hM : mOk (cxE X) T L P mb) (sg : MS) (x1 : Int32) (x2 : Int32) (post : Int32 → Prop) (hQ : cxMQ X (va_Qi (fun x (_ : Unit) => post x) (fun (_ : Unit) t => wdW (cxE X) (mW z T L V0 P mb sg) t.heap) (w_A (cxE X))) 0 0)  : ∀ (n : Nat) (x3 : Int32), lM_isFeast_2 sg x1 x2 post n x3 → gW X 0 0 z T L (up1 V0 mb sg) P 2 [some (.ref mb), some (.int x1), some (.int x2), some (.int x3)] [] := by
  intro n
  induction n with
  | zero =>
    intro x3 w
    exact w.elim
  | succ n ih =>
    intro x3 w
    unfold lM_isFeast_2 at w
    refine g_iload_n O dX8_isFeast_2 rfl ?_
    refine g_aload_n O dX8_isFeast_3 rfl ?_
    refine gm_getI (j := 31) O hM.1 rfl (by decide) q1759 dX8_isFeast_4 ?_
    refine g_icmp_ge (tgt := 58) O w dX8_isFeast_7 (by decide) (fun w => ?_) (fun w => ?_)
    · refine g_iconst (v := 0) O dX8_isFeast_58 (by decide) ?_
      exact gm_iret0 O hQ rfl w dX8_isFeast_59
    · refine g_aload_n O dX8_isFeast_10 rfl ?_
      refine gm_getA (j := 26) O hM.1 rfl (by decide) q1754 dX8_isFeast_11 ?_
      refine g_iconst (v := 3) O dX8_isFeast_14 (by decide) ?_
      refine g_iload_n O dX8_isFeast_15 rfl ?_
      refine g_imul O dX8_isFeast_16 ?_
      obtain ⟨i1, hi2, e3, w⟩ := w
      refine gm_ald (j := 26) (len := 12) (nn := i1) O hM.1 rfl hi2 (by decide) e3 dX8_isFeast_17 ?_
      refine g_iload_n O dX8_isFeast_18 rfl ?_
      refine g_icmp_ne (tgt := 52) O w dX8_isFeast_19 (by decide) (fun w => ?_) (fun w => ?_)
      · exact vM_isFeast_52 O hRm hM sg  x1 x2 x3 post hQ (lM_isFeast_2 sg x1 x2 post n) ih w
      · refine g_iload_n O dX8_isFeast_22 rfl ?_
        refine g_aload_n O dX8_isFeast_23 rfl ?_
        refine gm_getA (j := 26) O hM.1 rfl (by decide) q1754 dX8_isFeast_24 ?_
        refine g_iconst (v := 3) O dX8_isFeast_27 (by decide) ?_
        refine g_iload_n O dX8_isFeast_28 rfl ?_
        refine g_imul O dX8_isFeast_29 ?_
        refine g_iconst (v := 1) O dX8_isFeast_30 (by decide) ?_
        refine g_iadd O dX8_isFeast_31 ?_
        obtain ⟨i4, hi5, e6, w⟩ := w
        refine gm_ald (j := 26) (len := 12) (nn := i4) O hM.1 rfl hi5 (by decide) e6 dX8_isFeast_32 ?_
        refine g_icmp_lt (tgt := 52) O w dX8_isFeast_33 (by decide) (fun w => ?_) (fun w => ?_)
        · exact vM_isFeast_52 O hRm hM sg  x1 x2 x3 post hQ (lM_isFeast_2 sg x1 x2 post n) ih w
        · refine g_iload_n O dX8_isFeast_36 rfl ?_
          refine g_aload_n O dX8_isFeast_37 rfl ?_
          refine gm_getA (j := 26) O hM.1 rfl (by decide) q1754 dX8_isFeast_38 ?_
          refine g_iconst (v := 3) O dX8_isFeast_41 (by decide) ?_
          refine g_iload_n O dX8_isFeast_42 rfl ?_
          refine g_imul O dX8_isFeast_43 ?_
          refine g_iconst (v := 2) O dX8_isFeast_44 (by decide) ?_
          refine g_iadd O dX8_isFeast_45 ?_
          obtain ⟨i7, hi8, e9, w⟩ := w
          refine gm_ald (j := 26) (len := 12) (nn := i7) O hM.1 rfl hi8 (by decide) e9 dX8_isFeast_46 ?_
          refine g_icmp_gt (tgt := 52) O w dX8_isFeast_47 (by decide) (fun w => ?_) (fun w => ?_)
          · exact vM_isFeast_52 O hRm hM sg  x1 x2 x3 post hQ (lM_isFeast_2 sg x1 x2 post n) ih w
          · refine g_iconst (v := 1) O dX8_isFeast_50 (by decide) ?_
            exact gm_iret0 O hQ rfl w dX8_isFeast_51
set_option maxHeartbeats 4000000 in
theorem cM_isFeast (l : Launch) (hfl : l.flags = flags0) (E : w_E) (z : Nat) (T L : Nat → Nat) (V0 : w_V) (P : w_P) (mb : Nat) (hM : mOk E T L P mb) (sg : MS) (x1 : Int32) (x2 : Int32) (post : Int32 → Prop) (w : wM_isFeast sg x1 x2 post) : mMi0 l yX8_isFeast cX8_isFeast 4 (some .boolean) rM_isFeast E z T L V0 P mb [.ref mb, .int x1, .int x2] sg post := by
  refine g_start (S := Unit) hfl (by decide +kernel) rfl [some (.ref mb), some (.int x1), some (.int x2), none] rfl (fun _ h => h) (Nat.le_of_ble_eq_true rfl) (fun X hl hRm hEe O hQ => ?_)
  subst hl
  subst hEe
  unfold wM_isFeast at w
  refine g_iconst (v := 0) O dX8_isFeast_0 (by decide) ?_
  refine g_istore_n O dX8_isFeast_1 (Nat.le_of_ble_eq_true rfl) rfl (lv' := [some (.ref mb), some (.int x1), some (.int x2), some (.int 0)]) rfl ?_
  obtain ⟨n10, w⟩ := w
  exact vM_isFeast_2 O hRm hM sg x1 x2 post hQ n10 0 w
-- hear
abbrev rM_hear : Room := { frames := 4, cells := 0, slots := 0, locals := 83 }
set_option maxHeartbeats 4000000 in
theorem vM_hear_101 {X : Cx} {z : Nat} {T L : Nat → Nat} {V0 : w_V} {P : w_P} {mb : Nat} (O : Okc X cX8_hear RX8 6 none) (hRm : cxR X = rM_hear) (hM : mOk (cxE X) T L P mb) (sg : MS) (x1 : Int32) (x2 : Int32) (x3 : Int32) (x4 : Int32) (post : MS → Prop) (hQ : cxMQ X (va_Qv post (fun u t => wdW (cxE X) (mW z T L V0 P mb u) t.heap) (w_A (cxE X))) 0 0) (kb : Int32 → MS → Prop) (hkb : ∀ (y4 : Int32) (sg : MS), kb y4 sg → gW X 0 0 z T L (up1 V0 mb sg) P 3 [some (.ref mb), some (.int x1), some (.int x2), some (.int x3), some (.int y4), none] []) (w : jM_hear_101 sg x1 x2 x3 x4 post kb) : gW X 0 0 z T L (up1 V0 mb sg) P 101 [some (.ref mb), some (.int x1), some (.int x2), some (.int x3), some (.int x4), none] [] := by
  unfold jM_hear_101 at w
  refine g_iinc (v := (x4 + 1)) O dX8_hear_101 rfl rfl rfl (lv' := [some (.ref mb), some (.int x1), some (.int x2), some (.int x3), some (.int (x4 + 1)), none]) rfl ?_
  refine g_goto (tgt := 3) O dX8_hear_104 (by decide) ?_
  exact hkb ((x4 + 1)) (sg) w
set_option maxHeartbeats 4000000 in
theorem vM_hear_84 {X : Cx} {z : Nat} {T L : Nat → Nat} {V0 : w_V} {P : w_P} {mb : Nat} (O : Okc X cX8_hear RX8 6 none) (hRm : cxR X = rM_hear) (hM : mOk (cxE X) T L P mb) (sg : MS) (x1 : Int32) (x2 : Int32) (x3 : Int32) (x4 : Int32) (x5 : Int32) (t0 : Int32) (t1 : Int32) (post : MS → Prop) (hQ : cxMQ X (va_Qv post (fun u t => wdW (cxE X) (mW z T L V0 P mb u) t.heap) (w_A (cxE X))) 0 0) (kb : Int32 → MS → Prop) (hkb : ∀ (y4 : Int32) (sg : MS), kb y4 sg → gW X 0 0 z T L (up1 V0 mb sg) P 3 [some (.ref mb), some (.int x1), some (.int x2), some (.int x3), some (.int y4), none] []) (w : jM_hear_84 sg x1 x2 x3 x4 x5 t0 t1 post kb) : gW X 0 0 z T L (up1 V0 mb sg) P 84 [some (.ref mb), some (.int x1), some (.int x2), some (.int x3), some (.int x4), some (.int x5)] [.int t0, .int t1, .ref (mb + 24)] := by
  unfold jM_hear_84 at w
  obtain ⟨i11, hi12, e13, w⟩ := w
  refine gm_ast (j := 44) (len := 30) (nn := i11) O hM.1 rfl hi12 (by decide) e13 dX8_hear_84 ?_
  refine g_aload_n O dX8_hear_85 rfl ?_
  refine gm_getA (j := 45) O hM.1 rfl (by decide) q1773 dX8_hear_86 ?_
  refine g_iload O dX8_hear_89 rfl ?_
  refine g_iload_n O dX8_hear_91 rfl ?_
  obtain ⟨i14, hi15, e16, w⟩ := w
  refine gm_ast (j := 45) (len := 30) (nn := i14) O hM.1 rfl hi15 (by decide) e16 dX8_hear_92 ?_
  refine g_aload_n O dX8_hear_93 rfl ?_
  refine gm_getA (j := 46) O hM.1 rfl (by decide) q1774 dX8_hear_94 ?_
  refine g_iload O dX8_hear_97 rfl ?_
  refine g_iload_n O dX8_hear_99 rfl ?_
  obtain ⟨i17, hi18, e19, w⟩ := w
  refine gm_ast (j := 46) (len := 30) (nn := i17) O hM.1 rfl hi18 (by decide) e19 dX8_hear_100 ?_
  refine g_drop [5] (lv' := [some (.ref mb), some (.int x1), some (.int x2), some (.int x3), some (.int x4), none]) rfl ?_
  exact vM_hear_101 O hRm hM (s2 (s2 (s2 sg 45 i11 t0) 46 i14 x3) 47 i17 x2)  x1 x2 x3 x4 post hQ kb hkb w
set_option maxHeartbeats 4000000 in
theorem vM_hear_3 {X : Cx} {z : Nat} {T L : Nat → Nat} {V0 : w_V} {P : w_P} {mb : Nat} (O : Okc X cX8_hear RX8 6 none) (hRm : cxR X = rM_hear) (hM : mOk (cxE X) T L P mb) (x1 : Int32) (x2 : Int32) (x3 : Int32) (post : MS → Prop) (hQ : cxMQ X (va_Qv post (fun u t => wdW (cxE X) (mW z T L V0 P mb u) t.heap) (w_A (cxE X))) 0 0)  : ∀ (n : Nat) (x4 : Int32) (sg : MS), lM_hear_3 x1 x2 x3 post n x4 sg → gW X 0 0 z T L (up1 V0 mb sg) P 3 [some (.ref mb), some (.int x1), some (.int x2), some (.int x3), some (.int x4), none] [] := by
  intro n
  induction n with
  | zero =>
    intro x4 sg w
    exact w.elim
  | succ n ih =>
    intro x4 sg w
    unfold lM_hear_3 at w
    refine g_iload O dX8_hear_3 rfl ?_
    refine g_aload_n O dX8_hear_5 rfl ?_
    refine gm_getA (j := 3) O hM.1 rfl (by decide) q1731 dX8_hear_6 ?_
    refine g_iconst (v := 5) O dX8_hear_9 (by decide) ?_
    refine gm_ald (j := 3) (len := 14) (nn := 5) O hM.1 rfl (by decide) (by decide) rfl dX8_hear_10 ?_
    refine g_icmp_ge (tgt := 107) O w dX8_hear_11 (by decide) (fun w => ?_) (fun w => ?_)
    · exact gm_vret O hQ w dX8_hear_107
    · refine g_aload_n O dX8_hear_14 rfl ?_
      refine g_iload_n O dX8_hear_15 rfl ?_
      refine g_iload_n O dX8_hear_16 rfl ?_
      refine gm_Vi0 (nA := 2) (As := [.int x2, .int x3]) (rest := []) O hRm hM.1 (cM_isFeast _ O.2.2.2.2.2.2.2.2 _ _ _ _ _ _ _ hM sg (x2) (x3) _ w) (lw_V q2101 q2103 qs83 q134 q2104) rfl rfl (by decide +kernel) ⟨Nat.le_of_ble_eq_true rfl, Nat.le_of_ble_eq_true rfl⟩ rfl rfl rfl (Nat.le_of_ble_eq_true rfl) dX8_hear_17 (fun r1 w => ?_)
      refine g_if_ne (tgt := 107) O w dX8_hear_20 (by decide) (fun w => ?_) (fun w => ?_)
      · exact gm_vret O hQ w dX8_hear_107
      · refine g_iconst (v := 5) O dX8_hear_23 (by decide) ?_
        refine g_iload O dX8_hear_24 rfl ?_
        refine g_imul O dX8_hear_26 ?_
        refine g_iload_n O dX8_hear_27 rfl ?_
        refine g_iadd O dX8_hear_28 ?_
        refine g_istore O dX8_hear_29 (Nat.le_of_ble_eq_true rfl) rfl (lv' := [some (.ref mb), some (.int x1), some (.int x2), some (.int x3), some (.int x4), some (.int ((5 * x4) + x1))]) rfl ?_
        refine g_aload_n O dX8_hear_31 rfl ?_
        refine gm_getA (j := 10) O hM.1 rfl (by decide) q1738 dX8_hear_32 ?_
        refine g_bipush (v := 9) O dX8_hear_35 (by decide) ?_
        refine g_iload O dX8_hear_37 rfl ?_
        refine g_imul O dX8_hear_39 ?_
        refine g_iload_n O dX8_hear_40 rfl ?_
        refine g_iadd O dX8_hear_41 ?_
        obtain ⟨i3, hi4, e5, w⟩ := w
        refine gm_ald (j := 10) (len := 108) (nn := i3) O hM.1 rfl hi4 (by decide) e5 dX8_hear_42 ?_
        refine g_iconst (v := (-1)) O dX8_hear_43 (by decide) ?_
        refine g_icmp_eq (tgt := 101) O w dX8_hear_44 (by decide) (fun w => ?_) (fun w => ?_)
        · refine g_drop [5] (lv' := [some (.ref mb), some (.int x1), some (.int x2), some (.int x3), some (.int x4), none]) rfl ?_
          exact vM_hear_101 O hRm hM sg  x1 x2 x3 x4 post hQ (lM_hear_3 x1 x2 x3 post n) ih w
        · refine g_aload_n O dX8_hear_47 rfl ?_
          refine gm_getA (j := 44) O hM.1 rfl (by decide) q1772 dX8_hear_48 ?_
          refine g_iload O dX8_hear_51 rfl ?_
          obtain ⟨i6, hi7, e8, w⟩ := w
          refine gm_ald (j := 44) (len := 30) (nn := i6) O hM.1 rfl hi7 (by decide) e8 dX8_hear_53 ?_
          refine g_iconst (v := (-1)) O dX8_hear_54 (by decide) ?_
          refine g_icmp_eq (tgt := 61) O w dX8_hear_55 (by decide) (fun w => ?_) (fun w => ?_)
          · refine g_aload_n O dX8_hear_61 rfl ?_
            refine gm_getA (j := 44) O hM.1 rfl (by decide) q1772 dX8_hear_62 ?_
            refine g_iload O dX8_hear_65 rfl ?_
            refine g_aload_n O dX8_hear_67 rfl ?_
            refine g_iload O dX8_hear_68 rfl ?_
            refine g_iload_n O dX8_hear_70 rfl ?_
            refine g_iload_n O dX8_hear_71 rfl ?_
            refine g_iload_n O dX8_hear_72 rfl ?_
            refine gm_Vi (nA := 4) (As := [.int x4, .int x1, .int x2, .int x3]) (rest := [.int ((5 * x4) + x1), .ref (mb + 24)]) O hRm hM.1 (cM_holds _ O.2.2.2.2.2.2.2.2 _ _ _ _ _ _ _ hM sg (x4) (x1) (x2) (x3) _ w) (lw_V q2105 q2107 qs84 q134 q2108) rfl rfl (by decide +kernel) ⟨Nat.le_of_ble_eq_true rfl, Nat.le_of_ble_eq_true rfl⟩ rfl rfl rfl (Nat.le_of_ble_eq_true rfl) dX8_hear_73 (fun r9 g10 w => ?_)
            refine g_if_eq (tgt := 83) O w dX8_hear_76 (by decide) (fun w => ?_) (fun w => ?_)
            · refine g_iconst (v := 0) O dX8_hear_83 (by decide) ?_
              exact vM_hear_84 O hRm hM g10  x1 x2 x3 x4 ((5 * x4) + x1) 0 ((5 * x4) + x1) post hQ (lM_hear_3 x1 x2 x3 post n) ih w
            · refine g_iconst (v := 1) O dX8_hear_79 (by decide) ?_
              refine g_goto (tgt := 84) O dX8_hear_80 (by decide) ?_
              exact vM_hear_84 O hRm hM g10  x1 x2 x3 x4 ((5 * x4) + x1) 1 ((5 * x4) + x1) post hQ (lM_hear_3 x1 x2 x3 post n) ih w
          · refine g_goto (tgt := 101) O dX8_hear_58 (by decide) ?_
            refine g_drop [5] (lv' := [some (.ref mb), some (.int x1), some (.int x2), some (.int x3), some (.int x4), none]) rfl ?_
            exact vM_hear_101 O hRm hM sg  x1 x2 x3 x4 post hQ (lM_hear_3 x1 x2 x3 post n) ih w
set_option maxHeartbeats 4000000 in
theorem cM_hear (l : Launch) (hfl : l.flags = flags0) (E : w_E) (z : Nat) (T L : Nat → Nat) (V0 : w_V) (P : w_P) (mb : Nat) (hM : mOk E T L P mb) (sg : MS) (x1 : Int32) (x2 : Int32) (x3 : Int32) (post : MS → Prop) (w : wM_hear sg x1 x2 x3 post) : mMv l yX8_hear cX8_hear 6 none rM_hear E z T L V0 P mb [.ref mb, .int x1, .int x2, .int x3] sg post := by
  refine g_start (S := Unit) hfl (by decide +kernel) rfl [some (.ref mb), some (.int x1), some (.int x2), some (.int x3), none, none] rfl (fun _ h => h) (Nat.le_of_ble_eq_true rfl) (fun X hl hRm hEe O hQ => ?_)
  subst hl
  subst hEe
  unfold wM_hear at w
  refine g_iconst (v := 0) O dX8_hear_0 (by decide) ?_
  refine g_istore O dX8_hear_1 (Nat.le_of_ble_eq_true rfl) rfl (lv' := [some (.ref mb), some (.int x1), some (.int x2), some (.int x3), some (.int 0), none]) rfl ?_
  obtain ⟨n20, w⟩ := w
  exact vM_hear_3 O hRm hM x1 x2 x3 post hQ n20 0 sg w
-- newsDays
abbrev rM_newsDays : Room := { frames := 2, cells := 0, slots := 0, locals := 33 }
set_option maxHeartbeats 4000000 in
theorem cM_newsDays (l : Launch) (hfl : l.flags = flags0) (E : w_E) (z : Nat) (T L : Nat → Nat) (V0 : w_V) (P : w_P) (mb : Nat) (hM : mOk E T L P mb) (sg : MS) (x1 : Int32) (x2 : Int32) (post : Int32 → Prop) (w : wM_newsDays sg x1 x2 post) : mMi0 l yX8_newsDays cX8_newsDays 4 (some .int) rM_newsDays E z T L V0 P mb [.ref mb, .int x1, .int x2] sg post := by
  refine g_start (S := Unit) hfl (by decide +kernel) rfl [some (.ref mb), some (.int x1), some (.int x2), none] rfl (fun _ h => h) (Nat.le_of_ble_eq_true rfl) (fun X hl hRm hEe O hQ => ?_)
  subst hl
  subst hEe
  unfold wM_newsDays at w
  refine g_aload_n O dX8_newsDays_0 rfl ?_
  refine gm_getA (j := 24) O hM.1 rfl (by decide) q1752 dX8_newsDays_1 ?_
  refine g_iload_n O dX8_newsDays_4 rfl ?_
  refine g_iload_n O dX8_newsDays_5 rfl ?_
  refine gm_Si0 (nA := 2) (As := [.int x1, .int x2]) (rest := [.ref (mb + 14)]) O hRm (cM_couple _ O.2.2.2.2.2.2.2.2 _ _ _ _ _ _ _ hM sg (x1) (x2) _ w) (lw_S q2032 q2033 q134 q2034) rfl rfl (by decide +kernel) ⟨Nat.le_of_ble_eq_true rfl, Nat.le_of_ble_eq_true rfl⟩ rfl rfl rfl (Nat.le_of_ble_eq_true rfl) dX8_newsDays_6 (fun r1 w => ?_)
  obtain ⟨i3, hi4, e5, w⟩ := w
  refine gm_ald (j := 24) (len := 81) (nn := i3) O hM.1 rfl hi4 (by decide) e5 dX8_newsDays_9 ?_
  refine g_istore_n O dX8_newsDays_10 (Nat.le_of_ble_eq_true rfl) rfl (lv' := [some (.ref mb), some (.int x1), some (.int x2), some (.int (sg 25 i3))]) rfl ?_
  refine g_iload_n O dX8_newsDays_11 rfl ?_
  refine g_ldc O q1948 dX8_newsDays_12 ?_
  refine g_icmp_lt (tgt := 22) O w dX8_newsDays_14 (by decide) (fun w => ?_) (fun w => ?_)
  · refine g_iload_n O dX8_newsDays_22 rfl ?_
    refine g_aload_n O dX8_newsDays_23 rfl ?_
    refine gm_getA (j := 3) O hM.1 rfl (by decide) q1731 dX8_newsDays_24 ?_
    refine g_iconst (v := 3) O dX8_newsDays_27 (by decide) ?_
    refine gm_ald (j := 3) (len := 14) (nn := 3) O hM.1 rfl (by decide) (by decide) rfl dX8_newsDays_28 ?_
    refine g_imul O dX8_newsDays_29 ?_
    refine g_bipush (v := 9) O dX8_newsDays_30 (by decide) ?_
    refine g_iadd O dX8_newsDays_32 ?_
    refine g_bipush (v := 10) O dX8_newsDays_33 (by decide) ?_
    refine g_idiv O (by decide) dX8_newsDays_35 ?_
    exact gm_iret0 O hQ rfl w dX8_newsDays_36
  · refine g_ldc O q1948 dX8_newsDays_17 ?_
    refine g_goto (tgt := 36) O dX8_newsDays_19 (by decide) ?_
    exact gm_iret0 O hQ rfl w dX8_newsDays_36
-- newsBy
abbrev rM_newsBy : Room := { frames := 3, cells := 0, slots := 0, locals := 56 }
set_option maxHeartbeats 4000000 in
theorem cM_newsBy (l : Launch) (hfl : l.flags = flags0) (E : w_E) (z : Nat) (T L : Nat → Nat) (V0 : w_V) (P : w_P) (mb : Nat) (hM : mOk E T L P mb) (sg : MS) (x1 : Int32) (x2 : Int32) (x3 : Int32) (post : Int32 → Prop) (w : wM_newsBy sg x1 x2 x3 post) : mMi0 l yX8_newsBy cX8_newsBy 5 (some .int) rM_newsBy E z T L V0 P mb [.ref mb, .int x1, .int x2, .int x3] sg post := by
  refine g_start (S := Unit) hfl (by decide +kernel) rfl [some (.ref mb), some (.int x1), some (.int x2), some (.int x3), none] rfl (fun _ h => h) (Nat.le_of_ble_eq_true rfl) (fun X hl hRm hEe O hQ => ?_)
  subst hl
  subst hEe
  unfold wM_newsBy at w
  refine g_iconst (v := 5) O dX8_newsBy_0 (by decide) ?_
  refine g_iload_n O dX8_newsBy_1 rfl ?_
  refine g_imul O dX8_newsBy_2 ?_
  refine g_iload_n O dX8_newsBy_3 rfl ?_
  refine g_iadd O dX8_newsBy_4 ?_
  refine g_istore O dX8_newsBy_5 (Nat.le_of_ble_eq_true rfl) rfl (lv' := [some (.ref mb), some (.int x1), some (.int x2), some (.int x3), some (.int ((5 * x1) + x2))]) rfl ?_
  refine g_aload_n O dX8_newsBy_7 rfl ?_
  refine gm_getA (j := 44) O hM.1 rfl (by decide) q1772 dX8_newsBy_8 ?_
  refine g_iload O dX8_newsBy_11 rfl ?_
  obtain ⟨i1, hi2, e3, w⟩ := w
  refine gm_ald (j := 44) (len := 30) (nn := i1) O hM.1 rfl hi2 (by decide) e3 dX8_newsBy_13 ?_
  refine g_iconst (v := (-1)) O dX8_newsBy_14 (by decide) ?_
  refine g_icmp_ne (tgt := 23) O w dX8_newsBy_15 (by decide) (fun w => ?_) (fun w => ?_)
  · refine g_aload_n O dX8_newsBy_23 rfl ?_
    refine gm_getA (j := 45) O hM.1 rfl (by decide) q1773 dX8_newsBy_24 ?_
    refine g_iload O dX8_newsBy_27 rfl ?_
    obtain ⟨i4, hi5, e6, w⟩ := w
    refine gm_ald (j := 45) (len := 30) (nn := i4) O hM.1 rfl hi5 (by decide) e6 dX8_newsBy_29 ?_
    refine g_aload_n O dX8_newsBy_30 rfl ?_
    refine g_aload_n O dX8_newsBy_31 rfl ?_
    refine gm_getA (j := 46) O hM.1 rfl (by decide) q1774 dX8_newsBy_32 ?_
    refine g_iload O dX8_newsBy_35 rfl ?_
    obtain ⟨i7, hi8, e9, w⟩ := w
    refine gm_ald (j := 46) (len := 30) (nn := i7) O hM.1 rfl hi8 (by decide) e9 dX8_newsBy_37 ?_
    refine g_iload_n O dX8_newsBy_38 rfl ?_
    refine gm_Vi0 (nA := 2) (As := [.int (sg 47 i7), .int x3]) (rest := [.int (sg 46 i4)]) O hRm hM.1 (cM_newsDays _ O.2.2.2.2.2.2.2.2 _ _ _ _ _ _ _ hM sg ((sg 47 i7)) (x3) _ w) (lw_V q2136 q2138 qs91 q134 q2139) rfl rfl (by decide +kernel) ⟨Nat.le_of_ble_eq_true rfl, Nat.le_of_ble_eq_true rfl⟩ rfl rfl rfl (Nat.le_of_ble_eq_true rfl) dX8_newsBy_39 (fun r10 w => ?_)
    refine g_iadd O dX8_newsBy_42 ?_
    exact gm_iret0 O hQ rfl w dX8_newsBy_43
  · refine g_ldc O q1948 dX8_newsBy_18 ?_
    refine g_goto (tgt := 43) O dX8_newsBy_20 (by decide) ?_
    exact gm_iret0 O hQ rfl w dX8_newsBy_43
-- newsByWord
abbrev rM_newsByWord : Room := { frames := 3, cells := 0, slots := 0, locals := 56 }
set_option maxHeartbeats 4000000 in
theorem vM_newsByWord_61 {X : Cx} {z : Nat} {T L : Nat → Nat} {V0 : w_V} {P : w_P} {mb : Nat} (O : Okc X cX8_newsByWord RX8 5 (some .int)) (hRm : cxR X = rM_newsByWord) (hM : mOk (cxE X) T L P mb) (sg : MS) (x1 : Int32) (x2 : Int32) (x3 : Int32) (x4 : Int32) (post : Int32 → Prop) (hQ : cxMQ X (va_Qi (fun x (_ : Unit) => post x) (fun (_ : Unit) t => wdW (cxE X) (mW z T L V0 P mb sg) t.heap) (w_A (cxE X))) 0 0) (kb : Int32 → Int32 → Prop) (hkb : ∀ (y3 : Int32) (y4 : Int32), kb y3 y4 → gW X 0 0 z T L (up1 V0 mb sg) P 6 [some (.ref mb), some (.int x1), some (.int x2), some (.int y3), some (.int y4)] []) (w : jM_newsByWord_61 sg x1 x2 x3 x4 post kb) : gW X 0 0 z T L (up1 V0 mb sg) P 61 [some (.ref mb), some (.int x1), some (.int x2), some (.int x3), some (.int x4)] [] := by
  unfold jM_newsByWord_61 at w
  refine g_iinc (v := (x4 + 1)) O dX8_newsByWord_61 rfl rfl rfl (lv' := [some (.ref mb), some (.int x1), some (.int x2), some (.int x3), some (.int (x4 + 1))]) rfl ?_
  refine g_goto (tgt := 6) O dX8_newsByWord_64 (by decide) ?_
  exact hkb (x3) ((x4 + 1)) w
set_option maxHeartbeats 4000000 in
theorem vM_newsByWord_6 {X : Cx} {z : Nat} {T L : Nat → Nat} {V0 : w_V} {P : w_P} {mb : Nat} (O : Okc X cX8_newsByWord RX8 5 (some .int)) (hRm : cxR X = rM_newsByWord) (hM : mOk (cxE X) T L P mb) (sg : MS) (x1 : Int32) (x2 : Int32) (post : Int32 → Prop) (hQ : cxMQ X (va_Qi (fun x (_ : Unit) => post x) (fun (_ : Unit) t => wdW (cxE X) (mW z T L V0 P mb sg) t.heap) (w_A (cxE X))) 0 0)  : ∀ (n : Nat) (x3 : Int32) (x4 : Int32), lM_newsByWord_6 sg x1 x2 post n x3 x4 → gW X 0 0 z T L (up1 V0 mb sg) P 6 [some (.ref mb), some (.int x1), some (.int x2), some (.int x3), some (.int x4)] [] := by
  intro n
  induction n with
  | zero =>
    intro x3 x4 w
    exact w.elim
  | succ n ih =>
    intro x3 x4 w
    unfold lM_newsByWord_6 at w
    refine g_iload O dX8_newsByWord_6 rfl ?_
    refine g_aload_n O dX8_newsByWord_8 rfl ?_
    refine gm_getI (j := 30) O hM.1 rfl (by decide) q1758 dX8_newsByWord_9 ?_
    refine g_icmp_ge (tgt := 67) O w dX8_newsByWord_12 (by decide) (fun w => ?_) (fun w => ?_)
    · refine g_iload_n O dX8_newsByWord_67 rfl ?_
      exact gm_iret0 O hQ rfl w dX8_newsByWord_68
    · refine g_aload_n O dX8_newsByWord_15 rfl ?_
      refine gm_getA (j := 25) O hM.1 rfl (by decide) q1753 dX8_newsByWord_16 ?_
      refine g_iconst (v := 3) O dX8_newsByWord_19 (by decide) ?_
      refine g_iload O dX8_newsByWord_20 rfl ?_
      refine g_imul O dX8_newsByWord_22 ?_
      obtain ⟨i1, hi2, e3, w⟩ := w
      refine gm_ald (j := 25) (len := 15) (nn := i1) O hM.1 rfl hi2 (by decide) e3 dX8_newsByWord_23 ?_
      refine g_iload_n O dX8_newsByWord_24 rfl ?_
      refine g_icmp_ne (tgt := 61) O w dX8_newsByWord_25 (by decide) (fun w => ?_) (fun w => ?_)
      · exact vM_newsByWord_61 O hRm hM sg  x1 x2 x3 x4 post hQ (lM_newsByWord_6 sg x1 x2 post n) ih w
      · refine g_iload_n O dX8_newsByWord_28 rfl ?_
        refine g_aload_n O dX8_newsByWord_29 rfl ?_
        refine gm_getA (j := 25) O hM.1 rfl (by decide) q1753 dX8_newsByWord_30 ?_
        refine g_iconst (v := 3) O dX8_newsByWord_33 (by decide) ?_
        refine g_iload O dX8_newsByWord_34 rfl ?_
        refine g_imul O dX8_newsByWord_36 ?_
        refine g_iconst (v := 2) O dX8_newsByWord_37 (by decide) ?_
        refine g_iadd O dX8_newsByWord_38 ?_
        obtain ⟨i4, hi5, e6, w⟩ := w
        refine gm_ald (j := 25) (len := 15) (nn := i4) O hM.1 rfl hi5 (by decide) e6 dX8_newsByWord_39 ?_
        refine g_aload_n O dX8_newsByWord_40 rfl ?_
        refine g_aload_n O dX8_newsByWord_41 rfl ?_
        refine gm_getA (j := 25) O hM.1 rfl (by decide) q1753 dX8_newsByWord_42 ?_
        refine g_iconst (v := 3) O dX8_newsByWord_45 (by decide) ?_
        refine g_iload O dX8_newsByWord_46 rfl ?_
        refine g_imul O dX8_newsByWord_48 ?_
        refine g_iconst (v := 1) O dX8_newsByWord_49 (by decide) ?_
        refine g_iadd O dX8_newsByWord_50 ?_
        obtain ⟨i7, hi8, e9, w⟩ := w
        refine gm_ald (j := 25) (len := 15) (nn := i7) O hM.1 rfl hi8 (by decide) e9 dX8_newsByWord_51 ?_
        refine g_iload_n O dX8_newsByWord_52 rfl ?_
        refine gm_Vi0 (nA := 2) (As := [.int (sg 26 i7), .int x2]) (rest := [.int (sg 26 i4), .int x3]) O hRm hM.1 (cM_newsDays _ O.2.2.2.2.2.2.2.2 _ _ _ _ _ _ _ hM sg ((sg 26 i7)) (x2) _ w) (lw_V q2136 q2138 qs91 q134 q2139) rfl rfl (by decide +kernel) ⟨Nat.le_of_ble_eq_true rfl, Nat.le_of_ble_eq_true rfl⟩ rfl rfl rfl (Nat.le_of_ble_eq_true rfl) dX8_newsByWord_53 (fun r10 w => ?_)
        refine g_iadd O dX8_newsByWord_56 ?_
        refine g_mmin O q1949 hRm (Nat.le_of_ble_eq_true rfl) (Nat.le_of_ble_eq_true rfl) ⟨Nat.le_of_ble_eq_true rfl, Nat.le_of_ble_eq_true rfl⟩ rfl dX8_newsByWord_57 ?_
        refine g_istore_n O dX8_newsByWord_60 (Nat.le_of_ble_eq_true rfl) rfl (lv' := [some (.ref mb), some (.int x1), some (.int x2), some (.int (if ((sg 26 i4) + r10) < x3 then ((sg 26 i4) + r10) else x3)), some (.int x4)]) rfl ?_
        exact vM_newsByWord_61 O hRm hM sg  x1 x2 (if ((sg 26 i4) + r10) < x3 then ((sg 26 i4) + r10) else x3) x4 post hQ (lM_newsByWord_6 sg x1 x2 post n) ih w
set_option maxHeartbeats 4000000 in
theorem cM_newsByWord (l : Launch) (hfl : l.flags = flags0) (E : w_E) (z : Nat) (T L : Nat → Nat) (V0 : w_V) (P : w_P) (mb : Nat) (hM : mOk E T L P mb) (sg : MS) (x1 : Int32) (x2 : Int32) (post : Int32 → Prop) (w : wM_newsByWord sg x1 x2 post) : mMi0 l yX8_newsByWord cX8_newsByWord 5 (some .int) rM_newsByWord E z T L V0 P mb [.ref mb, .int x1, .int x2] sg post := by
  refine g_start (S := Unit) hfl (by decide +kernel) rfl [some (.ref mb), some (.int x1), some (.int x2), none, none] rfl (fun _ h => h) (Nat.le_of_ble_eq_true rfl) (fun X hl hRm hEe O hQ => ?_)
  subst hl
  subst hEe
  unfold wM_newsByWord at w
  refine g_ldc O q1948 dX8_newsByWord_0 ?_
  refine g_istore_n O dX8_newsByWord_2 (Nat.le_of_ble_eq_true rfl) rfl (lv' := [some (.ref mb), some (.int x1), some (.int x2), some (.int 100000), none]) rfl ?_
  refine g_iconst (v := 0) O dX8_newsByWord_3 (by decide) ?_
  refine g_istore O dX8_newsByWord_4 (Nat.le_of_ble_eq_true rfl) rfl (lv' := [some (.ref mb), some (.int x1), some (.int x2), some (.int 100000), some (.int 0)]) rfl ?_
  obtain ⟨n12, w⟩ := w
  exact vM_newsByWord_6 O hRm hM sg x1 x2 post hQ n12 100000 0 w
-- isVoided
abbrev rM_isVoided : Room := { frames := 4, cells := 0, slots := 0, locals := 80 }
set_option maxHeartbeats 4000000 in
theorem vM_isVoided_200 {X : Cx} {z : Nat} {T L : Nat → Nat} {V0 : w_V} {P : w_P} {mb : Nat} (O : Okc X cX8_isVoided RX8 8 (some .boolean)) (hRm : cxR X = rM_isVoided) (hM : mOk (cxE X) T L P mb) (sg : MS) (x1 : Int32) (x2 : Int32) (x3 : Int32) (x4 : Int32) (x5 : Int32) (x6 : Int32) (x7 : Int32) (post : Int32 → Prop) (hQ : cxMQ X (va_Qi (fun x (_ : Unit) => post x) (fun (_ : Unit) t => wdW (cxE X) (mW z T L V0 P mb sg) t.heap) (w_A (cxE X))) 0 0) (kb : Int32 → Prop) (hkb : ∀ (y7 : Int32), kb y7 → gW X 0 0 z T L (up1 V0 mb sg) P 132 [some (.ref mb), some (.int x1), some (.int x2), some (.int x3), some (.int x4), some (.int x5), some (.int x6), some (.int y7)] []) (w : jM_isVoided_200 sg x1 x2 x3 x4 x5 x6 x7 post kb) : gW X 0 0 z T L (up1 V0 mb sg) P 200 [some (.ref mb), some (.int x1), some (.int x2), some (.int x3), some (.int x4), some (.int x5), some (.int x6), some (.int x7)] [] := by
  unfold jM_isVoided_200 at w
  refine g_iinc (v := (x7 + 1)) O dX8_isVoided_200 rfl rfl rfl (lv' := [some (.ref mb), some (.int x1), some (.int x2), some (.int x3), some (.int x4), some (.int x5), some (.int x6), some (.int (x7 + 1))]) rfl ?_
  refine g_goto (tgt := 132) O dX8_isVoided_203 (by decide) ?_
  exact hkb ((x7 + 1)) w
set_option maxHeartbeats 4000000 in
theorem vM_isVoided_132 {X : Cx} {z : Nat} {T L : Nat → Nat} {V0 : w_V} {P : w_P} {mb : Nat} (O : Okc X cX8_isVoided RX8 8 (some .boolean)) (hRm : cxR X = rM_isVoided) (hM : mOk (cxE X) T L P mb) (sg : MS) (x1 : Int32) (x2 : Int32) (x3 : Int32) (x4 : Int32) (x5 : Int32) (x6 : Int32) (post : Int32 → Prop) (hQ : cxMQ X (va_Qi (fun x (_ : Unit) => post x) (fun (_ : Unit) t => wdW (cxE X) (mW z T L V0 P mb sg) t.heap) (w_A (cxE X))) 0 0) (ke_206 : Prop) (hke_206 : ke_206 → gW X 0 0 z T L (up1 V0 mb sg) P 206 [some (.ref mb), some (.int x1), some (.int x2), some (.int x3), some (.int x4), none, none, none] [])  : ∀ (n : Nat) (x7 : Int32), lM_isVoided_132 sg x1 x2 x3 x4 x5 x6 post ke_206 n x7 → gW X 0 0 z T L (up1 V0 mb sg) P 132 [some (.ref mb), some (.int x1), some (.int x2), some (.int x3), some (.int x4), some (.int x5), some (.int x6), some (.int x7)] [] := by
  intro n
  induction n with
  | zero =>
    intro x7 w
    exact w.elim
  | succ n ih =>
    intro x7 w
    unfold lM_isVoided_132 at w
    refine g_iload O dX8_isVoided_132 rfl ?_
    refine g_aload_n O dX8_isVoided_134 rfl ?_
    refine gm_getA (j := 3) O hM.1 rfl (by decide) q1731 dX8_isVoided_135 ?_
    refine g_iconst (v := 4) O dX8_isVoided_138 (by decide) ?_
    refine gm_ald (j := 3) (len := 14) (nn := 4) O hM.1 rfl (by decide) (by decide) rfl dX8_isVoided_139 ?_
    refine g_icmp_ge (tgt := 206) O w dX8_isVoided_140 (by decide) (fun w => ?_) (fun w => ?_)
    · refine g_drop [5, 6, 7] (lv' := [some (.ref mb), some (.int x1), some (.int x2), some (.int x3), some (.int x4), none, none, none]) rfl ?_
      exact hke_206  w
    · refine g_iload O dX8_isVoided_143 rfl ?_
      refine g_iload_n O dX8_isVoided_145 rfl ?_
      refine g_icmp_eq (tgt := 200) O w dX8_isVoided_146 (by decide) (fun w => ?_) (fun w => ?_)
      · exact vM_isVoided_200 O hRm hM sg  x1 x2 x3 x4 x5 x6 x7 post hQ (lM_isVoided_132 sg x1 x2 x3 x4 x5 x6 post ke_206 n) ih w
      · refine g_aload_n O dX8_isVoided_149 rfl ?_
        refine gm_getA (j := 44) O hM.1 rfl (by decide) q1772 dX8_isVoided_150 ?_
        refine g_iconst (v := 5) O dX8_isVoided_153 (by decide) ?_
        refine g_iload_n O dX8_isVoided_154 rfl ?_
        refine g_imul O dX8_isVoided_155 ?_
        refine g_iload O dX8_isVoided_156 rfl ?_
        refine g_iadd O dX8_isVoided_158 ?_
        obtain ⟨i21, hi22, e23, w⟩ := w
        refine gm_ald (j := 44) (len := 30) (nn := i21) O hM.1 rfl hi22 (by decide) e23 dX8_isVoided_159 ?_
        refine g_iconst (v := (-1)) O dX8_isVoided_160 (by decide) ?_
        refine g_icmp_eq (tgt := 200) O w dX8_isVoided_161 (by decide) (fun w => ?_) (fun w => ?_)
        · exact vM_isVoided_200 O hRm hM sg  x1 x2 x3 x4 x5 x6 x7 post hQ (lM_isVoided_132 sg x1 x2 x3 x4 x5 x6 post ke_206 n) ih w
        · refine g_aload_n O dX8_isVoided_164 rfl ?_
          refine gm_getA (j := 45) O hM.1 rfl (by decide) q1773 dX8_isVoided_165 ?_
          refine g_iconst (v := 5) O dX8_isVoided_168 (by decide) ?_
          refine g_iload_n O dX8_isVoided_169 rfl ?_
          refine g_imul O dX8_isVoided_170 ?_
          refine g_iload O dX8_isVoided_171 rfl ?_
          refine g_iadd O dX8_isVoided_173 ?_
          obtain ⟨i24, hi25, e26, w⟩ := w
          refine gm_ald (j := 45) (len := 30) (nn := i24) O hM.1 rfl hi25 (by decide) e26 dX8_isVoided_174 ?_
          refine g_aload_n O dX8_isVoided_175 rfl ?_
          refine gm_getA (j := 45) O hM.1 rfl (by decide) q1773 dX8_isVoided_176 ?_
          refine g_iload_n O dX8_isVoided_179 rfl ?_
          obtain ⟨i27, hi28, e29, w⟩ := w
          refine gm_ald (j := 45) (len := 30) (nn := i27) O hM.1 rfl hi28 (by decide) e29 dX8_isVoided_180 ?_
          refine g_icmp_ge (tgt := 200) O w dX8_isVoided_181 (by decide) (fun w => ?_) (fun w => ?_)
          · exact vM_isVoided_200 O hRm hM sg  x1 x2 x3 x4 x5 x6 x7 post hQ (lM_isVoided_132 sg x1 x2 x3 x4 x5 x6 post ke_206 n) ih w
          · refine g_aload_n O dX8_isVoided_184 rfl ?_
            refine g_iload_n O dX8_isVoided_185 rfl ?_
            refine g_iload O dX8_isVoided_186 rfl ?_
            refine g_iload O dX8_isVoided_188 rfl ?_
            refine gm_Vi0 (nA := 3) (As := [.int x1, .int x7, .int x5]) (rest := []) O hRm hM.1 (cM_newsBy _ O.2.2.2.2.2.2.2.2 _ _ _ _ _ _ _ hM sg (x1) (x7) (x5) _ w) (lw_V q2140 q2142 qs92 q134 q2143) rfl rfl (by decide +kernel) ⟨Nat.le_of_ble_eq_true rfl, Nat.le_of_ble_eq_true rfl⟩ rfl rfl rfl (Nat.le_of_ble_eq_true rfl) dX8_isVoided_190 (fun r30 w => ?_)
            refine g_iload O dX8_isVoided_193 rfl ?_
            refine g_icmp_gt (tgt := 200) O w dX8_isVoided_195 (by decide) (fun w => ?_) (fun w => ?_)
            · exact vM_isVoided_200 O hRm hM sg  x1 x2 x3 x4 x5 x6 x7 post hQ (lM_isVoided_132 sg x1 x2 x3 x4 x5 x6 post ke_206 n) ih w
            · refine g_iconst (v := 1) O dX8_isVoided_198 (by decide) ?_
              exact gm_iret0 O hQ rfl w dX8_isVoided_199
set_option maxHeartbeats 4000000 in
theorem vM_isVoided_55 {X : Cx} {z : Nat} {T L : Nat → Nat} {V0 : w_V} {P : w_P} {mb : Nat} (O : Okc X cX8_isVoided RX8 8 (some .boolean)) (hRm : cxR X = rM_isVoided) (hM : mOk (cxE X) T L P mb) (sg : MS) (x1 : Int32) (x2 : Int32) (x3 : Int32) (post : Int32 → Prop) (hQ : cxMQ X (va_Qi (fun x (_ : Unit) => post x) (fun (_ : Unit) t => wdW (cxE X) (mW z T L V0 P mb sg) t.heap) (w_A (cxE X))) 0 0)  : ∀ (n : Nat) (x4 : Int32), lM_isVoided_55 sg x1 x2 x3 post n x4 → gW X 0 0 z T L (up1 V0 mb sg) P 55 [some (.ref mb), some (.int x1), some (.int x2), some (.int x3), some (.int x4), none, none, none] [] := by
  intro n
  induction n with
  | zero =>
    intro x4 w
    exact w.elim
  | succ n ih =>
    intro x4 w
    unfold lM_isVoided_55 at w
    refine g_iload O dX8_isVoided_55 rfl ?_
    refine g_aload_n O dX8_isVoided_57 rfl ?_
    refine gm_getA (j := 8) O hM.1 rfl (by decide) q1736 dX8_isVoided_58 ?_
    refine g_iload_n O dX8_isVoided_61 rfl ?_
    obtain ⟨i4, hi5, e6, w⟩ := w
    refine gm_ald (j := 8) (len := 10) (nn := i4) O hM.1 rfl hi5 (by decide) e6 dX8_isVoided_62 ?_
    refine g_icmp_ge (tgt := 212) O w dX8_isVoided_63 (by decide) (fun w => ?_) (fun w => ?_)
    · refine g_iconst (v := 0) O dX8_isVoided_212 (by decide) ?_
      exact gm_iret0 O hQ rfl w dX8_isVoided_213
    · refine g_aload_n O dX8_isVoided_66 rfl ?_
      refine gm_getA (j := 38) O hM.1 rfl (by decide) q1766 dX8_isVoided_67 ?_
      refine g_bipush (v := 7) O dX8_isVoided_70 (by decide) ?_
      refine g_iload_n O dX8_isVoided_72 rfl ?_
      refine g_imul O dX8_isVoided_73 ?_
      refine g_iload O dX8_isVoided_74 rfl ?_
      refine g_iadd O dX8_isVoided_76 ?_
      obtain ⟨i7, hi8, e9, w⟩ := w
      refine gm_ald (j := 38) (len := 35) (nn := i7) O hM.1 rfl hi8 (by decide) e9 dX8_isVoided_77 ?_
      refine g_aload_n O dX8_isVoided_78 rfl ?_
      refine gm_getA (j := 45) O hM.1 rfl (by decide) q1773 dX8_isVoided_79 ?_
      refine g_iload_n O dX8_isVoided_82 rfl ?_
      obtain ⟨i10, hi11, e12, w⟩ := w
      refine gm_ald (j := 45) (len := 30) (nn := i10) O hM.1 rfl hi11 (by decide) e12 dX8_isVoided_83 ?_
      refine g_icmp_gt (tgt := 212) O w dX8_isVoided_84 (by decide) (fun w => ?_) (fun w => ?_)
      · refine g_iconst (v := 0) O dX8_isVoided_212 (by decide) ?_
        exact gm_iret0 O hQ rfl w dX8_isVoided_213
      · refine g_aload_n O dX8_isVoided_87 rfl ?_
        refine gm_getA (j := 37) O hM.1 rfl (by decide) q1765 dX8_isVoided_88 ?_
        refine g_bipush (v := 7) O dX8_isVoided_91 (by decide) ?_
        refine g_iload_n O dX8_isVoided_93 rfl ?_
        refine g_imul O dX8_isVoided_94 ?_
        refine g_iload O dX8_isVoided_95 rfl ?_
        refine g_iadd O dX8_isVoided_97 ?_
        obtain ⟨i13, hi14, e15, w⟩ := w
        refine gm_ald (j := 37) (len := 35) (nn := i13) O hM.1 rfl hi14 (by decide) e15 dX8_isVoided_98 ?_
        refine g_istore O dX8_isVoided_99 (Nat.le_of_ble_eq_true rfl) rfl (lv' := [some (.ref mb), some (.int x1), some (.int x2), some (.int x3), some (.int x4), some (.int (sg 38 i13)), none, none]) rfl ?_
        refine g_aload_n O dX8_isVoided_101 rfl ?_
        refine gm_getA (j := 38) O hM.1 rfl (by decide) q1766 dX8_isVoided_102 ?_
        refine g_bipush (v := 7) O dX8_isVoided_105 (by decide) ?_
        refine g_iload_n O dX8_isVoided_107 rfl ?_
        refine g_imul O dX8_isVoided_108 ?_
        refine g_iload O dX8_isVoided_109 rfl ?_
        refine g_iadd O dX8_isVoided_111 ?_
        obtain ⟨i16, hi17, e18, w⟩ := w
        refine gm_ald (j := 38) (len := 35) (nn := i16) O hM.1 rfl hi17 (by decide) e18 dX8_isVoided_112 ?_
        refine g_istore O dX8_isVoided_113 (Nat.le_of_ble_eq_true rfl) rfl (lv' := [some (.ref mb), some (.int x1), some (.int x2), some (.int x3), some (.int x4), some (.int (sg 38 i13)), some (.int (sg 39 i16)), none]) rfl ?_
        refine g_aload_n O dX8_isVoided_115 rfl ?_
        refine g_iload_n O dX8_isVoided_116 rfl ?_
        refine g_iload O dX8_isVoided_117 rfl ?_
        refine gm_Vi0 (nA := 2) (As := [.int x1, .int (sg 38 i13)]) (rest := []) O hRm hM.1 (cM_newsByWord _ O.2.2.2.2.2.2.2.2 _ _ _ _ _ _ _ hM sg (x1) ((sg 38 i13)) _ w) (lw_V q2132 q2134 qs90 q134 q2135) rfl rfl (by decide +kernel) ⟨Nat.le_of_ble_eq_true rfl, Nat.le_of_ble_eq_true rfl⟩ rfl rfl rfl (Nat.le_of_ble_eq_true rfl) dX8_isVoided_119 (fun r19 w => ?_)
        refine g_iload O dX8_isVoided_122 rfl ?_
        refine g_icmp_gt (tgt := 129) O w dX8_isVoided_124 (by decide) (fun w => ?_) (fun w => ?_)
        · refine g_iconst (v := 0) O dX8_isVoided_129 (by decide) ?_
          refine g_istore O dX8_isVoided_130 (Nat.le_of_ble_eq_true rfl) rfl (lv' := [some (.ref mb), some (.int x1), some (.int x2), some (.int x3), some (.int x4), some (.int (sg 38 i13)), some (.int (sg 39 i16)), some (.int 0)]) rfl ?_
          obtain ⟨n32, w⟩ := w
          refine vM_isVoided_132 O hRm hM sg x1 x2 x3 x4 (sg 38 i13) (sg 39 i16) post hQ _ (fun w => ?_) n32 0 w
          refine g_iinc (v := (x4 + 1)) O dX8_isVoided_206 rfl rfl rfl (lv' := [some (.ref mb), some (.int x1), some (.int x2), some (.int x3), some (.int (x4 + 1)), none, none, none]) rfl ?_
          refine g_goto (tgt := 55) O dX8_isVoided_209 (by decide) ?_
          exact ih ((x4 + 1)) w
        · refine g_iconst (v := 1) O dX8_isVoided_127 (by decide) ?_
          exact gm_iret0 O hQ rfl w dX8_isVoided_128
set_option maxHeartbeats 4000000 in
theorem vM_isVoided_52 {X : Cx} {z : Nat} {T L : Nat → Nat} {V0 : w_V} {P : w_P} {mb : Nat} (O : Okc X cX8_isVoided RX8 8 (some .boolean)) (hRm : cxR X = rM_isVoided) (hM : mOk (cxE X) T L P mb) (sg : MS) (x1 : Int32) (x2 : Int32) (x3 : Int32) (post : Int32 → Prop) (hQ : cxMQ X (va_Qi (fun x (_ : Unit) => post x) (fun (_ : Unit) t => wdW (cxE X) (mW z T L V0 P mb sg) t.heap) (w_A (cxE X))) 0 0) (w : jM_isVoided_52 sg x1 x2 x3 post) : gW X 0 0 z T L (up1 V0 mb sg) P 52 [some (.ref mb), some (.int x1), some (.int x2), some (.int x3), none, none, none, none] [] := by
  unfold jM_isVoided_52 at w
  refine g_iconst (v := 0) O dX8_isVoided_52 (by decide) ?_
  refine g_istore O dX8_isVoided_53 (Nat.le_of_ble_eq_true rfl) rfl (lv' := [some (.ref mb), some (.int x1), some (.int x2), some (.int x3), some (.int 0), none, none, none]) rfl ?_
  obtain ⟨n33, w⟩ := w
  exact vM_isVoided_55 O hRm hM sg x1 x2 x3 post hQ n33 0 w
set_option maxHeartbeats 4000000 in
theorem cM_isVoided (l : Launch) (hfl : l.flags = flags0) (E : w_E) (z : Nat) (T L : Nat → Nat) (V0 : w_V) (P : w_P) (mb : Nat) (hM : mOk E T L P mb) (sg : MS) (x1 : Int32) (x2 : Int32) (post : Int32 → Prop) (w : wM_isVoided sg x1 x2 post) : mMi0 l yX8_isVoided cX8_isVoided 8 (some .boolean) rM_isVoided E z T L V0 P mb [.ref mb, .int x1, .int x2] sg post := by
  refine g_start (S := Unit) hfl (by decide +kernel) rfl [some (.ref mb), some (.int x1), some (.int x2), none, none, none, none, none] rfl (fun _ h => h) (Nat.le_of_ble_eq_true rfl) (fun X hl hRm hEe O hQ => ?_)
  subst hl
  subst hEe
  unfold wM_isVoided at w
  refine g_iconst (v := 5) O dX8_isVoided_0 (by decide) ?_
  refine g_iload_n O dX8_isVoided_1 rfl ?_
  refine g_imul O dX8_isVoided_2 ?_
  refine g_iload_n O dX8_isVoided_3 rfl ?_
  refine g_iadd O dX8_isVoided_4 ?_
  refine g_istore_n O dX8_isVoided_5 (Nat.le_of_ble_eq_true rfl) rfl (lv' := [some (.ref mb), some (.int x1), some (.int x2), some (.int ((5 * x1) + x2)), none, none, none, none]) rfl ?_
  refine g_aload_n O dX8_isVoided_6 rfl ?_
  refine gm_getA (j := 44) O hM.1 rfl (by decide) q1772 dX8_isVoided_7 ?_
  refine g_iload_n O dX8_isVoided_10 rfl ?_
  obtain ⟨i1, hi2, e3, w⟩ := w
  refine gm_ald (j := 44) (len := 30) (nn := i1) O hM.1 rfl hi2 (by decide) e3 dX8_isVoided_11 ?_
  refine g_iconst (v := (-1)) O dX8_isVoided_12 (by decide) ?_
  refine g_icmp_eq (tgt := 28) O w dX8_isVoided_13 (by decide) (fun w => ?_) (fun w => ?_)
  · refine g_iconst (v := 0) O dX8_isVoided_28 (by decide) ?_
    exact gm_iret0 O hQ rfl w dX8_isVoided_29
  · refine g_aload_n O dX8_isVoided_16 rfl ?_
    refine gm_getI (j := 41) O hM.1 rfl (by decide) q1769 dX8_isVoided_17 ?_
    refine g_iload_n O dX8_isVoided_20 rfl ?_
    refine g_ishr O dX8_isVoided_21 ?_
    refine g_iconst (v := 1) O dX8_isVoided_22 (by decide) ?_
    refine g_iand O dX8_isVoided_23 ?_
    refine g_iconst (v := 1) O dX8_isVoided_24 (by decide) ?_
    refine g_icmp_ne (tgt := 30) O w dX8_isVoided_25 (by decide) (fun w => ?_) (fun w => ?_)
    · refine g_iload_n O dX8_isVoided_30 rfl ?_
      refine g_aload_n O dX8_isVoided_31 rfl ?_
      refine gm_getI (j := 43) O hM.1 rfl (by decide) q1771 dX8_isVoided_32 ?_
      refine g_icmp_ne (tgt := 52) O w dX8_isVoided_35 (by decide) (fun w => ?_) (fun w => ?_)
      · exact vM_isVoided_52 O hRm hM sg  x1 x2 ((5 * x1) + x2) post hQ w
      · refine g_aload_n O dX8_isVoided_38 rfl ?_
        refine gm_getI (j := 42) O hM.1 rfl (by decide) q1770 dX8_isVoided_39 ?_
        refine g_iload_n O dX8_isVoided_42 rfl ?_
        refine g_ishr O dX8_isVoided_43 ?_
        refine g_iconst (v := 1) O dX8_isVoided_44 (by decide) ?_
        refine g_iand O dX8_isVoided_45 ?_
        refine g_iconst (v := 1) O dX8_isVoided_46 (by decide) ?_
        refine g_icmp_ne (tgt := 52) O w dX8_isVoided_47 (by decide) (fun w => ?_) (fun w => ?_)
        · exact vM_isVoided_52 O hRm hM sg  x1 x2 ((5 * x1) + x2) post hQ w
        · refine g_iconst (v := 1) O dX8_isVoided_50 (by decide) ?_
          exact gm_iret0 O hQ rfl w dX8_isVoided_51
    · refine g_iconst (v := 0) O dX8_isVoided_28 (by decide) ?_
      exact gm_iret0 O hQ rfl w dX8_isVoided_29
-- isGood
abbrev rM_isGood : Room := { frames := 1, cells := 0, slots := 0, locals := 12 }
set_option maxHeartbeats 4000000 in
theorem cM_isGood (l : Launch) (hfl : l.flags = flags0) (E : w_E) (z : Nat) (T L : Nat → Nat) (V0 : w_V) (P : w_P) (mb : Nat) (hM : mOk E T L P mb) (sg : MS) (x1 : Int32) (x2 : Int32) (post : Int32 → Prop) (w : wM_isGood sg x1 x2 post) : mMi0 l yX8_isGood cX8_isGood 4 (some .boolean) rM_isGood E z T L V0 P mb [.ref mb, .int x1, .int x2] sg post := by
  refine g_start (S := Unit) hfl (by decide +kernel) rfl [some (.ref mb), some (.int x1), some (.int x2), none] rfl (fun _ h => h) (Nat.le_of_ble_eq_true rfl) (fun X hl hRm hEe O hQ => ?_)
  subst hl
  subst hEe
  unfold wM_isGood at w
  refine g_iconst (v := 5) O dX8_isGood_0 (by decide) ?_
  refine g_iload_n O dX8_isGood_1 rfl ?_
  refine g_imul O dX8_isGood_2 ?_
  refine g_iload_n O dX8_isGood_3 rfl ?_
  refine g_iadd O dX8_isGood_4 ?_
  refine g_istore_n O dX8_isGood_5 (Nat.le_of_ble_eq_true rfl) rfl (lv' := [some (.ref mb), some (.int x1), some (.int x2), some (.int ((5 * x1) + x2))]) rfl ?_
  refine g_aload_n O dX8_isGood_6 rfl ?_
  refine gm_getA (j := 44) O hM.1 rfl (by decide) q1772 dX8_isGood_7 ?_
  refine g_iload_n O dX8_isGood_10 rfl ?_
  obtain ⟨i1, hi2, e3, w⟩ := w
  refine gm_ald (j := 44) (len := 30) (nn := i1) O hM.1 rfl hi2 (by decide) e3 dX8_isGood_11 ?_
  refine g_iconst (v := 1) O dX8_isGood_12 (by decide) ?_
  refine g_icmp_ne (tgt := 29) O w dX8_isGood_13 (by decide) (fun w => ?_) (fun w => ?_)
  · refine g_iconst (v := 0) O dX8_isGood_29 (by decide) ?_
    exact gm_iret0 O hQ rfl w dX8_isGood_30
  · refine g_aload_n O dX8_isGood_16 rfl ?_
    refine gm_getA (j := 47) O hM.1 rfl (by decide) q1775 dX8_isGood_17 ?_
    refine g_iload_n O dX8_isGood_20 rfl ?_
    obtain ⟨i4, hi5, e6, w⟩ := w
    refine gm_ald (j := 47) (len := 30) (nn := i4) O hM.1 rfl hi5 (by decide) e6 dX8_isGood_21 ?_
    refine g_if_ne (tgt := 29) O w dX8_isGood_22 (by decide) (fun w => ?_) (fun w => ?_)
    · refine g_iconst (v := 0) O dX8_isGood_29 (by decide) ?_
      exact gm_iret0 O hQ rfl w dX8_isGood_30
    · refine g_iconst (v := 1) O dX8_isGood_25 (by decide) ?_
      refine g_goto (tgt := 30) O dX8_isGood_26 (by decide) ?_
      exact gm_iret0 O hQ rfl w dX8_isGood_30
-- three
abbrev rM_three : Room := { frames := 2, cells := 0, slots := 0, locals := 35 }
set_option maxHeartbeats 4000000 in
theorem cM_three (l : Launch) (hfl : l.flags = flags0) (E : w_E) (z : Nat) (T L : Nat → Nat) (V0 : w_V) (P : w_P) (mb : Nat) (hM : mOk E T L P mb) (sg : MS) (x1 : Int32) (x2 : Int32) (x3 : Int32) (x4 : Int32) (post : Int32 → Prop) (w : wM_three sg x1 x2 x3 x4 post) : mMi0 l yX8_three cX8_three 9 (some .int) rM_three E z T L V0 P mb [.ref mb, .int x1, .int x2, .int x3, .int x4] sg post := by
  refine g_start (S := Unit) hfl (by decide +kernel) rfl [some (.ref mb), some (.int x1), some (.int x2), some (.int x3), some (.int x4), none, none, none, none] rfl (fun _ h => h) (Nat.le_of_ble_eq_true rfl) (fun X hl hRm hEe O hQ => ?_)
  subst hl
  subst hEe
  unfold wM_three at w
  refine g_iconst (v := 5) O dX8_three_0 (by decide) ?_
  refine g_iload_n O dX8_three_1 rfl ?_
  refine g_imul O dX8_three_2 ?_
  refine g_iload_n O dX8_three_3 rfl ?_
  refine g_iadd O dX8_three_4 ?_
  refine g_istore O dX8_three_5 (Nat.le_of_ble_eq_true rfl) rfl (lv' := [some (.ref mb), some (.int x1), some (.int x2), some (.int x3), some (.int x4), some (.int ((5 * x1) + x2)), none, none, none]) rfl ?_
  refine g_iconst (v := 5) O dX8_three_7 (by decide) ?_
  refine g_iload_n O dX8_three_8 rfl ?_
  refine g_imul O dX8_three_9 ?_
  refine g_iload_n O dX8_three_10 rfl ?_
  refine g_iadd O dX8_three_11 ?_
  refine g_istore O dX8_three_12 (Nat.le_of_ble_eq_true rfl) rfl (lv' := [some (.ref mb), some (.int x1), some (.int x2), some (.int x3), some (.int x4), some (.int ((5 * x1) + x2)), some (.int ((5 * x1) + x3)), none, none]) rfl ?_
  refine g_iconst (v := 5) O dX8_three_14 (by decide) ?_
  refine g_iload_n O dX8_three_15 rfl ?_
  refine g_imul O dX8_three_16 ?_
  refine g_iload O dX8_three_17 rfl ?_
  refine g_iadd O dX8_three_19 ?_
  refine g_istore O dX8_three_20 (Nat.le_of_ble_eq_true rfl) rfl (lv' := [some (.ref mb), some (.int x1), some (.int x2), some (.int x3), some (.int x4), some (.int ((5 * x1) + x2)), some (.int ((5 * x1) + x3)), some (.int ((5 * x1) + x4)), none]) rfl ?_
  refine g_aload_n O dX8_three_22 rfl ?_
  refine g_iload_n O dX8_three_23 rfl ?_
  refine g_iload_n O dX8_three_24 rfl ?_
  refine gm_Vi0 (nA := 2) (As := [.int x1, .int x2]) (rest := []) O hRm hM.1 (cM_isGood _ O.2.2.2.2.2.2.2.2 _ _ _ _ _ _ _ hM sg (x1) (x2) _ w) (lw_V q2148 q2150 qs94 q134 q2151) rfl rfl (by decide +kernel) ⟨Nat.le_of_ble_eq_true rfl, Nat.le_of_ble_eq_true rfl⟩ rfl rfl rfl (Nat.le_of_ble_eq_true rfl) dX8_three_25 (fun r1 w => ?_)
  refine g_if_eq (tgt := 101) O w dX8_three_28 (by decide) (fun w => ?_) (fun w => ?_)
  · refine g_ldc O q1948 dX8_three_101 ?_
    exact gm_iret0 O hQ rfl w dX8_three_103
  · refine g_aload_n O dX8_three_31 rfl ?_
    refine g_iload_n O dX8_three_32 rfl ?_
    refine g_iload_n O dX8_three_33 rfl ?_
    refine gm_Vi0 (nA := 2) (As := [.int x1, .int x3]) (rest := []) O hRm hM.1 (cM_isGood _ O.2.2.2.2.2.2.2.2 _ _ _ _ _ _ _ hM sg (x1) (x3) _ w) (lw_V q2148 q2150 qs94 q134 q2151) rfl rfl (by decide +kernel) ⟨Nat.le_of_ble_eq_true rfl, Nat.le_of_ble_eq_true rfl⟩ rfl rfl rfl (Nat.le_of_ble_eq_true rfl) dX8_three_34 (fun r3 w => ?_)
    refine g_if_eq (tgt := 101) O w dX8_three_37 (by decide) (fun w => ?_) (fun w => ?_)
    · refine g_ldc O q1948 dX8_three_101 ?_
      exact gm_iret0 O hQ rfl w dX8_three_103
    · refine g_aload_n O dX8_three_40 rfl ?_
      refine g_iload_n O dX8_three_41 rfl ?_
      refine g_iload O dX8_three_42 rfl ?_
      refine gm_Vi0 (nA := 2) (As := [.int x1, .int x4]) (rest := []) O hRm hM.1 (cM_isGood _ O.2.2.2.2.2.2.2.2 _ _ _ _ _ _ _ hM sg (x1) (x4) _ w) (lw_V q2148 q2150 qs94 q134 q2151) rfl rfl (by decide +kernel) ⟨Nat.le_of_ble_eq_true rfl, Nat.le_of_ble_eq_true rfl⟩ rfl rfl rfl (Nat.le_of_ble_eq_true rfl) dX8_three_44 (fun r5 w => ?_)
      refine g_if_eq (tgt := 101) O w dX8_three_47 (by decide) (fun w => ?_) (fun w => ?_)
      · refine g_ldc O q1948 dX8_three_101 ?_
        exact gm_iret0 O hQ rfl w dX8_three_103
      · refine g_aload_n O dX8_three_50 rfl ?_
        refine gm_getA (j := 46) O hM.1 rfl (by decide) q1774 dX8_three_51 ?_
        refine g_iload O dX8_three_54 rfl ?_
        obtain ⟨i7, hi8, e9, w⟩ := w
        refine gm_ald (j := 46) (len := 30) (nn := i7) O hM.1 rfl hi8 (by decide) e9 dX8_three_56 ?_
        refine g_aload_n O dX8_three_57 rfl ?_
        refine gm_getA (j := 46) O hM.1 rfl (by decide) q1774 dX8_three_58 ?_
        refine g_iload O dX8_three_61 rfl ?_
        obtain ⟨i10, hi11, e12, w⟩ := w
        refine gm_ald (j := 46) (len := 30) (nn := i10) O hM.1 rfl hi11 (by decide) e12 dX8_three_63 ?_
        refine g_icmp_eq (tgt := 101) O w dX8_three_64 (by decide) (fun w => ?_) (fun w => ?_)
        · refine g_ldc O q1948 dX8_three_101 ?_
          exact gm_iret0 O hQ rfl w dX8_three_103
        · refine g_aload_n O dX8_three_67 rfl ?_
          refine gm_getA (j := 46) O hM.1 rfl (by decide) q1774 dX8_three_68 ?_
          refine g_iload O dX8_three_71 rfl ?_
          obtain ⟨i13, hi14, e15, w⟩ := w
          refine gm_ald (j := 46) (len := 30) (nn := i13) O hM.1 rfl hi14 (by decide) e15 dX8_three_73 ?_
          refine g_aload_n O dX8_three_74 rfl ?_
          refine gm_getA (j := 46) O hM.1 rfl (by decide) q1774 dX8_three_75 ?_
          refine g_iload O dX8_three_78 rfl ?_
          obtain ⟨i16, hi17, e18, w⟩ := w
          refine gm_ald (j := 46) (len := 30) (nn := i16) O hM.1 rfl hi17 (by decide) e18 dX8_three_80 ?_
          refine g_icmp_eq (tgt := 101) O w dX8_three_81 (by decide) (fun w => ?_) (fun w => ?_)
          · refine g_ldc O q1948 dX8_three_101 ?_
            exact gm_iret0 O hQ rfl w dX8_three_103
          · refine g_aload_n O dX8_three_84 rfl ?_
            refine gm_getA (j := 46) O hM.1 rfl (by decide) q1774 dX8_three_85 ?_
            refine g_iload O dX8_three_88 rfl ?_
            obtain ⟨i19, hi20, e21, w⟩ := w
            refine gm_ald (j := 46) (len := 30) (nn := i19) O hM.1 rfl hi20 (by decide) e21 dX8_three_90 ?_
            refine g_aload_n O dX8_three_91 rfl ?_
            refine gm_getA (j := 46) O hM.1 rfl (by decide) q1774 dX8_three_92 ?_
            refine g_iload O dX8_three_95 rfl ?_
            obtain ⟨i22, hi23, e24, w⟩ := w
            refine gm_ald (j := 46) (len := 30) (nn := i22) O hM.1 rfl hi23 (by decide) e24 dX8_three_97 ?_
            refine g_icmp_ne (tgt := 104) O w dX8_three_98 (by decide) (fun w => ?_) (fun w => ?_)
            · refine g_aload_n O dX8_three_104 rfl ?_
              refine gm_getA (j := 45) O hM.1 rfl (by decide) q1773 dX8_three_105 ?_
              refine g_iload O dX8_three_108 rfl ?_
              obtain ⟨i25, hi26, e27, w⟩ := w
              refine gm_ald (j := 45) (len := 30) (nn := i25) O hM.1 rfl hi26 (by decide) e27 dX8_three_110 ?_
              refine g_aload_n O dX8_three_111 rfl ?_
              refine gm_getA (j := 45) O hM.1 rfl (by decide) q1773 dX8_three_112 ?_
              refine g_iload O dX8_three_115 rfl ?_
              obtain ⟨i28, hi29, e30, w⟩ := w
              refine gm_ald (j := 45) (len := 30) (nn := i28) O hM.1 rfl hi29 (by decide) e30 dX8_three_117 ?_
              refine g_aload_n O dX8_three_118 rfl ?_
              refine gm_getA (j := 45) O hM.1 rfl (by decide) q1773 dX8_three_119 ?_
              refine g_iload O dX8_three_122 rfl ?_
              obtain ⟨i31, hi32, e33, w⟩ := w
              refine gm_ald (j := 45) (len := 30) (nn := i31) O hM.1 rfl hi32 (by decide) e33 dX8_three_124 ?_
              refine g_mmax O q2152 hRm (Nat.le_of_ble_eq_true rfl) (Nat.le_of_ble_eq_true rfl) ⟨Nat.le_of_ble_eq_true rfl, Nat.le_of_ble_eq_true rfl⟩ rfl dX8_three_125 ?_
              refine g_mmax O q2152 hRm (Nat.le_of_ble_eq_true rfl) (Nat.le_of_ble_eq_true rfl) ⟨Nat.le_of_ble_eq_true rfl, Nat.le_of_ble_eq_true rfl⟩ rfl dX8_three_128 ?_
              refine g_istore O dX8_three_131 (Nat.le_of_ble_eq_true rfl) rfl (lv' := [some (.ref mb), some (.int x1), some (.int x2), some (.int x3), some (.int x4), some (.int ((5 * x1) + x2)), some (.int ((5 * x1) + x3)), some (.int ((5 * x1) + x4)), some (.int (if (sg 46 i25) < (if (sg 46 i28) < (sg 46 i31) then (sg 46 i31) else (sg 46 i28)) then (if (sg 46 i28) < (sg 46 i31) then (sg 46 i31) else (sg 46 i28)) else (sg 46 i25)))]) rfl ?_
              refine g_aload_n O dX8_three_133 rfl ?_
              refine gm_getA (j := 39) O hM.1 rfl (by decide) q1767 dX8_three_134 ?_
              refine g_iconst (v := 5) O dX8_three_137 (by decide) ?_
              refine g_iload_n O dX8_three_138 rfl ?_
              refine g_imul O dX8_three_139 ?_
              refine g_iload_n O dX8_three_140 rfl ?_
              refine g_iadd O dX8_three_141 ?_
              obtain ⟨i34, hi35, e36, w⟩ := w
              refine gm_ald (j := 39) (len := 25) (nn := i34) O hM.1 rfl hi35 (by decide) e36 dX8_three_142 ?_
              refine g_iload O dX8_three_143 rfl ?_
              refine g_icmp_le (tgt := 185) O w dX8_three_145 (by decide) (fun w => ?_) (fun w => ?_)
              · refine g_ldc O q1948 dX8_three_185 ?_
                exact gm_iret0 O hQ rfl w dX8_three_187
              · refine g_aload_n O dX8_three_148 rfl ?_
                refine gm_getA (j := 39) O hM.1 rfl (by decide) q1767 dX8_three_149 ?_
                refine g_iconst (v := 5) O dX8_three_152 (by decide) ?_
                refine g_iload_n O dX8_three_153 rfl ?_
                refine g_imul O dX8_three_154 ?_
                refine g_iload O dX8_three_155 rfl ?_
                refine g_iadd O dX8_three_157 ?_
                obtain ⟨i37, hi38, e39, w⟩ := w
                refine gm_ald (j := 39) (len := 25) (nn := i37) O hM.1 rfl hi38 (by decide) e39 dX8_three_158 ?_
                refine g_iload O dX8_three_159 rfl ?_
                refine g_icmp_le (tgt := 185) O w dX8_three_161 (by decide) (fun w => ?_) (fun w => ?_)
                · refine g_ldc O q1948 dX8_three_185 ?_
                  exact gm_iret0 O hQ rfl w dX8_three_187
                · refine g_aload_n O dX8_three_164 rfl ?_
                  refine gm_getA (j := 39) O hM.1 rfl (by decide) q1767 dX8_three_165 ?_
                  refine g_iconst (v := 5) O dX8_three_168 (by decide) ?_
                  refine g_iload_n O dX8_three_169 rfl ?_
                  refine g_imul O dX8_three_170 ?_
                  refine g_iload O dX8_three_171 rfl ?_
                  refine g_iadd O dX8_three_173 ?_
                  obtain ⟨i40, hi41, e42, w⟩ := w
                  refine gm_ald (j := 39) (len := 25) (nn := i40) O hM.1 rfl hi41 (by decide) e42 dX8_three_174 ?_
                  refine g_iload O dX8_three_175 rfl ?_
                  refine g_icmp_le (tgt := 185) O w dX8_three_177 (by decide) (fun w => ?_) (fun w => ?_)
                  · refine g_ldc O q1948 dX8_three_185 ?_
                    exact gm_iret0 O hQ rfl w dX8_three_187
                  · refine g_iload O dX8_three_180 rfl ?_
                    refine g_goto (tgt := 187) O dX8_three_182 (by decide) ?_
                    exact gm_iret0 O hQ rfl w dX8_three_187
            · refine g_ldc O q1948 dX8_three_101 ?_
              exact gm_iret0 O hQ rfl w dX8_three_103
-- judgeCase
abbrev rM_judgeCase : Room := { frames := 5, cells := 0, slots := 0, locals := 107 }
set_option maxHeartbeats 4000000 in
theorem vM_judgeCase_35 {X : Cx} {z : Nat} {T L : Nat → Nat} {V0 : w_V} {P : w_P} {mb : Nat} (O : Okc X cX8_judgeCase RX8 6 none) (hRm : cxR X = rM_judgeCase) (hM : mOk (cxE X) T L P mb) (sg : MS) (x1 : Int32) (x2 : Int32) (t0 : Int32) (t1 : Int32) (post : MS → Prop) (hQ : cxMQ X (va_Qv post (fun u t => wdW (cxE X) (mW z T L V0 P mb u) t.heap) (w_A (cxE X))) 0 0) (kb : Int32 → MS → Prop) (hkb : ∀ (y2 : Int32) (sg : MS), kb y2 sg → gW X 0 0 z T L (up1 V0 mb sg) P 2 [some (.ref mb), some (.int x1), some (.int y2), none, none, none] []) (w : jM_judgeCase_35 sg x1 x2 t0 t1 post kb) : gW X 0 0 z T L (up1 V0 mb sg) P 35 [some (.ref mb), some (.int x1), some (.int x2), none, none, none] [.int t0, .int t1, .ref (mb + 27)] := by
  unfold jM_judgeCase_35 at w
  obtain ⟨i3, hi4, e5, w⟩ := w
  refine gm_ast (j := 47) (len := 30) (nn := i3) O hM.1 rfl hi4 (by decide) e5 dX8_judgeCase_35 ?_
  refine g_iinc (v := (x2 + 1)) O dX8_judgeCase_36 rfl rfl rfl (lv' := [some (.ref mb), some (.int x1), some (.int (x2 + 1)), none, none, none]) rfl ?_
  refine g_goto (tgt := 2) O dX8_judgeCase_39 (by decide) ?_
  exact hkb ((x2 + 1)) ((s2 sg 48 i3 t0)) w
set_option maxHeartbeats 4000000 in
theorem vM_judgeCase_2 {X : Cx} {z : Nat} {T L : Nat → Nat} {V0 : w_V} {P : w_P} {mb : Nat} (O : Okc X cX8_judgeCase RX8 6 none) (hRm : cxR X = rM_judgeCase) (hM : mOk (cxE X) T L P mb) (x1 : Int32) (post : MS → Prop) (hQ : cxMQ X (va_Qv post (fun u t => wdW (cxE X) (mW z T L V0 P mb u) t.heap) (w_A (cxE X))) 0 0) (ke_42 : MS → Prop) (hke_42 : ∀ (sg : MS), ke_42 sg → gW X 0 0 z T L (up1 V0 mb sg) P 42 [some (.ref mb), some (.int x1), none, none, none, none] [])  : ∀ (n : Nat) (x2 : Int32) (sg : MS), lM_judgeCase_2 x1 post ke_42 n x2 sg → gW X 0 0 z T L (up1 V0 mb sg) P 2 [some (.ref mb), some (.int x1), some (.int x2), none, none, none] [] := by
  intro n
  induction n with
  | zero =>
    intro x2 sg w
    exact w.elim
  | succ n ih =>
    intro x2 sg w
    unfold lM_judgeCase_2 at w
    refine g_iload_n O dX8_judgeCase_2 rfl ?_
    refine g_aload_n O dX8_judgeCase_3 rfl ?_
    refine gm_getA (j := 3) O hM.1 rfl (by decide) q1731 dX8_judgeCase_4 ?_
    refine g_iconst (v := 4) O dX8_judgeCase_7 (by decide) ?_
    refine gm_ald (j := 3) (len := 14) (nn := 4) O hM.1 rfl (by decide) (by decide) rfl dX8_judgeCase_8 ?_
    refine g_icmp_ge (tgt := 42) O w dX8_judgeCase_9 (by decide) (fun w => ?_) (fun w => ?_)
    · refine g_drop [2] (lv' := [some (.ref mb), some (.int x1), none, none, none, none]) rfl ?_
      exact hke_42  (sg) w
    · refine g_aload_n O dX8_judgeCase_12 rfl ?_
      refine gm_getA (j := 47) O hM.1 rfl (by decide) q1775 dX8_judgeCase_13 ?_
      refine g_iconst (v := 5) O dX8_judgeCase_16 (by decide) ?_
      refine g_iload_n O dX8_judgeCase_17 rfl ?_
      refine g_imul O dX8_judgeCase_18 ?_
      refine g_iload_n O dX8_judgeCase_19 rfl ?_
      refine g_iadd O dX8_judgeCase_20 ?_
      refine g_aload_n O dX8_judgeCase_21 rfl ?_
      refine g_iload_n O dX8_judgeCase_22 rfl ?_
      refine g_iload_n O dX8_judgeCase_23 rfl ?_
      refine gm_Vi0 (nA := 2) (As := [.int x1, .int x2]) (rest := [.int ((5 * x1) + x2), .ref (mb + 27)]) O hRm hM.1 (cM_isVoided _ O.2.2.2.2.2.2.2.2 _ _ _ _ _ _ _ hM sg (x1) (x2) _ w) (lw_V q2128 q2130 qs89 q134 q2131) rfl rfl (by decide +kernel) ⟨Nat.le_of_ble_eq_true rfl, Nat.le_of_ble_eq_true rfl⟩ rfl rfl rfl (Nat.le_of_ble_eq_true rfl) dX8_judgeCase_24 (fun r1 w => ?_)
      refine g_if_eq (tgt := 34) O w dX8_judgeCase_27 (by decide) (fun w => ?_) (fun w => ?_)
      · refine g_iconst (v := 0) O dX8_judgeCase_34 (by decide) ?_
        exact vM_judgeCase_35 O hRm hM sg  x1 x2 0 ((5 * x1) + x2) post hQ (lM_judgeCase_2 x1 post ke_42 n) ih w
      · refine g_iconst (v := 1) O dX8_judgeCase_30 (by decide) ?_
        refine g_goto (tgt := 35) O dX8_judgeCase_31 (by decide) ?_
        exact vM_judgeCase_35 O hRm hM sg  x1 x2 1 ((5 * x1) + x2) post hQ (lM_judgeCase_2 x1 post ke_42 n) ih w
set_option maxHeartbeats 4000000 in
theorem vM_judgeCase_150 {X : Cx} {z : Nat} {T L : Nat → Nat} {V0 : w_V} {P : w_P} {mb : Nat} (O : Okc X cX8_judgeCase RX8 6 none) (hRm : cxR X = rM_judgeCase) (hM : mOk (cxE X) T L P mb) (sg : MS) (x1 : Int32) (x2 : Int32) (x3 : Int32) (x4 : Int32) (post : MS → Prop) (hQ : cxMQ X (va_Qv post (fun u t => wdW (cxE X) (mW z T L V0 P mb u) t.heap) (w_A (cxE X))) 0 0) (kb : Int32 → MS → Prop) (hkb : ∀ (y4 : Int32) (sg : MS), kb y4 sg → gW X 0 0 z T L (up1 V0 mb sg) P 88 [some (.ref mb), some (.int x1), some (.int x2), some (.int x3), some (.int y4), none] []) (w : jM_judgeCase_150 sg x1 x2 x3 x4 post kb) : gW X 0 0 z T L (up1 V0 mb sg) P 150 [some (.ref mb), some (.int x1), some (.int x2), some (.int x3), some (.int x4), none] [] := by
  unfold jM_judgeCase_150 at w
  refine g_iinc (v := (x4 + 1)) O dX8_judgeCase_150 rfl rfl rfl (lv' := [some (.ref mb), some (.int x1), some (.int x2), some (.int x3), some (.int (x4 + 1)), none]) rfl ?_
  refine g_goto (tgt := 88) O dX8_judgeCase_153 (by decide) ?_
  exact hkb ((x4 + 1)) (sg) w
set_option maxHeartbeats 4000000 in
theorem vM_judgeCase_88 {X : Cx} {z : Nat} {T L : Nat → Nat} {V0 : w_V} {P : w_P} {mb : Nat} (O : Okc X cX8_judgeCase RX8 6 none) (hRm : cxR X = rM_judgeCase) (hM : mOk (cxE X) T L P mb) (x1 : Int32) (x2 : Int32) (x3 : Int32) (post : MS → Prop) (hQ : cxMQ X (va_Qv post (fun u t => wdW (cxE X) (mW z T L V0 P mb u) t.heap) (w_A (cxE X))) 0 0) (ke_156 : MS → Prop) (hke_156 : ∀ (sg : MS), ke_156 sg → gW X 0 0 z T L (up1 V0 mb sg) P 156 [some (.ref mb), some (.int x1), some (.int x2), some (.int x3), none, none] [])  : ∀ (n : Nat) (x4 : Int32) (sg : MS), lM_judgeCase_88 x1 x2 x3 post ke_156 n x4 sg → gW X 0 0 z T L (up1 V0 mb sg) P 88 [some (.ref mb), some (.int x1), some (.int x2), some (.int x3), some (.int x4), none] [] := by
  intro n
  induction n with
  | zero =>
    intro x4 sg w
    exact w.elim
  | succ n ih =>
    intro x4 sg w
    unfold lM_judgeCase_88 at w
    refine g_iload O dX8_judgeCase_88 rfl ?_
    refine g_aload_n O dX8_judgeCase_90 rfl ?_
    refine gm_getA (j := 3) O hM.1 rfl (by decide) q1731 dX8_judgeCase_91 ?_
    refine g_iconst (v := 4) O dX8_judgeCase_94 (by decide) ?_
    refine gm_ald (j := 3) (len := 14) (nn := 4) O hM.1 rfl (by decide) (by decide) rfl dX8_judgeCase_95 ?_
    refine g_icmp_ge (tgt := 156) O w dX8_judgeCase_96 (by decide) (fun w => ?_) (fun w => ?_)
    · refine g_drop [4] (lv' := [some (.ref mb), some (.int x1), some (.int x2), some (.int x3), none, none]) rfl ?_
      exact hke_156  (sg) w
    · refine g_aload_n O dX8_judgeCase_99 rfl ?_
      refine g_iload_n O dX8_judgeCase_100 rfl ?_
      refine g_iload_n O dX8_judgeCase_101 rfl ?_
      refine g_iload_n O dX8_judgeCase_102 rfl ?_
      refine g_iload O dX8_judgeCase_103 rfl ?_
      refine gm_Vi0 (nA := 4) (As := [.int x1, .int x2, .int x3, .int x4]) (rest := []) O hRm hM.1 (cM_three _ O.2.2.2.2.2.2.2.2 _ _ _ _ _ _ _ hM sg (x1) (x2) (x3) (x4) _ w) (lw_V q2144 q2146 qs93 q134 q2147) rfl rfl (by decide +kernel) ⟨Nat.le_of_ble_eq_true rfl, Nat.le_of_ble_eq_true rfl⟩ rfl rfl rfl (Nat.le_of_ble_eq_true rfl) dX8_judgeCase_105 (fun r13 w => ?_)
      refine g_istore O dX8_judgeCase_108 (Nat.le_of_ble_eq_true rfl) rfl (lv' := [some (.ref mb), some (.int x1), some (.int x2), some (.int x3), some (.int x4), some (.int r13)]) rfl ?_
      refine g_iload O dX8_judgeCase_110 rfl ?_
      refine g_aload_n O dX8_judgeCase_112 rfl ?_
      refine gm_getA (j := 48) O hM.1 rfl (by decide) q1776 dX8_judgeCase_113 ?_
      refine g_iload_n O dX8_judgeCase_116 rfl ?_
      obtain ⟨i15, hi16, e17, w⟩ := w
      refine gm_ald (j := 48) (len := 6) (nn := i15) O hM.1 rfl hi16 (by decide) e17 dX8_judgeCase_117 ?_
      refine g_icmp_lt (tgt := 124) O w dX8_judgeCase_118 (by decide) (fun w => ?_) (fun w => ?_)
      · refine g_aload_n O dX8_judgeCase_124 rfl ?_
        refine gm_getA (j := 48) O hM.1 rfl (by decide) q1776 dX8_judgeCase_125 ?_
        refine g_iload_n O dX8_judgeCase_128 rfl ?_
        refine g_iload O dX8_judgeCase_129 rfl ?_
        obtain ⟨i18, hi19, e20, w⟩ := w
        refine gm_ast (j := 48) (len := 6) (nn := i18) O hM.1 rfl hi19 (by decide) e20 dX8_judgeCase_131 ?_
        refine g_aload_n O dX8_judgeCase_132 rfl ?_
        refine gm_getA (j := 49) O hM.1 rfl (by decide) q1777 dX8_judgeCase_133 ?_
        refine g_iload_n O dX8_judgeCase_136 rfl ?_
        refine g_iconst (v := 1) O dX8_judgeCase_137 (by decide) ?_
        refine g_iload_n O dX8_judgeCase_138 rfl ?_
        refine g_ishl O dX8_judgeCase_139 ?_
        refine g_iconst (v := 1) O dX8_judgeCase_140 (by decide) ?_
        refine g_iload_n O dX8_judgeCase_141 rfl ?_
        refine g_ishl O dX8_judgeCase_142 ?_
        refine g_ior O dX8_judgeCase_143 ?_
        refine g_iconst (v := 1) O dX8_judgeCase_144 (by decide) ?_
        refine g_iload O dX8_judgeCase_145 rfl ?_
        refine g_ishl O dX8_judgeCase_147 ?_
        refine g_ior O dX8_judgeCase_148 ?_
        obtain ⟨i21, hi22, e23, w⟩ := w
        refine gm_ast (j := 49) (len := 6) (nn := i21) O hM.1 rfl hi22 (by decide) e23 dX8_judgeCase_149 ?_
        refine g_drop [5] (lv' := [some (.ref mb), some (.int x1), some (.int x2), some (.int x3), some (.int x4), none]) rfl ?_
        exact vM_judgeCase_150 O hRm hM (s2 (s2 sg 49 i18 r13) 50 i21 ((((1 : Int32) <<< ((x2 : Int32) &&& 31)) ||| ((1 : Int32) <<< ((x3 : Int32) &&& 31))) ||| ((1 : Int32) <<< ((x4 : Int32) &&& 31))))  x1 x2 x3 x4 post hQ (lM_judgeCase_88 x1 x2 x3 post ke_156 n) ih w
      · refine g_goto (tgt := 150) O dX8_judgeCase_121 (by decide) ?_
        refine g_drop [5] (lv' := [some (.ref mb), some (.int x1), some (.int x2), some (.int x3), some (.int x4), none]) rfl ?_
        exact vM_judgeCase_150 O hRm hM sg  x1 x2 x3 x4 post hQ (lM_judgeCase_88 x1 x2 x3 post ke_156 n) ih w
set_option maxHeartbeats 4000000 in
theorem vM_judgeCase_73 {X : Cx} {z : Nat} {T L : Nat → Nat} {V0 : w_V} {P : w_P} {mb : Nat} (O : Okc X cX8_judgeCase RX8 6 none) (hRm : cxR X = rM_judgeCase) (hM : mOk (cxE X) T L P mb) (x1 : Int32) (x2 : Int32) (post : MS → Prop) (hQ : cxMQ X (va_Qv post (fun u t => wdW (cxE X) (mW z T L V0 P mb u) t.heap) (w_A (cxE X))) 0 0) (ke_162 : MS → Prop) (hke_162 : ∀ (sg : MS), ke_162 sg → gW X 0 0 z T L (up1 V0 mb sg) P 162 [some (.ref mb), some (.int x1), some (.int x2), none, none, none] [])  : ∀ (n : Nat) (x3 : Int32) (sg : MS), lM_judgeCase_73 x1 x2 post ke_162 n x3 sg → gW X 0 0 z T L (up1 V0 mb sg) P 73 [some (.ref mb), some (.int x1), some (.int x2), some (.int x3), none, none] [] := by
  intro n
  induction n with
  | zero =>
    intro x3 sg w
    exact w.elim
  | succ n ih =>
    intro x3 sg w
    unfold lM_judgeCase_73 at w
    refine g_iload_n O dX8_judgeCase_73 rfl ?_
    refine g_aload_n O dX8_judgeCase_74 rfl ?_
    refine gm_getA (j := 3) O hM.1 rfl (by decide) q1731 dX8_judgeCase_75 ?_
    refine g_iconst (v := 4) O dX8_judgeCase_78 (by decide) ?_
    refine gm_ald (j := 3) (len := 14) (nn := 4) O hM.1 rfl (by decide) (by decide) rfl dX8_judgeCase_79 ?_
    refine g_icmp_ge (tgt := 162) O w dX8_judgeCase_80 (by decide) (fun w => ?_) (fun w => ?_)
    · refine g_drop [3] (lv' := [some (.ref mb), some (.int x1), some (.int x2), none, none, none]) rfl ?_
      exact hke_162  (sg) w
    · refine g_iload_n O dX8_judgeCase_83 rfl ?_
      refine g_iconst (v := 1) O dX8_judgeCase_84 (by decide) ?_
      refine g_iadd O dX8_judgeCase_85 ?_
      refine g_istore O dX8_judgeCase_86 (Nat.le_of_ble_eq_true rfl) rfl (lv' := [some (.ref mb), some (.int x1), some (.int x2), some (.int x3), some (.int (x3 + 1)), none]) rfl ?_
      obtain ⟨n25, w⟩ := w
      refine vM_judgeCase_88 O hRm hM x1 x2 x3 post hQ _ (fun g24 w => ?_) n25 (x3 + 1) sg w
      refine g_iinc (v := (x3 + 1)) O dX8_judgeCase_156 rfl rfl rfl (lv' := [some (.ref mb), some (.int x1), some (.int x2), some (.int (x3 + 1)), none, none]) rfl ?_
      refine g_goto (tgt := 73) O dX8_judgeCase_159 (by decide) ?_
      exact ih ((x3 + 1)) (g24) w
set_option maxHeartbeats 4000000 in
theorem vM_judgeCase_59 {X : Cx} {z : Nat} {T L : Nat → Nat} {V0 : w_V} {P : w_P} {mb : Nat} (O : Okc X cX8_judgeCase RX8 6 none) (hRm : cxR X = rM_judgeCase) (hM : mOk (cxE X) T L P mb) (x1 : Int32) (post : MS → Prop) (hQ : cxMQ X (va_Qv post (fun u t => wdW (cxE X) (mW z T L V0 P mb u) t.heap) (w_A (cxE X))) 0 0)  : ∀ (n : Nat) (x2 : Int32) (sg : MS), lM_judgeCase_59 x1 post n x2 sg → gW X 0 0 z T L (up1 V0 mb sg) P 59 [some (.ref mb), some (.int x1), some (.int x2), none, none, none] [] := by
  intro n
  induction n with
  | zero =>
    intro x2 sg w
    exact w.elim
  | succ n ih =>
    intro x2 sg w
    unfold lM_judgeCase_59 at w
    refine g_iload_n O dX8_judgeCase_59 rfl ?_
    refine g_aload_n O dX8_judgeCase_60 rfl ?_
    refine gm_getA (j := 3) O hM.1 rfl (by decide) q1731 dX8_judgeCase_61 ?_
    refine g_iconst (v := 4) O dX8_judgeCase_64 (by decide) ?_
    refine gm_ald (j := 3) (len := 14) (nn := 4) O hM.1 rfl (by decide) (by decide) rfl dX8_judgeCase_65 ?_
    refine g_icmp_ge (tgt := 168) O w dX8_judgeCase_66 (by decide) (fun w => ?_) (fun w => ?_)
    · exact gm_vret O hQ w dX8_judgeCase_168
    · refine g_iload_n O dX8_judgeCase_69 rfl ?_
      refine g_iconst (v := 1) O dX8_judgeCase_70 (by decide) ?_
      refine g_iadd O dX8_judgeCase_71 ?_
      refine g_istore_n O dX8_judgeCase_72 (Nat.le_of_ble_eq_true rfl) rfl (lv' := [some (.ref mb), some (.int x1), some (.int x2), some (.int (x2 + 1)), none, none]) rfl ?_
      obtain ⟨n27, w⟩ := w
      refine vM_judgeCase_73 O hRm hM x1 x2 post hQ _ (fun g26 w => ?_) n27 (x2 + 1) sg w
      refine g_iinc (v := (x2 + 1)) O dX8_judgeCase_162 rfl rfl rfl (lv' := [some (.ref mb), some (.int x1), some (.int (x2 + 1)), none, none, none]) rfl ?_
      refine g_goto (tgt := 59) O dX8_judgeCase_165 (by decide) ?_
      exact ih ((x2 + 1)) (g26) w
set_option maxHeartbeats 4000000 in
theorem cM_judgeCase (l : Launch) (hfl : l.flags = flags0) (E : w_E) (z : Nat) (T L : Nat → Nat) (V0 : w_V) (P : w_P) (mb : Nat) (hM : mOk E T L P mb) (sg : MS) (x1 : Int32) (post : MS → Prop) (w : wM_judgeCase sg x1 post) : mMv l yX8_judgeCase cX8_judgeCase 6 none rM_judgeCase E z T L V0 P mb [.ref mb, .int x1] sg post := by
  refine g_start (S := Unit) hfl (by decide +kernel) rfl [some (.ref mb), some (.int x1), none, none, none, none] rfl (fun _ h => h) (Nat.le_of_ble_eq_true rfl) (fun X hl hRm hEe O hQ => ?_)
  subst hl
  subst hEe
  unfold wM_judgeCase at w
  refine g_iconst (v := 0) O dX8_judgeCase_0 (by decide) ?_
  refine g_istore_n O dX8_judgeCase_1 (Nat.le_of_ble_eq_true rfl) rfl (lv' := [some (.ref mb), some (.int x1), some (.int 0), none, none, none]) rfl ?_
  obtain ⟨n29, w⟩ := w
  refine vM_judgeCase_2 O hRm hM x1 post hQ _ (fun g6 w => ?_) n29 0 sg w
  refine g_aload_n O dX8_judgeCase_42 rfl ?_
  refine gm_getA (j := 48) O hM.1 rfl (by decide) q1776 dX8_judgeCase_43 ?_
  refine g_iload_n O dX8_judgeCase_46 rfl ?_
  refine g_ldc O q1948 dX8_judgeCase_47 ?_
  obtain ⟨i7, hi8, e9, w⟩ := w
  refine gm_ast (j := 48) (len := 6) (nn := i7) O hM.1 rfl hi8 (by decide) e9 dX8_judgeCase_49 ?_
  refine g_aload_n O dX8_judgeCase_50 rfl ?_
  refine gm_getA (j := 49) O hM.1 rfl (by decide) q1777 dX8_judgeCase_51 ?_
  refine g_iload_n O dX8_judgeCase_54 rfl ?_
  refine g_iconst (v := 0) O dX8_judgeCase_55 (by decide) ?_
  obtain ⟨i10, hi11, e12, w⟩ := w
  refine gm_ast (j := 49) (len := 6) (nn := i10) O hM.1 rfl hi11 (by decide) e12 dX8_judgeCase_56 ?_
  refine g_iconst (v := 0) O dX8_judgeCase_57 (by decide) ?_
  refine g_istore_n O dX8_judgeCase_58 (Nat.le_of_ble_eq_true rfl) rfl (lv' := [some (.ref mb), some (.int x1), some (.int 0), none, none, none]) rfl ?_
  obtain ⟨n28, w⟩ := w
  exact vM_judgeCase_59 O hRm hM x1 post hQ n28 0 (s2 (s2 g6 49 i7 100000) 50 i10 0) w
-- judgeAll
abbrev rM_judgeAll : Room := { frames := 6, cells := 0, slots := 0, locals := 132 }
set_option maxHeartbeats 4000000 in
theorem vM_judgeAll_36 {X : Cx} {z : Nat} {T L : Nat → Nat} {V0 : w_V} {P : w_P} {mb : Nat} (O : Okc X cX8_judgeAll RX8 3 (some .int)) (hRm : cxR X = rM_judgeAll) (hM : mOk (cxE X) T L P mb) (sg : MS) (x2 : Int32) (t0 : Int32) (t1 : Int32) (post : Int32 → MS → Prop) (hQ : cxMQ X (va_Qi post (fun u t => wdW (cxE X) (mW z T L V0 P mb u) t.heap) (w_A (cxE X))) 0 0) (kb : Int32 → Int32 → MS → Prop) (hkb : ∀ (y1 : Int32) (y2 : Int32) (sg : MS), kb y1 y2 sg → gW X 0 0 z T L (up1 V0 mb sg) P 4 [some (.ref mb), some (.int y1), some (.int y2)] []) (w : jM_judgeAll_36 sg x2 t0 t1 post kb) : gW X 0 0 z T L (up1 V0 mb sg) P 36 [some (.ref mb), none, some (.int x2)] [.int t0, .int t1] := by
  unfold jM_judgeAll_36 at w
  refine g_iadd O dX8_judgeAll_36 ?_
  refine g_istore_n O dX8_judgeAll_37 (Nat.le_of_ble_eq_true rfl) rfl (lv' := [some (.ref mb), some (.int (t1 + t0)), some (.int x2)]) rfl ?_
  refine g_iinc (v := (x2 + 1)) O dX8_judgeAll_38 rfl rfl rfl (lv' := [some (.ref mb), some (.int (t1 + t0)), some (.int (x2 + 1))]) rfl ?_
  refine g_goto (tgt := 4) O dX8_judgeAll_41 (by decide) ?_
  exact hkb ((t1 + t0)) ((x2 + 1)) (sg) w
set_option maxHeartbeats 4000000 in
theorem vM_judgeAll_4 {X : Cx} {z : Nat} {T L : Nat → Nat} {V0 : w_V} {P : w_P} {mb : Nat} (O : Okc X cX8_judgeAll RX8 3 (some .int)) (hRm : cxR X = rM_judgeAll) (hM : mOk (cxE X) T L P mb) (post : Int32 → MS → Prop) (hQ : cxMQ X (va_Qi post (fun u t => wdW (cxE X) (mW z T L V0 P mb u) t.heap) (w_A (cxE X))) 0 0)  : ∀ (n : Nat) (x1 : Int32) (x2 : Int32) (sg : MS), lM_judgeAll_4 post n x1 x2 sg → gW X 0 0 z T L (up1 V0 mb sg) P 4 [some (.ref mb), some (.int x1), some (.int x2)] [] := by
  intro n
  induction n with
  | zero =>
    intro x1 x2 sg w
    exact w.elim
  | succ n ih =>
    intro x1 x2 sg w
    unfold lM_judgeAll_4 at w
    refine g_iload_n O dX8_judgeAll_4 rfl ?_
    refine g_aload_n O dX8_judgeAll_5 rfl ?_
    refine gm_getA (j := 3) O hM.1 rfl (by decide) q1731 dX8_judgeAll_6 ?_
    refine g_iconst (v := 5) O dX8_judgeAll_9 (by decide) ?_
    refine gm_ald (j := 3) (len := 14) (nn := 5) O hM.1 rfl (by decide) (by decide) rfl dX8_judgeAll_10 ?_
    refine g_icmp_ge (tgt := 44) O w dX8_judgeAll_11 (by decide) (fun w => ?_) (fun w => ?_)
    · refine g_iload_n O dX8_judgeAll_44 rfl ?_
      exact gm_iret O hQ rfl w dX8_judgeAll_45
    · refine g_aload_n O dX8_judgeAll_14 rfl ?_
      refine g_iload_n O dX8_judgeAll_15 rfl ?_
      refine gm_Vv (nA := 1) (As := [.int x2]) (rest := []) O hRm hM.1 (cM_judgeCase _ O.2.2.2.2.2.2.2.2 _ _ _ _ _ _ _ hM sg (x2) _ w) (lw_V q2124 q2126 qs88 q134 q2127) rfl rfl (by decide +kernel) ⟨Nat.le_of_ble_eq_true rfl, Nat.le_of_ble_eq_true rfl⟩ rfl rfl rfl (Nat.le_of_ble_eq_true rfl) dX8_judgeAll_16 (fun g2 w => ?_)
      refine g_iload_n O dX8_judgeAll_19 rfl ?_
      refine g_aload_n O dX8_judgeAll_20 rfl ?_
      refine gm_getA (j := 48) O hM.1 rfl (by decide) q1776 dX8_judgeAll_21 ?_
      refine g_iload_n O dX8_judgeAll_24 rfl ?_
      obtain ⟨i3, hi4, e5, w⟩ := w
      refine gm_ald (j := 48) (len := 6) (nn := i3) O hM.1 rfl hi4 (by decide) e5 dX8_judgeAll_25 ?_
      refine g_ldc O q1948 dX8_judgeAll_26 ?_
      refine g_icmp_ge (tgt := 35) O w dX8_judgeAll_28 (by decide) (fun w => ?_) (fun w => ?_)
      · refine g_iconst (v := 0) O dX8_judgeAll_35 (by decide) ?_
        refine g_drop [1] (lv' := [some (.ref mb), none, some (.int x2)]) rfl ?_
        exact vM_judgeAll_36 O hRm hM g2  x2 0 x1 post hQ (lM_judgeAll_4 post n) ih w
      · refine g_iconst (v := 1) O dX8_judgeAll_31 (by decide) ?_
        refine g_goto (tgt := 36) O dX8_judgeAll_32 (by decide) ?_
        refine g_drop [1] (lv' := [some (.ref mb), none, some (.int x2)]) rfl ?_
        exact vM_judgeAll_36 O hRm hM g2  x2 1 x1 post hQ (lM_judgeAll_4 post n) ih w
set_option maxHeartbeats 4000000 in
theorem cM_judgeAll (l : Launch) (hfl : l.flags = flags0) (E : w_E) (z : Nat) (T L : Nat → Nat) (V0 : w_V) (P : w_P) (mb : Nat) (hM : mOk E T L P mb) (sg : MS) (post : Int32 → MS → Prop) (w : wM_judgeAll sg post) : mMi l yX8_judgeAll cX8_judgeAll 3 (some .int) rM_judgeAll E z T L V0 P mb [.ref mb] sg post := by
  refine g_start (S := Unit) hfl (by decide +kernel) rfl [some (.ref mb), none, none] rfl (fun _ h => h) (Nat.le_of_ble_eq_true rfl) (fun X hl hRm hEe O hQ => ?_)
  subst hl
  subst hEe
  unfold wM_judgeAll at w
  refine g_iconst (v := 0) O dX8_judgeAll_0 (by decide) ?_
  refine g_istore_n O dX8_judgeAll_1 (Nat.le_of_ble_eq_true rfl) rfl (lv' := [some (.ref mb), some (.int 0), none]) rfl ?_
  refine g_iconst (v := 0) O dX8_judgeAll_2 (by decide) ?_
  refine g_istore_n O dX8_judgeAll_3 (Nat.le_of_ble_eq_true rfl) rfl (lv' := [some (.ref mb), some (.int 0), some (.int 0)]) rfl ?_
  obtain ⟨n6, w⟩ := w
  exact vM_judgeAll_4 O hRm hM post hQ n6 0 0 sg w
-- isMeeting
abbrev rM_isMeeting : Room := { frames := 2, cells := 0, slots := 0, locals := 33 }
set_option maxHeartbeats 4000000 in
theorem vM_isMeeting_104 {X : Cx} {z : Nat} {T L : Nat → Nat} {V0 : w_V} {P : w_P} {mb : Nat} (O : Okc X cX8_isMeeting RX8 7 (some .boolean)) (hRm : cxR X = rM_isMeeting) (hM : mOk (cxE X) T L P mb) (sg : MS) (x1 : Int32) (x2 : Int32) (x3 : Int32) (x4 : Int32) (post : Int32 → Prop) (hQ : cxMQ X (va_Qi (fun x (_ : Unit) => post x) (fun (_ : Unit) t => wdW (cxE X) (mW z T L V0 P mb sg) t.heap) (w_A (cxE X))) 0 0) (kb : Int32 → Prop) (hkb : ∀ (y4 : Int32), kb y4 → gW X 0 0 z T L (up1 V0 mb sg) P 22 [some (.ref mb), some (.int x1), some (.int x2), some (.int x3), some (.int y4), none, none] []) (w : jM_isMeeting_104 sg x1 x2 x3 x4 post kb) : gW X 0 0 z T L (up1 V0 mb sg) P 104 [some (.ref mb), some (.int x1), some (.int x2), some (.int x3), some (.int x4), none, none] [] := by
  unfold jM_isMeeting_104 at w
  refine g_iinc (v := (x4 + 1)) O dX8_isMeeting_104 rfl rfl rfl (lv' := [some (.ref mb), some (.int x1), some (.int x2), some (.int x3), some (.int (x4 + 1)), none, none]) rfl ?_
  refine g_goto (tgt := 22) O dX8_isMeeting_107 (by decide) ?_
  exact hkb ((x4 + 1)) w
set_option maxHeartbeats 4000000 in
theorem vM_isMeeting_22 {X : Cx} {z : Nat} {T L : Nat → Nat} {V0 : w_V} {P : w_P} {mb : Nat} (O : Okc X cX8_isMeeting RX8 7 (some .boolean)) (hRm : cxR X = rM_isMeeting) (hM : mOk (cxE X) T L P mb) (sg : MS) (x1 : Int32) (x2 : Int32) (x3 : Int32) (post : Int32 → Prop) (hQ : cxMQ X (va_Qi (fun x (_ : Unit) => post x) (fun (_ : Unit) t => wdW (cxE X) (mW z T L V0 P mb sg) t.heap) (w_A (cxE X))) 0 0)  : ∀ (n : Nat) (x4 : Int32), lM_isMeeting_22 sg x1 x2 x3 post n x4 → gW X 0 0 z T L (up1 V0 mb sg) P 22 [some (.ref mb), some (.int x1), some (.int x2), some (.int x3), some (.int x4), none, none] [] := by
  intro n
  induction n with
  | zero =>
    intro x4 w
    exact w.elim
  | succ n ih =>
    intro x4 w
    unfold lM_isMeeting_22 at w
    refine g_iload O dX8_isMeeting_22 rfl ?_
    refine g_aload_n O dX8_isMeeting_24 rfl ?_
    refine gm_getI (j := 32) O hM.1 rfl (by decide) q1760 dX8_isMeeting_25 ?_
    refine g_icmp_ge (tgt := 110) O w dX8_isMeeting_28 (by decide) (fun w => ?_) (fun w => ?_)
    · refine g_iconst (v := 0) O dX8_isMeeting_110 (by decide) ?_
      exact gm_iret0 O hQ rfl w dX8_isMeeting_111
    · refine g_aload_n O dX8_isMeeting_31 rfl ?_
      refine gm_getA (j := 27) O hM.1 rfl (by decide) q1755 dX8_isMeeting_32 ?_
      refine g_iconst (v := 3) O dX8_isMeeting_35 (by decide) ?_
      refine g_iload O dX8_isMeeting_36 rfl ?_
      refine g_imul O dX8_isMeeting_38 ?_
      obtain ⟨i1, hi2, e3, w⟩ := w
      refine gm_ald (j := 27) (len := 18) (nn := i1) O hM.1 rfl hi2 (by decide) e3 dX8_isMeeting_39 ?_
      refine g_istore O dX8_isMeeting_40 (Nat.le_of_ble_eq_true rfl) rfl (lv' := [some (.ref mb), some (.int x1), some (.int x2), some (.int x3), some (.int x4), some (.int (sg 28 i1)), none]) rfl ?_
      refine g_aload_n O dX8_isMeeting_42 rfl ?_
      refine gm_getA (j := 27) O hM.1 rfl (by decide) q1755 dX8_isMeeting_43 ?_
      refine g_iconst (v := 3) O dX8_isMeeting_46 (by decide) ?_
      refine g_iload O dX8_isMeeting_47 rfl ?_
      refine g_imul O dX8_isMeeting_49 ?_
      refine g_iconst (v := 2) O dX8_isMeeting_50 (by decide) ?_
      refine g_iadd O dX8_isMeeting_51 ?_
      obtain ⟨i4, hi5, e6, w⟩ := w
      refine gm_ald (j := 27) (len := 18) (nn := i4) O hM.1 rfl hi5 (by decide) e6 dX8_isMeeting_52 ?_
      refine g_istore O dX8_isMeeting_53 (Nat.le_of_ble_eq_true rfl) rfl (lv' := [some (.ref mb), some (.int x1), some (.int x2), some (.int x3), some (.int x4), some (.int (sg 28 i1)), some (.int (sg 28 i4))]) rfl ?_
      refine g_aload_n O dX8_isMeeting_55 rfl ?_
      refine gm_getA (j := 27) O hM.1 rfl (by decide) q1755 dX8_isMeeting_56 ?_
      refine g_iconst (v := 3) O dX8_isMeeting_59 (by decide) ?_
      refine g_iload O dX8_isMeeting_60 rfl ?_
      refine g_imul O dX8_isMeeting_62 ?_
      refine g_iconst (v := 1) O dX8_isMeeting_63 (by decide) ?_
      refine g_iadd O dX8_isMeeting_64 ?_
      obtain ⟨i7, hi8, e9, w⟩ := w
      refine gm_ald (j := 27) (len := 18) (nn := i7) O hM.1 rfl hi8 (by decide) e9 dX8_isMeeting_65 ?_
      refine g_iload_n O dX8_isMeeting_66 rfl ?_
      refine g_icmp_ne (tgt := 104) O w dX8_isMeeting_67 (by decide) (fun w => ?_) (fun w => ?_)
      · refine g_drop [5, 6] (lv' := [some (.ref mb), some (.int x1), some (.int x2), some (.int x3), some (.int x4), none, none]) rfl ?_
        exact vM_isMeeting_104 O hRm hM sg  x1 x2 x3 x4 post hQ (lM_isMeeting_22 sg x1 x2 x3 post n) ih w
      · refine g_aload_n O dX8_isMeeting_70 rfl ?_
        refine gm_getA (j := 24) O hM.1 rfl (by decide) q1752 dX8_isMeeting_71 ?_
        refine g_iload_n O dX8_isMeeting_74 rfl ?_
        refine g_iload O dX8_isMeeting_75 rfl ?_
        refine gm_Si0 (nA := 2) (As := [.int x1, .int (sg 28 i1)]) (rest := [.ref (mb + 14)]) O hRm (cM_couple _ O.2.2.2.2.2.2.2.2 _ _ _ _ _ _ _ hM sg (x1) ((sg 28 i1)) _ w) (lw_S q2032 q2033 q134 q2034) rfl rfl (by decide +kernel) ⟨Nat.le_of_ble_eq_true rfl, Nat.le_of_ble_eq_true rfl⟩ rfl rfl rfl (Nat.le_of_ble_eq_true rfl) dX8_isMeeting_77 (fun r10 w => ?_)
        obtain ⟨i12, hi13, e14, w⟩ := w
        refine gm_ald (j := 24) (len := 81) (nn := i12) O hM.1 rfl hi13 (by decide) e14 dX8_isMeeting_80 ?_
        refine g_iload O dX8_isMeeting_81 rfl ?_
        refine g_icmp_gt (tgt := 104) O w dX8_isMeeting_83 (by decide) (fun w => ?_) (fun w => ?_)
        · refine g_drop [5, 6] (lv' := [some (.ref mb), some (.int x1), some (.int x2), some (.int x3), some (.int x4), none, none]) rfl ?_
          exact vM_isMeeting_104 O hRm hM sg  x1 x2 x3 x4 post hQ (lM_isMeeting_22 sg x1 x2 x3 post n) ih w
        · refine g_aload_n O dX8_isMeeting_86 rfl ?_
          refine gm_getA (j := 24) O hM.1 rfl (by decide) q1752 dX8_isMeeting_87 ?_
          refine g_iload_n O dX8_isMeeting_90 rfl ?_
          refine g_iload O dX8_isMeeting_91 rfl ?_
          refine gm_Si0 (nA := 2) (As := [.int x2, .int (sg 28 i1)]) (rest := [.ref (mb + 14)]) O hRm (cM_couple _ O.2.2.2.2.2.2.2.2 _ _ _ _ _ _ _ hM sg (x2) ((sg 28 i1)) _ w) (lw_S q2032 q2033 q134 q2034) rfl rfl (by decide +kernel) ⟨Nat.le_of_ble_eq_true rfl, Nat.le_of_ble_eq_true rfl⟩ rfl rfl rfl (Nat.le_of_ble_eq_true rfl) dX8_isMeeting_93 (fun r15 w => ?_)
          obtain ⟨i17, hi18, e19, w⟩ := w
          refine gm_ald (j := 24) (len := 81) (nn := i17) O hM.1 rfl hi18 (by decide) e19 dX8_isMeeting_96 ?_
          refine g_iload O dX8_isMeeting_97 rfl ?_
          refine g_icmp_gt (tgt := 104) O w dX8_isMeeting_99 (by decide) (fun w => ?_) (fun w => ?_)
          · refine g_drop [5, 6] (lv' := [some (.ref mb), some (.int x1), some (.int x2), some (.int x3), some (.int x4), none, none]) rfl ?_
            exact vM_isMeeting_104 O hRm hM sg  x1 x2 x3 x4 post hQ (lM_isMeeting_22 sg x1 x2 x3 post n) ih w
          · refine g_iconst (v := 1) O dX8_isMeeting_102 (by decide) ?_
            exact gm_iret0 O hQ rfl w dX8_isMeeting_103
set_option maxHeartbeats 4000000 in
theorem vM_isMeeting_19 {X : Cx} {z : Nat} {T L : Nat → Nat} {V0 : w_V} {P : w_P} {mb : Nat} (O : Okc X cX8_isMeeting RX8 7 (some .boolean)) (hRm : cxR X = rM_isMeeting) (hM : mOk (cxE X) T L P mb) (sg : MS) (x1 : Int32) (x2 : Int32) (x3 : Int32) (post : Int32 → Prop) (hQ : cxMQ X (va_Qi (fun x (_ : Unit) => post x) (fun (_ : Unit) t => wdW (cxE X) (mW z T L V0 P mb sg) t.heap) (w_A (cxE X))) 0 0) (w : jM_isMeeting_19 sg x1 x2 x3 post) : gW X 0 0 z T L (up1 V0 mb sg) P 19 [some (.ref mb), some (.int x1), some (.int x2), some (.int x3), none, none, none] [] := by
  unfold jM_isMeeting_19 at w
  refine g_iconst (v := 0) O dX8_isMeeting_19 (by decide) ?_
  refine g_istore O dX8_isMeeting_20 (Nat.le_of_ble_eq_true rfl) rfl (lv' := [some (.ref mb), some (.int x1), some (.int x2), some (.int x3), some (.int 0), none, none]) rfl ?_
  obtain ⟨n20, w⟩ := w
  exact vM_isMeeting_22 O hRm hM sg x1 x2 x3 post hQ n20 0 w
set_option maxHeartbeats 4000000 in
theorem cM_isMeeting (l : Launch) (hfl : l.flags = flags0) (E : w_E) (z : Nat) (T L : Nat → Nat) (V0 : w_V) (P : w_P) (mb : Nat) (hM : mOk E T L P mb) (sg : MS) (x1 : Int32) (x2 : Int32) (x3 : Int32) (post : Int32 → Prop) (w : wM_isMeeting sg x1 x2 x3 post) : mMi0 l yX8_isMeeting cX8_isMeeting 7 (some .boolean) rM_isMeeting E z T L V0 P mb [.ref mb, .int x1, .int x2, .int x3] sg post := by
  refine g_start (S := Unit) hfl (by decide +kernel) rfl [some (.ref mb), some (.int x1), some (.int x2), some (.int x3), none, none, none] rfl (fun _ h => h) (Nat.le_of_ble_eq_true rfl) (fun X hl hRm hEe O hQ => ?_)
  subst hl
  subst hEe
  unfold wM_isMeeting at w
  refine g_iload_n O dX8_isMeeting_0 rfl ?_
  refine g_iload_n O dX8_isMeeting_1 rfl ?_
  refine g_icmp_ne (tgt := 19) O w dX8_isMeeting_2 (by decide) (fun w => ?_) (fun w => ?_)
  · exact vM_isMeeting_19 O hRm hM sg  x1 x2 x3 post hQ w
  · refine g_aload_n O dX8_isMeeting_5 rfl ?_
    refine gm_getI (j := 29) O hM.1 rfl (by decide) q1757 dX8_isMeeting_6 ?_
    refine g_iload_n O dX8_isMeeting_9 rfl ?_
    refine g_ishr O dX8_isMeeting_10 ?_
    refine g_iconst (v := 1) O dX8_isMeeting_11 (by decide) ?_
    refine g_iand O dX8_isMeeting_12 ?_
    refine g_iconst (v := 1) O dX8_isMeeting_13 (by decide) ?_
    refine g_icmp_ne (tgt := 19) O w dX8_isMeeting_14 (by decide) (fun w => ?_) (fun w => ?_)
    · exact vM_isMeeting_19 O hRm hM sg  x1 x2 x3 post hQ w
    · refine g_iconst (v := 1) O dX8_isMeeting_17 (by decide) ?_
      exact gm_iret0 O hQ rfl w dX8_isMeeting_18
-- townOn
abbrev rM_townOn : Room := { frames := 1, cells := 0, slots := 0, locals := 12 }
set_option maxHeartbeats 4000000 in
theorem vM_townOn_2 {X : Cx} {z : Nat} {T L : Nat → Nat} {V0 : w_V} {P : w_P} {mb : Nat} (O : Okc X cX8_townOn RX8 4 (some .int)) (hRm : cxR X = rM_townOn) (hM : mOk (cxE X) T L P mb) (sg : MS) (x1 : Int32) (x2 : Int32) (post : Int32 → Prop) (hQ : cxMQ X (va_Qi (fun x (_ : Unit) => post x) (fun (_ : Unit) t => wdW (cxE X) (mW z T L V0 P mb sg) t.heap) (w_A (cxE X))) 0 0) (ke_27 : Int32 → Prop) (hke_27 : ∀ (y3 : Int32), ke_27 y3 → gW X 0 0 z T L (up1 V0 mb sg) P 27 [some (.ref mb), some (.int x1), none, some (.int y3)] [])  : ∀ (n : Nat) (x3 : Int32), lM_townOn_2 sg x1 x2 post ke_27 n x3 → gW X 0 0 z T L (up1 V0 mb sg) P 2 [some (.ref mb), some (.int x1), some (.int x2), some (.int x3)] [] := by
  intro n
  induction n with
  | zero =>
    intro x3 w
    exact w.elim
  | succ n ih =>
    intro x3 w
    unfold lM_townOn_2 at w
    refine g_iload_n O dX8_townOn_2 rfl ?_
    refine g_aload_n O dX8_townOn_3 rfl ?_
    refine gm_getA (j := 8) O hM.1 rfl (by decide) q1736 dX8_townOn_4 ?_
    refine g_iload_n O dX8_townOn_7 rfl ?_
    obtain ⟨i1, hi2, e3, w⟩ := w
    refine gm_ald (j := 8) (len := 10) (nn := i1) O hM.1 rfl hi2 (by decide) e3 dX8_townOn_8 ?_
    refine g_icmp_ge (tgt := 45) O w dX8_townOn_9 (by decide) (fun w => ?_) (fun w => ?_)
    · refine g_iconst (v := (-1)) O dX8_townOn_45 (by decide) ?_
      exact gm_iret0 O hQ rfl w dX8_townOn_46
    · refine g_aload_n O dX8_townOn_12 rfl ?_
      refine gm_getA (j := 38) O hM.1 rfl (by decide) q1766 dX8_townOn_13 ?_
      refine g_bipush (v := 7) O dX8_townOn_16 (by decide) ?_
      refine g_iload_n O dX8_townOn_18 rfl ?_
      refine g_imul O dX8_townOn_19 ?_
      refine g_iload_n O dX8_townOn_20 rfl ?_
      refine g_iadd O dX8_townOn_21 ?_
      obtain ⟨i4, hi5, e6, w⟩ := w
      refine gm_ald (j := 38) (len := 35) (nn := i4) O hM.1 rfl hi5 (by decide) e6 dX8_townOn_22 ?_
      refine g_iload_n O dX8_townOn_23 rfl ?_
      refine g_icmp_ne (tgt := 39) O w dX8_townOn_24 (by decide) (fun w => ?_) (fun w => ?_)
      · refine g_iinc (v := (x3 + 1)) O dX8_townOn_39 rfl rfl rfl (lv' := [some (.ref mb), some (.int x1), some (.int x2), some (.int (x3 + 1))]) rfl ?_
        refine g_goto (tgt := 2) O dX8_townOn_42 (by decide) ?_
        exact ih ((x3 + 1)) w
      · refine g_drop [2] (lv' := [some (.ref mb), some (.int x1), none, some (.int x3)]) rfl ?_
        exact hke_27 (x3) w
set_option maxHeartbeats 4000000 in
theorem cM_townOn (l : Launch) (hfl : l.flags = flags0) (E : w_E) (z : Nat) (T L : Nat → Nat) (V0 : w_V) (P : w_P) (mb : Nat) (hM : mOk E T L P mb) (sg : MS) (x1 : Int32) (x2 : Int32) (post : Int32 → Prop) (w : wM_townOn sg x1 x2 post) : mMi0 l yX8_townOn cX8_townOn 4 (some .int) rM_townOn E z T L V0 P mb [.ref mb, .int x1, .int x2] sg post := by
  refine g_start (S := Unit) hfl (by decide +kernel) rfl [some (.ref mb), some (.int x1), some (.int x2), none] rfl (fun _ h => h) (Nat.le_of_ble_eq_true rfl) (fun X hl hRm hEe O hQ => ?_)
  subst hl
  subst hEe
  unfold wM_townOn at w
  refine g_iconst (v := 0) O dX8_townOn_0 (by decide) ?_
  refine g_istore_n O dX8_townOn_1 (Nat.le_of_ble_eq_true rfl) rfl (lv' := [some (.ref mb), some (.int x1), some (.int x2), some (.int 0)]) rfl ?_
  obtain ⟨n11, w⟩ := w
  refine vM_townOn_2 O hRm hM sg x1 x2 post hQ _ (fun y7 w => ?_) n11 0 w
  refine g_aload_n O dX8_townOn_27 rfl ?_
  refine gm_getA (j := 37) O hM.1 rfl (by decide) q1765 dX8_townOn_28 ?_
  refine g_bipush (v := 7) O dX8_townOn_31 (by decide) ?_
  refine g_iload_n O dX8_townOn_33 rfl ?_
  refine g_imul O dX8_townOn_34 ?_
  refine g_iload_n O dX8_townOn_35 rfl ?_
  refine g_iadd O dX8_townOn_36 ?_
  obtain ⟨i8, hi9, e10, w⟩ := w
  refine gm_ald (j := 37) (len := 35) (nn := i8) O hM.1 rfl hi9 (by decide) e10 dX8_townOn_37 ?_
  exact gm_iret0 O hQ rfl w dX8_townOn_38
-- tellMeetings
abbrev rM_tellMeetings : Room := { frames := 3, cells := 0, slots := 0, locals := 59 }
set_option maxHeartbeats 4000000 in
theorem vM_tellMeetings_111 {X : Cx} {z : Nat} {T L : Nat → Nat} {V0 : w_V} {P : w_P} {mb : Nat} (O : Okc X cX8_tellMeetings RX8 6 none) (hRm : cxR X = rM_tellMeetings) (hM : mOk (cxE X) T L P mb) (sg : MS) (x1 : Int32) (x2 : Int32) (x3 : Int32) (post : MS → Prop) (hQ : cxMQ X (va_Qv post (fun u t => wdW (cxE X) (mW z T L V0 P mb u) t.heap) (w_A (cxE X))) 0 0) (kb : Int32 → MS → Prop) (hkb : ∀ (y3 : Int32) (sg : MS), kb y3 sg → gW X 0 0 z T L (up1 V0 mb sg) P 45 [some (.ref mb), some (.int x1), some (.int x2), some (.int y3), none, none] []) (w : jM_tellMeetings_111 sg x1 x2 x3 post kb) : gW X 0 0 z T L (up1 V0 mb sg) P 111 [some (.ref mb), some (.int x1), some (.int x2), some (.int x3), none, none] [] := by
  unfold jM_tellMeetings_111 at w
  refine g_iinc (v := (x3 + (-1))) O dX8_tellMeetings_111 rfl rfl rfl (lv' := [some (.ref mb), some (.int x1), some (.int x2), some (.int (x3 + (-1))), none, none]) rfl ?_
  refine g_goto (tgt := 45) O dX8_tellMeetings_114 (by decide) ?_
  exact hkb ((x3 + (-1))) (sg) w
set_option maxHeartbeats 4000000 in
theorem vM_tellMeetings_45 {X : Cx} {z : Nat} {T L : Nat → Nat} {V0 : w_V} {P : w_P} {mb : Nat} (O : Okc X cX8_tellMeetings RX8 6 none) (hRm : cxR X = rM_tellMeetings) (hM : mOk (cxE X) T L P mb) (x1 : Int32) (x2 : Int32) (post : MS → Prop) (hQ : cxMQ X (va_Qv post (fun u t => wdW (cxE X) (mW z T L V0 P mb u) t.heap) (w_A (cxE X))) 0 0) (ke_117 : MS → Prop) (hke_117 : ∀ (sg : MS), ke_117 sg → gW X 0 0 z T L (up1 V0 mb sg) P 117 [some (.ref mb), some (.int x1), some (.int x2), none, none, none] [])  : ∀ (n : Nat) (x3 : Int32) (sg : MS), lM_tellMeetings_45 x1 x2 post ke_117 n x3 sg → gW X 0 0 z T L (up1 V0 mb sg) P 45 [some (.ref mb), some (.int x1), some (.int x2), some (.int x3), none, none] [] := by
  intro n
  induction n with
  | zero =>
    intro x3 sg w
    exact w.elim
  | succ n ih =>
    intro x3 sg w
    unfold lM_tellMeetings_45 at w
    refine g_iload_n O dX8_tellMeetings_45 rfl ?_
    refine g_if_lt (tgt := 117) O w dX8_tellMeetings_46 (by decide) (fun w => ?_) (fun w => ?_)
    · refine g_drop [3] (lv' := [some (.ref mb), some (.int x1), some (.int x2), none, none, none]) rfl ?_
      exact hke_117  (sg) w
    · refine g_aload_n O dX8_tellMeetings_49 rfl ?_
      refine gm_getA (j := 38) O hM.1 rfl (by decide) q1766 dX8_tellMeetings_50 ?_
      refine g_bipush (v := 7) O dX8_tellMeetings_53 (by decide) ?_
      refine g_iload_n O dX8_tellMeetings_55 rfl ?_
      refine g_imul O dX8_tellMeetings_56 ?_
      refine g_iload_n O dX8_tellMeetings_57 rfl ?_
      refine g_iadd O dX8_tellMeetings_58 ?_
      obtain ⟨i7, hi8, e9, w⟩ := w
      refine gm_ald (j := 38) (len := 35) (nn := i7) O hM.1 rfl hi8 (by decide) e9 dX8_tellMeetings_59 ?_
      refine g_istore O dX8_tellMeetings_60 (Nat.le_of_ble_eq_true rfl) rfl (lv' := [some (.ref mb), some (.int x1), some (.int x2), some (.int x3), some (.int (sg 39 i7)), none]) rfl ?_
      refine g_aload_n O dX8_tellMeetings_62 rfl ?_
      refine g_iload_n O dX8_tellMeetings_63 rfl ?_
      refine g_iload O dX8_tellMeetings_64 rfl ?_
      refine gm_Vi0 (nA := 2) (As := [.int x2, .int (sg 39 i7)]) (rest := []) O hRm hM.1 (cM_townOn _ O.2.2.2.2.2.2.2.2 _ _ _ _ _ _ _ hM sg (x2) ((sg 39 i7)) _ w) (lw_V q2089 q2091 qs80 q134 q2092) rfl rfl (by decide +kernel) ⟨Nat.le_of_ble_eq_true rfl, Nat.le_of_ble_eq_true rfl⟩ rfl rfl rfl (Nat.le_of_ble_eq_true rfl) dX8_tellMeetings_66 (fun r10 w => ?_)
      refine g_istore O dX8_tellMeetings_69 (Nat.le_of_ble_eq_true rfl) rfl (lv' := [some (.ref mb), some (.int x1), some (.int x2), some (.int x3), some (.int (sg 39 i7)), some (.int r10)]) rfl ?_
      refine g_iload O dX8_tellMeetings_71 rfl ?_
      refine g_iconst (v := (-1)) O dX8_tellMeetings_73 (by decide) ?_
      refine g_icmp_eq (tgt := 111) O w dX8_tellMeetings_74 (by decide) (fun w => ?_) (fun w => ?_)
      · refine g_drop [4, 5] (lv' := [some (.ref mb), some (.int x1), some (.int x2), some (.int x3), none, none]) rfl ?_
        exact vM_tellMeetings_111 O hRm hM sg  x1 x2 x3 post hQ (lM_tellMeetings_45 x1 x2 post ke_117 n) ih w
      · refine g_aload_n O dX8_tellMeetings_77 rfl ?_
        refine g_aload_n O dX8_tellMeetings_78 rfl ?_
        refine gm_getA (j := 37) O hM.1 rfl (by decide) q1765 dX8_tellMeetings_79 ?_
        refine g_bipush (v := 7) O dX8_tellMeetings_82 (by decide) ?_
        refine g_iload_n O dX8_tellMeetings_84 rfl ?_
        refine g_imul O dX8_tellMeetings_85 ?_
        refine g_iload_n O dX8_tellMeetings_86 rfl ?_
        refine g_iadd O dX8_tellMeetings_87 ?_
        obtain ⟨i12, hi13, e14, w⟩ := w
        refine gm_ald (j := 37) (len := 35) (nn := i12) O hM.1 rfl hi13 (by decide) e14 dX8_tellMeetings_88 ?_
        refine g_iload O dX8_tellMeetings_89 rfl ?_
        refine g_iload O dX8_tellMeetings_91 rfl ?_
        refine gm_Vi0 (nA := 3) (As := [.int (sg 38 i12), .int r10, .int (sg 39 i7)]) (rest := []) O hRm hM.1 (cM_isMeeting _ O.2.2.2.2.2.2.2.2 _ _ _ _ _ _ _ hM sg ((sg 38 i12)) (r10) ((sg 39 i7)) _ w) (lw_V q2093 q2095 qs81 q134 q2096) rfl rfl (by decide +kernel) ⟨Nat.le_of_ble_eq_true rfl, Nat.le_of_ble_eq_true rfl⟩ rfl rfl rfl (Nat.le_of_ble_eq_true rfl) dX8_tellMeetings_93 (fun r15 w => ?_)
        refine g_if_eq (tgt := 111) O w dX8_tellMeetings_96 (by decide) (fun w => ?_) (fun w => ?_)
        · refine g_drop [4, 5] (lv' := [some (.ref mb), some (.int x1), some (.int x2), some (.int x3), none, none]) rfl ?_
          exact vM_tellMeetings_111 O hRm hM sg  x1 x2 x3 post hQ (lM_tellMeetings_45 x1 x2 post ke_117 n) ih w
        · refine g_aload_n O dX8_tellMeetings_99 rfl ?_
          refine gm_getA (j := 39) O hM.1 rfl (by decide) q1767 dX8_tellMeetings_100 ?_
          refine g_iconst (v := 5) O dX8_tellMeetings_103 (by decide) ?_
          refine g_iload_n O dX8_tellMeetings_104 rfl ?_
          refine g_imul O dX8_tellMeetings_105 ?_
          refine g_iload_n O dX8_tellMeetings_106 rfl ?_
          refine g_iadd O dX8_tellMeetings_107 ?_
          refine g_iload O dX8_tellMeetings_108 rfl ?_
          obtain ⟨i17, hi18, e19, w⟩ := w
          refine gm_ast (j := 39) (len := 25) (nn := i17) O hM.1 rfl hi18 (by decide) e19 dX8_tellMeetings_110 ?_
          refine g_drop [4, 5] (lv' := [some (.ref mb), some (.int x1), some (.int x2), some (.int x3), none, none]) rfl ?_
          exact vM_tellMeetings_111 O hRm hM (s2 sg 40 i17 (sg 39 i7))  x1 x2 x3 post hQ (lM_tellMeetings_45 x1 x2 post ke_117 n) ih w
set_option maxHeartbeats 4000000 in
theorem vM_tellMeetings_14 {X : Cx} {z : Nat} {T L : Nat → Nat} {V0 : w_V} {P : w_P} {mb : Nat} (O : Okc X cX8_tellMeetings RX8 6 none) (hRm : cxR X = rM_tellMeetings) (hM : mOk (cxE X) T L P mb) (x1 : Int32) (post : MS → Prop) (hQ : cxMQ X (va_Qv post (fun u t => wdW (cxE X) (mW z T L V0 P mb u) t.heap) (w_A (cxE X))) 0 0) (ke_123 : MS → Prop) (hke_123 : ∀ (sg : MS), ke_123 sg → gW X 0 0 z T L (up1 V0 mb sg) P 123 [some (.ref mb), some (.int x1), none, none, none, none] [])  : ∀ (n : Nat) (x2 : Int32) (sg : MS), lM_tellMeetings_14 x1 post ke_123 n x2 sg → gW X 0 0 z T L (up1 V0 mb sg) P 14 [some (.ref mb), some (.int x1), some (.int x2), none, none, none] [] := by
  intro n
  induction n with
  | zero =>
    intro x2 sg w
    exact w.elim
  | succ n ih =>
    intro x2 sg w
    unfold lM_tellMeetings_14 at w
    refine g_iload_n O dX8_tellMeetings_14 rfl ?_
    refine g_aload_n O dX8_tellMeetings_15 rfl ?_
    refine gm_getA (j := 3) O hM.1 rfl (by decide) q1731 dX8_tellMeetings_16 ?_
    refine g_iconst (v := 4) O dX8_tellMeetings_19 (by decide) ?_
    refine gm_ald (j := 3) (len := 14) (nn := 4) O hM.1 rfl (by decide) (by decide) rfl dX8_tellMeetings_20 ?_
    refine g_icmp_ge (tgt := 123) O w dX8_tellMeetings_21 (by decide) (fun w => ?_) (fun w => ?_)
    · refine g_drop [2] (lv' := [some (.ref mb), some (.int x1), none, none, none, none]) rfl ?_
      exact hke_123  (sg) w
    · refine g_aload_n O dX8_tellMeetings_24 rfl ?_
      refine gm_getA (j := 39) O hM.1 rfl (by decide) q1767 dX8_tellMeetings_25 ?_
      refine g_iconst (v := 5) O dX8_tellMeetings_28 (by decide) ?_
      refine g_iload_n O dX8_tellMeetings_29 rfl ?_
      refine g_imul O dX8_tellMeetings_30 ?_
      refine g_iload_n O dX8_tellMeetings_31 rfl ?_
      refine g_iadd O dX8_tellMeetings_32 ?_
      refine g_ldc O q1948 dX8_tellMeetings_33 ?_
      obtain ⟨i1, hi2, e3, w⟩ := w
      refine gm_ast (j := 39) (len := 25) (nn := i1) O hM.1 rfl hi2 (by decide) e3 dX8_tellMeetings_35 ?_
      refine g_aload_n O dX8_tellMeetings_36 rfl ?_
      refine gm_getA (j := 8) O hM.1 rfl (by decide) q1736 dX8_tellMeetings_37 ?_
      refine g_iload_n O dX8_tellMeetings_40 rfl ?_
      obtain ⟨i4, hi5, e6, w⟩ := w
      refine gm_ald (j := 8) (len := 10) (nn := i4) O hM.1 rfl hi5 (by decide) e6 dX8_tellMeetings_41 ?_
      refine g_iconst (v := 1) O dX8_tellMeetings_42 (by decide) ?_
      refine g_isub O dX8_tellMeetings_43 ?_
      refine g_istore_n O dX8_tellMeetings_44 (Nat.le_of_ble_eq_true rfl) rfl (lv' := [some (.ref mb), some (.int x1), some (.int x2), some (.int (((s2 sg 40 i1 100000) 9 i4) - 1)), none, none]) rfl ?_
      obtain ⟨n21, w⟩ := w
      refine vM_tellMeetings_45 O hRm hM x1 x2 post hQ _ (fun g20 w => ?_) n21 (((s2 sg 40 i1 100000) 9 i4) - 1) (s2 sg 40 i1 100000) w
      refine g_iinc (v := (x2 + 1)) O dX8_tellMeetings_117 rfl rfl rfl (lv' := [some (.ref mb), some (.int x1), some (.int (x2 + 1)), none, none, none]) rfl ?_
      refine g_goto (tgt := 14) O dX8_tellMeetings_120 (by decide) ?_
      exact ih ((x2 + 1)) (g20) w
set_option maxHeartbeats 4000000 in
theorem vM_tellMeetings_2 {X : Cx} {z : Nat} {T L : Nat → Nat} {V0 : w_V} {P : w_P} {mb : Nat} (O : Okc X cX8_tellMeetings RX8 6 none) (hRm : cxR X = rM_tellMeetings) (hM : mOk (cxE X) T L P mb) (post : MS → Prop) (hQ : cxMQ X (va_Qv post (fun u t => wdW (cxE X) (mW z T L V0 P mb u) t.heap) (w_A (cxE X))) 0 0)  : ∀ (n : Nat) (x1 : Int32) (sg : MS), lM_tellMeetings_2 post n x1 sg → gW X 0 0 z T L (up1 V0 mb sg) P 2 [some (.ref mb), some (.int x1), none, none, none, none] [] := by
  intro n
  induction n with
  | zero =>
    intro x1 sg w
    exact w.elim
  | succ n ih =>
    intro x1 sg w
    unfold lM_tellMeetings_2 at w
    refine g_iload_n O dX8_tellMeetings_2 rfl ?_
    refine g_aload_n O dX8_tellMeetings_3 rfl ?_
    refine gm_getA (j := 3) O hM.1 rfl (by decide) q1731 dX8_tellMeetings_4 ?_
    refine g_iconst (v := 4) O dX8_tellMeetings_7 (by decide) ?_
    refine gm_ald (j := 3) (len := 14) (nn := 4) O hM.1 rfl (by decide) (by decide) rfl dX8_tellMeetings_8 ?_
    refine g_icmp_ge (tgt := 129) O w dX8_tellMeetings_9 (by decide) (fun w => ?_) (fun w => ?_)
    · exact gm_vret O hQ w dX8_tellMeetings_129
    · refine g_iconst (v := 0) O dX8_tellMeetings_12 (by decide) ?_
      refine g_istore_n O dX8_tellMeetings_13 (Nat.le_of_ble_eq_true rfl) rfl (lv' := [some (.ref mb), some (.int x1), some (.int 0), none, none, none]) rfl ?_
      obtain ⟨n23, w⟩ := w
      refine vM_tellMeetings_14 O hRm hM x1 post hQ _ (fun g22 w => ?_) n23 0 sg w
      refine g_iinc (v := (x1 + 1)) O dX8_tellMeetings_123 rfl rfl rfl (lv' := [some (.ref mb), some (.int (x1 + 1)), none, none, none, none]) rfl ?_
      refine g_goto (tgt := 2) O dX8_tellMeetings_126 (by decide) ?_
      exact ih ((x1 + 1)) (g22) w
set_option maxHeartbeats 4000000 in
theorem cM_tellMeetings (l : Launch) (hfl : l.flags = flags0) (E : w_E) (z : Nat) (T L : Nat → Nat) (V0 : w_V) (P : w_P) (mb : Nat) (hM : mOk E T L P mb) (sg : MS) (post : MS → Prop) (w : wM_tellMeetings sg post) : mMv l yX8_tellMeetings cX8_tellMeetings 6 none rM_tellMeetings E z T L V0 P mb [.ref mb] sg post := by
  refine g_start (S := Unit) hfl (by decide +kernel) rfl [some (.ref mb), none, none, none, none, none] rfl (fun _ h => h) (Nat.le_of_ble_eq_true rfl) (fun X hl hRm hEe O hQ => ?_)
  subst hl
  subst hEe
  unfold wM_tellMeetings at w
  refine g_iconst (v := 0) O dX8_tellMeetings_0 (by decide) ?_
  refine g_istore_n O dX8_tellMeetings_1 (Nat.le_of_ble_eq_true rfl) rfl (lv' := [some (.ref mb), some (.int 0), none, none, none, none]) rfl ?_
  obtain ⟨n24, w⟩ := w
  exact vM_tellMeetings_2 O hRm hM post hQ n24 0 sg w
-- tellStops
abbrev rM_tellStops : Room := { frames := 2, cells := 0, slots := 0, locals := 33 }
set_option maxHeartbeats 4000000 in
theorem vM_tellStops_95 {X : Cx} {z : Nat} {T L : Nat → Nat} {V0 : w_V} {P : w_P} {mb : Nat} (O : Okc X cX8_tellStops RX8 5 none) (hRm : cxR X = rM_tellStops) (hM : mOk (cxE X) T L P mb) (sg : MS) (x1 : Int32) (x2 : Int32) (x3 : Int32) (x4 : Int32) (post : MS → Prop) (hQ : cxMQ X (va_Qv post (fun u t => wdW (cxE X) (mW z T L V0 P mb u) t.heap) (w_A (cxE X))) 0 0) (kb : Int32 → Int32 → MS → Prop) (hkb : ∀ (y2 : Int32) (y3 : Int32) (sg : MS), kb y2 y3 sg → gW X 0 0 z T L (up1 V0 mb sg) P 21 [some (.ref mb), some (.int x1), some (.int y2), some (.int y3), none] []) (w : jM_tellStops_95 sg x1 x2 x3 x4 post kb) : gW X 0 0 z T L (up1 V0 mb sg) P 95 [some (.ref mb), some (.int x1), some (.int x2), some (.int x3), some (.int x4)] [] := by
  unfold jM_tellStops_95 at w
  refine g_aload_n O dX8_tellStops_95 rfl ?_
  refine gm_getA (j := 37) O hM.1 rfl (by decide) q1765 dX8_tellStops_96 ?_
  refine g_bipush (v := 7) O dX8_tellStops_99 (by decide) ?_
  refine g_iload_n O dX8_tellStops_101 rfl ?_
  refine g_imul O dX8_tellStops_102 ?_
  refine g_iload_n O dX8_tellStops_103 rfl ?_
  refine g_iadd O dX8_tellStops_104 ?_
  refine g_iload O dX8_tellStops_105 rfl ?_
  obtain ⟨i10, hi11, e12, w⟩ := w
  refine gm_ast (j := 37) (len := 35) (nn := i10) O hM.1 rfl hi11 (by decide) e12 dX8_tellStops_107 ?_
  refine g_aload_n O dX8_tellStops_108 rfl ?_
  refine gm_getA (j := 38) O hM.1 rfl (by decide) q1766 dX8_tellStops_109 ?_
  refine g_bipush (v := 7) O dX8_tellStops_112 (by decide) ?_
  refine g_iload_n O dX8_tellStops_114 rfl ?_
  refine g_imul O dX8_tellStops_115 ?_
  refine g_iload_n O dX8_tellStops_116 rfl ?_
  refine g_iadd O dX8_tellStops_117 ?_
  refine g_iload_n O dX8_tellStops_118 rfl ?_
  obtain ⟨i13, hi14, e15, w⟩ := w
  refine gm_ast (j := 38) (len := 35) (nn := i13) O hM.1 rfl hi14 (by decide) e15 dX8_tellStops_119 ?_
  refine g_iinc (v := (x3 + 1)) O dX8_tellStops_120 rfl rfl rfl (lv' := [some (.ref mb), some (.int x1), some (.int x2), some (.int (x3 + 1)), some (.int x4)]) rfl ?_
  refine g_goto (tgt := 21) O dX8_tellStops_123 (by decide) ?_
  refine g_drop [4] (lv' := [some (.ref mb), some (.int x1), some (.int x2), some (.int (x3 + 1)), none]) rfl ?_
  exact hkb (x2) ((x3 + 1)) ((s2 (s2 sg 38 i10 x4) 39 i13 x2)) w
set_option maxHeartbeats 4000000 in
theorem vM_tellStops_61 {X : Cx} {z : Nat} {T L : Nat → Nat} {V0 : w_V} {P : w_P} {mb : Nat} (O : Okc X cX8_tellStops RX8 5 none) (hRm : cxR X = rM_tellStops) (hM : mOk (cxE X) T L P mb) (sg : MS) (x1 : Int32) (x2 : Int32) (x3 : Int32) (t0 : Int32) (t1 : Int32) (post : MS → Prop) (hQ : cxMQ X (va_Qv post (fun u t => wdW (cxE X) (mW z T L V0 P mb u) t.heap) (w_A (cxE X))) 0 0) (kb : Int32 → Int32 → MS → Prop) (hkb : ∀ (y2 : Int32) (y3 : Int32) (sg : MS), kb y2 y3 sg → gW X 0 0 z T L (up1 V0 mb sg) P 21 [some (.ref mb), some (.int x1), some (.int y2), some (.int y3), none] []) (w : jM_tellStops_61 sg x1 x2 x3 t0 t1 post kb) : gW X 0 0 z T L (up1 V0 mb sg) P 61 [some (.ref mb), some (.int x1), some (.int x2), some (.int x3), none] [.int t0, .int t1, .ref (mb + 9)] := by
  unfold jM_tellStops_61 at w
  refine g_iadd O dX8_tellStops_61 ?_
  obtain ⟨i7, hi8, e9, w⟩ := w
  refine gm_ald (j := 9) (len := 70) (nn := i7) O hM.1 rfl hi8 (by decide) e9 dX8_tellStops_62 ?_
  refine g_istore O dX8_tellStops_63 (Nat.le_of_ble_eq_true rfl) rfl (lv' := [some (.ref mb), some (.int x1), some (.int x2), some (.int x3), some (.int (sg 10 i7))]) rfl ?_
  refine g_iload_n O dX8_tellStops_65 rfl ?_
  refine g_if_le (tgt := 95) O w dX8_tellStops_66 (by decide) (fun w => ?_) (fun w => ?_)
  · exact vM_tellStops_95 O hRm hM sg  x1 x2 x3 (sg 10 i7) post hQ kb hkb w
  · refine g_iload_n O dX8_tellStops_69 rfl ?_
    refine g_aload_n O dX8_tellStops_70 rfl ?_
    refine gm_getA (j := 4) O hM.1 rfl (by decide) q1732 dX8_tellStops_71 ?_
    refine g_aload_n O dX8_tellStops_74 rfl ?_
    refine gm_getA (j := 37) O hM.1 rfl (by decide) q1765 dX8_tellStops_75 ?_
    refine g_bipush (v := 7) O dX8_tellStops_78 (by decide) ?_
    refine g_iload_n O dX8_tellStops_80 rfl ?_
    refine g_imul O dX8_tellStops_81 ?_
    refine g_iload_n O dX8_tellStops_82 rfl ?_
    refine g_iadd O dX8_tellStops_83 ?_
    refine g_iconst (v := 1) O dX8_tellStops_84 (by decide) ?_
    refine g_isub O dX8_tellStops_85 ?_
    obtain ⟨i16, hi17, e18, w⟩ := w
    refine gm_ald (j := 37) (len := 35) (nn := i16) O hM.1 rfl hi17 (by decide) e18 dX8_tellStops_86 ?_
    refine g_iload O dX8_tellStops_87 rfl ?_
    refine gm_Si0 (nA := 2) (As := [.int (sg 38 i16), .int (sg 10 i7)]) (rest := [.ref (mb + 4), .int x2]) O hRm (cM_couple _ O.2.2.2.2.2.2.2.2 _ _ _ _ _ _ _ hM sg ((sg 38 i16)) ((sg 10 i7)) _ w) (lw_S q2032 q2033 q134 q2034) rfl rfl (by decide +kernel) ⟨Nat.le_of_ble_eq_true rfl, Nat.le_of_ble_eq_true rfl⟩ rfl rfl rfl (Nat.le_of_ble_eq_true rfl) dX8_tellStops_89 (fun r19 w => ?_)
    obtain ⟨i21, hi22, e23, w⟩ := w
    refine gm_ald (j := 4) (len := 162) (nn := i21) O hM.1 rfl hi22 (by decide) e23 dX8_tellStops_92 ?_
    refine g_iadd O dX8_tellStops_93 ?_
    refine g_istore_n O dX8_tellStops_94 (Nat.le_of_ble_eq_true rfl) rfl (lv' := [some (.ref mb), some (.int x1), some (.int (x2 + (sg 5 i21))), some (.int x3), some (.int (sg 10 i7))]) rfl ?_
    exact vM_tellStops_95 O hRm hM sg  x1 (x2 + (sg 5 i21)) x3 (sg 10 i7) post hQ kb hkb w
set_option maxHeartbeats 4000000 in
theorem vM_tellStops_21 {X : Cx} {z : Nat} {T L : Nat → Nat} {V0 : w_V} {P : w_P} {mb : Nat} (O : Okc X cX8_tellStops RX8 5 none) (hRm : cxR X = rM_tellStops) (hM : mOk (cxE X) T L P mb) (x1 : Int32) (post : MS → Prop) (hQ : cxMQ X (va_Qv post (fun u t => wdW (cxE X) (mW z T L V0 P mb u) t.heap) (w_A (cxE X))) 0 0) (ke_126 : MS → Prop) (hke_126 : ∀ (sg : MS), ke_126 sg → gW X 0 0 z T L (up1 V0 mb sg) P 126 [some (.ref mb), some (.int x1), none, none, none] [])  : ∀ (n : Nat) (x2 : Int32) (x3 : Int32) (sg : MS), lM_tellStops_21 x1 post ke_126 n x2 x3 sg → gW X 0 0 z T L (up1 V0 mb sg) P 21 [some (.ref mb), some (.int x1), some (.int x2), some (.int x3), none] [] := by
  intro n
  induction n with
  | zero =>
    intro x2 x3 sg w
    exact w.elim
  | succ n ih =>
    intro x2 x3 sg w
    unfold lM_tellStops_21 at w
    refine g_iload_n O dX8_tellStops_21 rfl ?_
    refine g_aload_n O dX8_tellStops_22 rfl ?_
    refine gm_getA (j := 8) O hM.1 rfl (by decide) q1736 dX8_tellStops_23 ?_
    refine g_iload_n O dX8_tellStops_26 rfl ?_
    obtain ⟨i4, hi5, e6, w⟩ := w
    refine gm_ald (j := 8) (len := 10) (nn := i4) O hM.1 rfl hi5 (by decide) e6 dX8_tellStops_27 ?_
    refine g_icmp_ge (tgt := 126) O w dX8_tellStops_28 (by decide) (fun w => ?_) (fun w => ?_)
    · refine g_drop [2, 3] (lv' := [some (.ref mb), some (.int x1), none, none, none]) rfl ?_
      exact hke_126  (sg) w
    · refine g_aload_n O dX8_tellStops_31 rfl ?_
      refine gm_getA (j := 9) O hM.1 rfl (by decide) q1737 dX8_tellStops_32 ?_
      refine g_bipush (v := 7) O dX8_tellStops_35 (by decide) ?_
      refine g_iload_n O dX8_tellStops_37 rfl ?_
      refine g_imul O dX8_tellStops_38 ?_
      refine g_iload_n O dX8_tellStops_39 rfl ?_
      refine g_aload_n O dX8_tellStops_40 rfl ?_
      refine gm_getI (j := 40) O hM.1 rfl (by decide) q1768 dX8_tellStops_41 ?_
      refine g_icmp_ne (tgt := 60) O w dX8_tellStops_44 (by decide) (fun w => ?_) (fun w => ?_)
      · refine g_iload_n O dX8_tellStops_60 rfl ?_
        exact vM_tellStops_61 O hRm hM sg  x1 x2 x3 x3 (7 * x1) post hQ (lM_tellStops_21 x1 post ke_126 n) ih w
      · refine g_aload_n O dX8_tellStops_47 rfl ?_
        refine gm_getA (j := 8) O hM.1 rfl (by decide) q1736 dX8_tellStops_48 ?_
        refine g_iload_n O dX8_tellStops_51 rfl ?_
        obtain ⟨i24, hi25, e26, w⟩ := w
        refine gm_ald (j := 8) (len := 10) (nn := i24) O hM.1 rfl hi25 (by decide) e26 dX8_tellStops_52 ?_
        refine g_iconst (v := 1) O dX8_tellStops_53 (by decide) ?_
        refine g_isub O dX8_tellStops_54 ?_
        refine g_iload_n O dX8_tellStops_55 rfl ?_
        refine g_isub O dX8_tellStops_56 ?_
        refine g_goto (tgt := 61) O dX8_tellStops_57 (by decide) ?_
        exact vM_tellStops_61 O hRm hM sg  x1 x2 x3 (((sg 9 i24) - 1) - x3) (7 * x1) post hQ (lM_tellStops_21 x1 post ke_126 n) ih w
set_option maxHeartbeats 4000000 in
theorem vM_tellStops_2 {X : Cx} {z : Nat} {T L : Nat → Nat} {V0 : w_V} {P : w_P} {mb : Nat} (O : Okc X cX8_tellStops RX8 5 none) (hRm : cxR X = rM_tellStops) (hM : mOk (cxE X) T L P mb) (post : MS → Prop) (hQ : cxMQ X (va_Qv post (fun u t => wdW (cxE X) (mW z T L V0 P mb u) t.heap) (w_A (cxE X))) 0 0)  : ∀ (n : Nat) (x1 : Int32) (sg : MS), lM_tellStops_2 post n x1 sg → gW X 0 0 z T L (up1 V0 mb sg) P 2 [some (.ref mb), some (.int x1), none, none, none] [] := by
  intro n
  induction n with
  | zero =>
    intro x1 sg w
    exact w.elim
  | succ n ih =>
    intro x1 sg w
    unfold lM_tellStops_2 at w
    refine g_iload_n O dX8_tellStops_2 rfl ?_
    refine g_aload_n O dX8_tellStops_3 rfl ?_
    refine gm_getA (j := 3) O hM.1 rfl (by decide) q1731 dX8_tellStops_4 ?_
    refine g_iconst (v := 4) O dX8_tellStops_7 (by decide) ?_
    refine gm_ald (j := 3) (len := 14) (nn := 4) O hM.1 rfl (by decide) (by decide) rfl dX8_tellStops_8 ?_
    refine g_icmp_ge (tgt := 132) O w dX8_tellStops_9 (by decide) (fun w => ?_) (fun w => ?_)
    · exact gm_vret O hQ w dX8_tellStops_132
    · refine g_aload_n O dX8_tellStops_12 rfl ?_
      refine gm_getA (j := 6) O hM.1 rfl (by decide) q1734 dX8_tellStops_13 ?_
      refine g_iload_n O dX8_tellStops_16 rfl ?_
      obtain ⟨i1, hi2, e3, w⟩ := w
      refine gm_ald (j := 6) (len := 10) (nn := i1) O hM.1 rfl hi2 (by decide) e3 dX8_tellStops_17 ?_
      refine g_istore_n O dX8_tellStops_18 (Nat.le_of_ble_eq_true rfl) rfl (lv' := [some (.ref mb), some (.int x1), some (.int (sg 7 i1)), none, none]) rfl ?_
      refine g_iconst (v := 0) O dX8_tellStops_19 (by decide) ?_
      refine g_istore_n O dX8_tellStops_20 (Nat.le_of_ble_eq_true rfl) rfl (lv' := [some (.ref mb), some (.int x1), some (.int (sg 7 i1)), some (.int 0), none]) rfl ?_
      obtain ⟨n28, w⟩ := w
      refine vM_tellStops_21 O hRm hM x1 post hQ _ (fun g27 w => ?_) n28 (sg 7 i1) 0 sg w
      refine g_iinc (v := (x1 + 1)) O dX8_tellStops_126 rfl rfl rfl (lv' := [some (.ref mb), some (.int (x1 + 1)), none, none, none]) rfl ?_
      refine g_goto (tgt := 2) O dX8_tellStops_129 (by decide) ?_
      exact ih ((x1 + 1)) (g27) w
set_option maxHeartbeats 4000000 in
theorem cM_tellStops (l : Launch) (hfl : l.flags = flags0) (E : w_E) (z : Nat) (T L : Nat → Nat) (V0 : w_V) (P : w_P) (mb : Nat) (hM : mOk E T L P mb) (sg : MS) (post : MS → Prop) (w : wM_tellStops sg post) : mMv l yX8_tellStops cX8_tellStops 5 none rM_tellStops E z T L V0 P mb [.ref mb] sg post := by
  refine g_start (S := Unit) hfl (by decide +kernel) rfl [some (.ref mb), none, none, none, none] rfl (fun _ h => h) (Nat.le_of_ble_eq_true rfl) (fun X hl hRm hEe O hQ => ?_)
  subst hl
  subst hEe
  unfold wM_tellStops at w
  refine g_iconst (v := 0) O dX8_tellStops_0 (by decide) ?_
  refine g_istore_n O dX8_tellStops_1 (Nat.le_of_ble_eq_true rfl) rfl (lv' := [some (.ref mb), some (.int 0), none, none, none]) rfl ?_
  obtain ⟨n29, w⟩ := w
  exact vM_tellStops_2 O hRm hM post hQ n29 0 sg w
-- tell
abbrev rM_tell : Room := { frames := 7, cells := 0, slots := 0, locals := 154 }
set_option maxHeartbeats 4000000 in
theorem vM_tell_10 {X : Cx} {z : Nat} {T L : Nat → Nat} {V0 : w_V} {P : w_P} {mb : Nat} (O : Okc X cX8_tell RX8 4 (some .int)) (hRm : cxR X = rM_tell) (hM : mOk (cxE X) T L P mb) (post : Int32 → MS → Prop) (hQ : cxMQ X (va_Qi post (fun u t => wdW (cxE X) (mW z T L V0 P mb u) t.heap) (w_A (cxE X))) 0 0) (ke_29 : MS → Prop) (hke_29 : ∀ (sg : MS), ke_29 sg → gW X 0 0 z T L (up1 V0 mb sg) P 29 [some (.ref mb), none, none, none] [])  : ∀ (n : Nat) (x1 : Int32) (sg : MS), lM_tell_10 post ke_29 n x1 sg → gW X 0 0 z T L (up1 V0 mb sg) P 10 [some (.ref mb), some (.int x1), none, none] [] := by
  intro n
  induction n with
  | zero =>
    intro x1 sg w
    exact w.elim
  | succ n ih =>
    intro x1 sg w
    unfold lM_tell_10 at w
    refine g_iload_n O dX8_tell_10 rfl ?_
    refine g_bipush (v := 30) O dX8_tell_11 (by decide) ?_
    refine g_icmp_ge (tgt := 29) O w dX8_tell_13 (by decide) (fun w => ?_) (fun w => ?_)
    · refine g_drop [1] (lv' := [some (.ref mb), none, none, none]) rfl ?_
      exact hke_29  (sg) w
    · refine g_aload_n O dX8_tell_16 rfl ?_
      refine gm_getA (j := 44) O hM.1 rfl (by decide) q1772 dX8_tell_17 ?_
      refine g_iload_n O dX8_tell_20 rfl ?_
      refine g_iconst (v := (-1)) O dX8_tell_21 (by decide) ?_
      obtain ⟨i5, hi6, e7, w⟩ := w
      refine gm_ast (j := 44) (len := 30) (nn := i5) O hM.1 rfl hi6 (by decide) e7 dX8_tell_22 ?_
      refine g_iinc (v := (x1 + 1)) O dX8_tell_23 rfl rfl rfl (lv' := [some (.ref mb), some (.int (x1 + 1)), none, none]) rfl ?_
      refine g_goto (tgt := 10) O dX8_tell_26 (by decide) ?_
      exact ih ((x1 + 1)) ((s2 sg 45 i5 (-1))) w
set_option maxHeartbeats 4000000 in
theorem vM_tell_68 {X : Cx} {z : Nat} {T L : Nat → Nat} {V0 : w_V} {P : w_P} {mb : Nat} (O : Okc X cX8_tell RX8 4 (some .int)) (hRm : cxR X = rM_tell) (hM : mOk (cxE X) T L P mb) (sg : MS) (x1 : Int32) (x2 : Int32) (post : Int32 → MS → Prop) (hQ : cxMQ X (va_Qi post (fun u t => wdW (cxE X) (mW z T L V0 P mb u) t.heap) (w_A (cxE X))) 0 0) (kb : Int32 → MS → Prop) (hkb : ∀ (y2 : Int32) (sg : MS), kb y2 sg → gW X 0 0 z T L (up1 V0 mb sg) P 39 [some (.ref mb), some (.int x1), some (.int y2), none] []) (w : jM_tell_68 sg x1 x2 post kb) : gW X 0 0 z T L (up1 V0 mb sg) P 68 [some (.ref mb), some (.int x1), some (.int x2), none] [] := by
  unfold jM_tell_68 at w
  refine g_iinc (v := (x2 + 1)) O dX8_tell_68 rfl rfl rfl (lv' := [some (.ref mb), some (.int x1), some (.int (x2 + 1)), none]) rfl ?_
  refine g_goto (tgt := 39) O dX8_tell_71 (by decide) ?_
  exact hkb ((x2 + 1)) (sg) w
set_option maxHeartbeats 4000000 in
theorem vM_tell_39 {X : Cx} {z : Nat} {T L : Nat → Nat} {V0 : w_V} {P : w_P} {mb : Nat} (O : Okc X cX8_tell RX8 4 (some .int)) (hRm : cxR X = rM_tell) (hM : mOk (cxE X) T L P mb) (x1 : Int32) (post : Int32 → MS → Prop) (hQ : cxMQ X (va_Qi post (fun u t => wdW (cxE X) (mW z T L V0 P mb u) t.heap) (w_A (cxE X))) 0 0) (ke_74 : MS → Prop) (hke_74 : ∀ (sg : MS), ke_74 sg → gW X 0 0 z T L (up1 V0 mb sg) P 74 [some (.ref mb), some (.int x1), none, none] [])  : ∀ (n : Nat) (x2 : Int32) (sg : MS), lM_tell_39 x1 post ke_74 n x2 sg → gW X 0 0 z T L (up1 V0 mb sg) P 39 [some (.ref mb), some (.int x1), some (.int x2), none] [] := by
  intro n
  induction n with
  | zero =>
    intro x2 sg w
    exact w.elim
  | succ n ih =>
    intro x2 sg w
    unfold lM_tell_39 at w
    refine g_iload_n O dX8_tell_39 rfl ?_
    refine g_aload_n O dX8_tell_40 rfl ?_
    refine gm_getA (j := 3) O hM.1 rfl (by decide) q1731 dX8_tell_41 ?_
    refine g_iconst (v := 4) O dX8_tell_44 (by decide) ?_
    refine gm_ald (j := 3) (len := 14) (nn := 4) O hM.1 rfl (by decide) (by decide) rfl dX8_tell_45 ?_
    refine g_icmp_ge (tgt := 74) O w dX8_tell_46 (by decide) (fun w => ?_) (fun w => ?_)
    · refine g_drop [2] (lv' := [some (.ref mb), some (.int x1), none, none]) rfl ?_
      exact hke_74  (sg) w
    · refine g_aload_n O dX8_tell_49 rfl ?_
      refine g_iload_n O dX8_tell_50 rfl ?_
      refine g_iload_n O dX8_tell_51 rfl ?_
      refine gm_Vi0 (nA := 2) (As := [.int x2, .int x1]) (rest := []) O hRm hM.1 (cM_townOn _ O.2.2.2.2.2.2.2.2 _ _ _ _ _ _ _ hM sg (x2) (x1) _ w) (lw_V q2089 q2091 qs80 q134 q2092) rfl rfl (by decide +kernel) ⟨Nat.le_of_ble_eq_true rfl, Nat.le_of_ble_eq_true rfl⟩ rfl rfl rfl (Nat.le_of_ble_eq_true rfl) dX8_tell_52 (fun r9 w => ?_)
      refine g_istore_n O dX8_tell_55 (Nat.le_of_ble_eq_true rfl) rfl (lv' := [some (.ref mb), some (.int x1), some (.int x2), some (.int r9)]) rfl ?_
      refine g_iload_n O dX8_tell_56 rfl ?_
      refine g_iconst (v := (-1)) O dX8_tell_57 (by decide) ?_
      refine g_icmp_eq (tgt := 68) O w dX8_tell_58 (by decide) (fun w => ?_) (fun w => ?_)
      · refine g_drop [3] (lv' := [some (.ref mb), some (.int x1), some (.int x2), none]) rfl ?_
        exact vM_tell_68 O hRm hM sg  x1 x2 post hQ (lM_tell_39 x1 post ke_74 n) ih w
      · refine g_aload_n O dX8_tell_61 rfl ?_
        refine g_iload_n O dX8_tell_62 rfl ?_
        refine g_iload_n O dX8_tell_63 rfl ?_
        refine g_iload_n O dX8_tell_64 rfl ?_
        refine gm_Vv (nA := 3) (As := [.int x2, .int r9, .int x1]) (rest := []) O hRm hM.1 (cM_hear _ O.2.2.2.2.2.2.2.2 _ _ _ _ _ _ _ hM sg (x2) (r9) (x1) _ w) (lw_V q2097 q2099 qs82 q134 q2100) rfl rfl (by decide +kernel) ⟨Nat.le_of_ble_eq_true rfl, Nat.le_of_ble_eq_true rfl⟩ rfl rfl rfl (Nat.le_of_ble_eq_true rfl) dX8_tell_65 (fun g12 w => ?_)
        refine g_drop [3] (lv' := [some (.ref mb), some (.int x1), some (.int x2), none]) rfl ?_
        exact vM_tell_68 O hRm hM g12  x1 x2 post hQ (lM_tell_39 x1 post ke_74 n) ih w
set_option maxHeartbeats 4000000 in
theorem vM_tell_31 {X : Cx} {z : Nat} {T L : Nat → Nat} {V0 : w_V} {P : w_P} {mb : Nat} (O : Okc X cX8_tell RX8 4 (some .int)) (hRm : cxR X = rM_tell) (hM : mOk (cxE X) T L P mb) (post : Int32 → MS → Prop) (hQ : cxMQ X (va_Qi post (fun u t => wdW (cxE X) (mW z T L V0 P mb u) t.heap) (w_A (cxE X))) 0 0) (ke_80 : MS → Prop) (hke_80 : ∀ (sg : MS), ke_80 sg → gW X 0 0 z T L (up1 V0 mb sg) P 80 [some (.ref mb), none, none, none] [])  : ∀ (n : Nat) (x1 : Int32) (sg : MS), lM_tell_31 post ke_80 n x1 sg → gW X 0 0 z T L (up1 V0 mb sg) P 31 [some (.ref mb), some (.int x1), none, none] [] := by
  intro n
  induction n with
  | zero =>
    intro x1 sg w
    exact w.elim
  | succ n ih =>
    intro x1 sg w
    unfold lM_tell_31 at w
    refine g_iload_n O dX8_tell_31 rfl ?_
    refine g_bipush (v := 114) O dX8_tell_32 (by decide) ?_
    refine g_icmp_gt (tgt := 80) O w dX8_tell_34 (by decide) (fun w => ?_) (fun w => ?_)
    · refine g_drop [1] (lv' := [some (.ref mb), none, none, none]) rfl ?_
      exact hke_80  (sg) w
    · refine g_iconst (v := 0) O dX8_tell_37 (by decide) ?_
      refine g_istore_n O dX8_tell_38 (Nat.le_of_ble_eq_true rfl) rfl (lv' := [some (.ref mb), some (.int x1), some (.int 0), none]) rfl ?_
      obtain ⟨n14, w⟩ := w
      refine vM_tell_39 O hRm hM x1 post hQ _ (fun g13 w => ?_) n14 0 sg w
      refine g_iinc (v := (x1 + 1)) O dX8_tell_74 rfl rfl rfl (lv' := [some (.ref mb), some (.int (x1 + 1)), none, none]) rfl ?_
      refine g_goto (tgt := 31) O dX8_tell_77 (by decide) ?_
      exact ih ((x1 + 1)) (g13) w
set_option maxHeartbeats 4000000 in
theorem cM_tell (l : Launch) (hfl : l.flags = flags0) (E : w_E) (z : Nat) (T L : Nat → Nat) (V0 : w_V) (P : w_P) (mb : Nat) (hM : mOk E T L P mb) (sg : MS) (post : Int32 → MS → Prop) (w : wM_tell sg post) : mMi l yX8_tell cX8_tell 4 (some .int) rM_tell E z T L V0 P mb [.ref mb] sg post := by
  refine g_start (S := Unit) hfl (by decide +kernel) rfl [some (.ref mb), none, none, none] rfl (fun _ h => h) (Nat.le_of_ble_eq_true rfl) (fun X hl hRm hEe O hQ => ?_)
  subst hl
  subst hEe
  unfold wM_tell at w
  refine g_aload_n O dX8_tell_0 rfl ?_
  refine gm_Vv (nA := 0) (As := []) (rest := []) O hRm hM.1 (cM_tellStops _ O.2.2.2.2.2.2.2.2 _ _ _ _ _ _ _ hM sg _ w) (lw_V q2081 q2083 qs78 q134 q2084) rfl rfl (by decide +kernel) ⟨Nat.le_of_ble_eq_true rfl, Nat.le_of_ble_eq_true rfl⟩ rfl rfl rfl (Nat.le_of_ble_eq_true rfl) dX8_tell_1 (fun g2 w => ?_)
  refine g_aload_n O dX8_tell_4 rfl ?_
  refine gm_Vv (nA := 0) (As := []) (rest := []) O hRm hM.1 (cM_tellMeetings _ O.2.2.2.2.2.2.2.2 _ _ _ _ _ _ _ hM g2 _ w) (lw_V q2085 q2087 qs79 q134 q2088) rfl rfl (by decide +kernel) ⟨Nat.le_of_ble_eq_true rfl, Nat.le_of_ble_eq_true rfl⟩ rfl rfl rfl (Nat.le_of_ble_eq_true rfl) dX8_tell_5 (fun g4 w => ?_)
  refine g_iconst (v := 0) O dX8_tell_8 (by decide) ?_
  refine g_istore_n O dX8_tell_9 (Nat.le_of_ble_eq_true rfl) rfl (lv' := [some (.ref mb), some (.int 0), none, none]) rfl ?_
  obtain ⟨n19, w⟩ := w
  refine vM_tell_10 O hRm hM post hQ _ (fun g8 w => ?_) n19 0 g4 w
  refine g_iconst (v := 0) O dX8_tell_29 (by decide) ?_
  refine g_istore_n O dX8_tell_30 (Nat.le_of_ble_eq_true rfl) rfl (lv' := [some (.ref mb), some (.int 0), none, none]) rfl ?_
  obtain ⟨n18, w⟩ := w
  refine vM_tell_31 O hRm hM post hQ _ (fun g15 w => ?_) n18 0 g8 w
  refine g_aload_n O dX8_tell_80 rfl ?_
  refine gm_Vi (nA := 0) (As := []) (rest := []) O hRm hM.1 (cM_judgeAll _ O.2.2.2.2.2.2.2.2 _ _ _ _ _ _ _ hM g15 _ w) (lw_V q2120 q2122 qs87 q134 q2123) rfl rfl (by decide +kernel) ⟨Nat.le_of_ble_eq_true rfl, Nat.le_of_ble_eq_true rfl⟩ rfl rfl rfl (Nat.le_of_ble_eq_true rfl) dX8_tell_81 (fun r16 g17 w => ?_)
  exact gm_iret O hQ rfl w dX8_tell_84
-- tellNow
abbrev rM_tellNow : Room := { frames := 8, cells := 0, slots := 0, locals := 177 }
set_option maxHeartbeats 4000000 in
theorem cM_tellNow (l : Launch) (hfl : l.flags = flags0) (E : w_E) (z : Nat) (T L : Nat → Nat) (V0 : w_V) (P : w_P) (mb : Nat) (hM : mOk E T L P mb) (sg : MS) (post : Int32 → MS → Prop) (w : wM_tellNow sg post) : mMi l yX8_tellNow cX8_tellNow 1 (some .int) rM_tellNow E z T L V0 P mb [.ref mb] sg post := by
  refine g_start (S := Unit) hfl (by decide +kernel) rfl [some (.ref mb)] rfl (fun _ h => h) (Nat.le_of_ble_eq_true rfl) (fun X hl hRm hEe O hQ => ?_)
  subst hl
  subst hEe
  unfold wM_tellNow at w
  refine g_aload_n O dX8_tellNow_0 rfl ?_
  refine gm_Vv (nA := 0) (As := []) (rest := []) O hRm hM.1 (cM_set _ O.2.2.2.2.2.2.2.2 _ _ _ _ _ _ _ hM sg _ w) (lw_V q2073 q2075 qs76 q134 q2076) rfl rfl (by decide +kernel) ⟨Nat.le_of_ble_eq_true rfl, Nat.le_of_ble_eq_true rfl⟩ rfl rfl rfl (Nat.le_of_ble_eq_true rfl) dX8_tellNow_1 (fun g2 w => ?_)
  refine g_aload_n O dX8_tellNow_4 rfl ?_
  refine gm_Vi (nA := 0) (As := []) (rest := []) O hRm hM.1 (cM_tell _ O.2.2.2.2.2.2.2.2 _ _ _ _ _ _ _ hM g2 _ w) (lw_V q2077 q2079 qs77 q134 q2080) rfl rfl (by decide +kernel) ⟨Nat.le_of_ble_eq_true rfl, Nat.le_of_ble_eq_true rfl⟩ rfl rfl rfl (Nat.le_of_ble_eq_true rfl) dX8_tellNow_5 (fun r3 g4 w => ?_)
  exact gm_iret O hQ rfl w dX8_tellNow_8
-- count
abbrev rM_count : Room := { frames := 9, cells := 0, slots := 0, locals := 197 }
set_option maxHeartbeats 4000000 in
theorem cM_count (l : Launch) (hfl : l.flags = flags0) (E : w_E) (z : Nat) (T L : Nat → Nat) (V0 : w_V) (P : w_P) (mb : Nat) (hM : mOk E T L P mb) (sg : MS) (x1 : Int32) (post : Int32 → MS → Prop) (w : wM_count sg x1 post) : mMi l yX8_count cX8_count 2 (some .int) rM_count E z T L V0 P mb [.ref mb, .int x1] sg post := by
  refine g_start (S := Unit) hfl (by decide +kernel) rfl [some (.ref mb), some (.int x1)] rfl (fun _ h => h) (Nat.le_of_ble_eq_true rfl) (fun X hl hRm hEe O hQ => ?_)
  subst hl
  subst hEe
  unfold wM_count at w
  refine g_aload_n O dX8_count_0 rfl ?_
  refine g_iconst (v := 0) O dX8_count_1 (by decide) ?_
  refine gm_putI (j := 2) (ty := .int) O hM.1 rfl (by decide) q1730 rfl rfl rfl rfl dX8_count_2 ?_
  refine g_iload_n O dX8_count_5 rfl ?_
  by_cases c0 : x1 = 0
  · rw [if_pos c0] at w
    refine g_tabE (tgt := 84) O c0 dX8_count_6 (by decide) (by decide) rfl (by decide) ?_
    refine g_aload_n O dX8_count_84 rfl ?_
    refine gm_getA (j := 3) O hM.1 rfl (by decide) q1731 dX8_count_85 ?_
    refine g_iconst (v := 0) O dX8_count_88 (by decide) ?_
    refine gm_ald (j := 3) (len := 14) (nn := 0) O hM.1 rfl (by decide) (by decide) rfl dX8_count_89 ?_
    exact gm_iret O hQ rfl w dX8_count_90
  rw [if_neg c0] at w
  by_cases c1 : x1 = 1
  · rw [if_pos c1] at w
    refine g_tabE (tgt := 91) O c1 dX8_count_6 (by decide) (by decide) rfl (by decide) ?_
    refine g_aload_n O dX8_count_91 rfl ?_
    refine gm_getA (j := 3) O hM.1 rfl (by decide) q1731 dX8_count_92 ?_
    refine g_iconst (v := 2) O dX8_count_95 (by decide) ?_
    refine gm_ald (j := 3) (len := 14) (nn := 2) O hM.1 rfl (by decide) (by decide) rfl dX8_count_96 ?_
    exact gm_iret O hQ rfl w dX8_count_97
  rw [if_neg c1] at w
  by_cases c2 : x1 = 2
  · rw [if_pos c2] at w
    refine g_tabE (tgt := 98) O c2 dX8_count_6 (by decide) (by decide) rfl (by decide) ?_
    refine g_aload_n O dX8_count_98 rfl ?_
    refine gm_getA (j := 3) O hM.1 rfl (by decide) q1731 dX8_count_99 ?_
    refine g_iconst (v := 3) O dX8_count_102 (by decide) ?_
    refine gm_ald (j := 3) (len := 14) (nn := 3) O hM.1 rfl (by decide) (by decide) rfl dX8_count_103 ?_
    exact gm_iret O hQ rfl w dX8_count_104
  rw [if_neg c2] at w
  by_cases c3 : x1 = 3
  · rw [if_pos c3] at w
    refine g_tabE (tgt := 105) O c3 dX8_count_6 (by decide) (by decide) rfl (by decide) ?_
    refine g_aload_n O dX8_count_105 rfl ?_
    refine gm_getA (j := 3) O hM.1 rfl (by decide) q1731 dX8_count_106 ?_
    refine g_iconst (v := 4) O dX8_count_109 (by decide) ?_
    refine gm_ald (j := 3) (len := 14) (nn := 4) O hM.1 rfl (by decide) (by decide) rfl dX8_count_110 ?_
    exact gm_iret O hQ rfl w dX8_count_111
  rw [if_neg c3] at w
  by_cases c4 : x1 = 4
  · rw [if_pos c4] at w
    refine g_tabE (tgt := 112) O c4 dX8_count_6 (by decide) (by decide) rfl (by decide) ?_
    refine g_aload_n O dX8_count_112 rfl ?_
    refine gm_getA (j := 3) O hM.1 rfl (by decide) q1731 dX8_count_113 ?_
    refine g_iconst (v := 5) O dX8_count_116 (by decide) ?_
    refine gm_ald (j := 3) (len := 14) (nn := 5) O hM.1 rfl (by decide) (by decide) rfl dX8_count_117 ?_
    exact gm_iret O hQ rfl w dX8_count_118
  rw [if_neg c4] at w
  by_cases c5 : x1 = 5
  · rw [if_pos c5] at w
    refine g_tabE (tgt := 119) O c5 dX8_count_6 (by decide) (by decide) rfl (by decide) ?_
    refine g_aload_n O dX8_count_119 rfl ?_
    refine gm_getI (j := 29) O hM.1 rfl (by decide) q1757 dX8_count_120 ?_
    exact gm_iret O hQ rfl w dX8_count_123
  rw [if_neg c5] at w
  by_cases c6 : x1 = 6
  · rw [if_pos c6] at w
    refine g_tabE (tgt := 124) O c6 dX8_count_6 (by decide) (by decide) rfl (by decide) ?_
    refine g_aload_n O dX8_count_124 rfl ?_
    refine gm_getI (j := 30) O hM.1 rfl (by decide) q1758 dX8_count_125 ?_
    exact gm_iret O hQ rfl w dX8_count_128
  rw [if_neg c6] at w
  by_cases c7 : x1 = 7
  · rw [if_pos c7] at w
    refine g_tabE (tgt := 129) O c7 dX8_count_6 (by decide) (by decide) rfl (by decide) ?_
    refine g_aload_n O dX8_count_129 rfl ?_
    refine gm_getI (j := 31) O hM.1 rfl (by decide) q1759 dX8_count_130 ?_
    exact gm_iret O hQ rfl w dX8_count_133
  rw [if_neg c7] at w
  by_cases c8 : x1 = 8
  · rw [if_pos c8] at w
    refine g_tabE (tgt := 134) O c8 dX8_count_6 (by decide) (by decide) rfl (by decide) ?_
    refine g_aload_n O dX8_count_134 rfl ?_
    refine gm_getI (j := 32) O hM.1 rfl (by decide) q1760 dX8_count_135 ?_
    exact gm_iret O hQ rfl w dX8_count_138
  rw [if_neg c8] at w
  by_cases c9 : x1 = 9
  · rw [if_pos c9] at w
    refine g_tabE (tgt := 139) O c9 dX8_count_6 (by decide) (by decide) rfl (by decide) ?_
    refine g_aload_n O dX8_count_139 rfl ?_
    refine gm_Vi (nA := 0) (As := []) (rest := []) O hRm hM.1 (cM_tellNow _ O.2.2.2.2.2.2.2.2 _ _ _ _ _ _ _ hM (s2 sg 0 2 0) _ w) (lw_V q2069 q2071 qs75 q134 q2072) rfl rfl (by decide +kernel) ⟨Nat.le_of_ble_eq_true rfl, Nat.le_of_ble_eq_true rfl⟩ rfl rfl rfl (Nat.le_of_ble_eq_true rfl) dX8_count_140 (fun r3 g4 w => ?_)
    exact gm_iret O hQ rfl w dX8_count_143
  rw [if_neg c9] at w
  by_cases c10 : x1 = 10
  · rw [if_pos c10] at w
    refine g_tabE (tgt := 144) O c10 dX8_count_6 (by decide) (by decide) rfl (by decide) ?_
    refine g_aload_n O dX8_count_144 rfl ?_
    refine gm_getI (j := 33) O hM.1 rfl (by decide) q1761 dX8_count_145 ?_
    exact gm_iret O hQ rfl w dX8_count_148
  rw [if_neg c10] at w
  by_cases c11 : x1 = 11
  · rw [if_pos c11] at w
    refine g_tabE (tgt := 149) O c11 dX8_count_6 (by decide) (by decide) rfl (by decide) ?_
    refine g_aload_n O dX8_count_149 rfl ?_
    refine gm_getI (j := 34) O hM.1 rfl (by decide) q1762 dX8_count_150 ?_
    exact gm_iret O hQ rfl w dX8_count_153
  rw [if_neg c11] at w
  by_cases c12 : x1 = 12
  · rw [if_pos c12] at w
    refine g_tabE (tgt := 154) O c12 dX8_count_6 (by decide) (by decide) rfl (by decide) ?_
    refine g_aload_n O dX8_count_154 rfl ?_
    refine gm_getI (j := 14) O hM.1 rfl (by decide) q1742 dX8_count_155 ?_
    exact gm_iret O hQ rfl w dX8_count_158
  rw [if_neg c12] at w
  by_cases c13 : x1 = 13
  · rw [if_pos c13] at w
    refine g_tabE (tgt := 159) O c13 dX8_count_6 (by decide) (by decide) rfl (by decide) ?_
    refine g_aload_n O dX8_count_159 rfl ?_
    refine gm_getA (j := 12) O hM.1 rfl (by decide) q1740 dX8_count_160 ?_
    refine g_iload_n O dX8_count_163 rfl ?_
    refine g_bipush (v := 13) O dX8_count_164 (by decide) ?_
    refine g_isub O dX8_count_166 ?_
    obtain ⟨i5, hi6, e7, w⟩ := w
    refine gm_ald (j := 12) (len := 3) (nn := i5) O hM.1 rfl hi6 (by decide) e7 dX8_count_167 ?_
    exact gm_iret O hQ rfl w dX8_count_168
  rw [if_neg c13] at w
  by_cases c14 : x1 = 14
  · rw [if_pos c14] at w
    refine g_tabE (tgt := 159) O c14 dX8_count_6 (by decide) (by decide) rfl (by decide) ?_
    refine g_aload_n O dX8_count_159 rfl ?_
    refine gm_getA (j := 12) O hM.1 rfl (by decide) q1740 dX8_count_160 ?_
    refine g_iload_n O dX8_count_163 rfl ?_
    refine g_bipush (v := 13) O dX8_count_164 (by decide) ?_
    refine g_isub O dX8_count_166 ?_
    obtain ⟨i8, hi9, e10, w⟩ := w
    refine gm_ald (j := 12) (len := 3) (nn := i8) O hM.1 rfl hi9 (by decide) e10 dX8_count_167 ?_
    exact gm_iret O hQ rfl w dX8_count_168
  rw [if_neg c14] at w
  by_cases c15 : x1 = 15
  · rw [if_pos c15] at w
    refine g_tabE (tgt := 159) O c15 dX8_count_6 (by decide) (by decide) rfl (by decide) ?_
    refine g_aload_n O dX8_count_159 rfl ?_
    refine gm_getA (j := 12) O hM.1 rfl (by decide) q1740 dX8_count_160 ?_
    refine g_iload_n O dX8_count_163 rfl ?_
    refine g_bipush (v := 13) O dX8_count_164 (by decide) ?_
    refine g_isub O dX8_count_166 ?_
    obtain ⟨i11, hi12, e13, w⟩ := w
    refine gm_ald (j := 12) (len := 3) (nn := i11) O hM.1 rfl hi12 (by decide) e13 dX8_count_167 ?_
    exact gm_iret O hQ rfl w dX8_count_168
  rw [if_neg c15] at w
  refine g_tabOut (tgt := 169) O dX8_count_6 (tab_out (fun j h1 h2 => by
    have h3 : j = 0 ∨ j = 1 ∨ j = 2 ∨ j = 3 ∨ j = 4 ∨ j = 5 ∨ j = 6 ∨ j = 7 ∨ j = 8 ∨ j = 9 ∨ j = 10 ∨ j = 11 ∨ j = 12 ∨ j = 13 ∨ j = 14 ∨ j = 15 := by omega
    rcases h3 with rfl | rfl | rfl | rfl | rfl | rfl | rfl | rfl | rfl | rfl | rfl | rfl | rfl | rfl | rfl | rfl
    · exact c0
    · exact c1
    · exact c2
    · exact c3
    · exact c4
    · exact c5
    · exact c6
    · exact c7
    · exact c8
    · exact c9
    · exact c10
    · exact c11
    · exact c12
    · exact c13
    · exact c14
    · exact c15)) (by decide) ?_
  refine g_aload_n O dX8_count_169 rfl ?_
  refine g_iconst (v := 1) O dX8_count_170 (by decide) ?_
  refine gm_Vi (nA := 1) (As := [.int 1]) (rest := []) O hRm hM.1 (cM_fail _ O.2.2.2.2.2.2.2.2 _ _ _ _ _ _ _ hM (s2 sg 0 2 0) (1) _ w) (lw_V q1930 q1932 qs49 q134 q1933) rfl rfl (by decide +kernel) ⟨Nat.le_of_ble_eq_true rfl, Nat.le_of_ble_eq_true rfl⟩ rfl rfl rfl (Nat.le_of_ble_eq_true rfl) dX8_count_171 (fun r1 g2 w => ?_)
  exact gm_iret O hQ rfl w dX8_count_174
-- isIn
abbrev rM_isIn : Room := { frames := 1, cells := 0, slots := 0, locals := 12 }
set_option maxHeartbeats 4000000 in
theorem cM_isIn (l : Launch) (hfl : l.flags = flags0) (E : w_E) (z : Nat) (T L : Nat → Nat) (V0 : w_V) (P : w_P) (mb : Nat) (hM : mOk E T L P mb) (sg : MS) (x0 : Int64) (x2 : Int64) (x4 : Int64) (post : Int32 → Prop) (w : wM_isIn sg x0 x2 x4 post) : mMi0 l yX8_isIn cX8_isIn 6 (some .boolean) rM_isIn E z T L V0 P mb [.long x0, .long x2, .long x4] sg post := by
  refine g_start (S := Unit) hfl (by decide +kernel) rfl [some (.long x0), none, some (.long x2), none, some (.long x4), none] rfl (fun _ h => h) (Nat.le_of_ble_eq_true rfl) (fun X hl hRm hEe O hQ => ?_)
  subst hl
  subst hEe
  unfold wM_isIn at w
  refine g_lload_n O dX8_isIn_0 rfl ?_
  refine g_lload_n O dX8_isIn_1 rfl ?_
  refine g_lcmp O dX8_isIn_2 ?_
  refine g_if_lt (tgt := 17) O w dX8_isIn_3 (by decide) (fun w => ?_) (fun w => ?_)
  · refine g_iconst (v := 0) O dX8_isIn_17 (by decide) ?_
    exact gm_iret0 O hQ rfl w dX8_isIn_18
  · refine g_lload_n O dX8_isIn_6 rfl ?_
    refine g_lload O dX8_isIn_7 rfl ?_
    refine g_lcmp O dX8_isIn_9 ?_
    refine g_if_gt (tgt := 17) O w dX8_isIn_10 (by decide) (fun w => ?_) (fun w => ?_)
    · refine g_iconst (v := 0) O dX8_isIn_17 (by decide) ?_
      exact gm_iret0 O hQ rfl w dX8_isIn_18
    · refine g_iconst (v := 1) O dX8_isIn_13 (by decide) ?_
      refine g_goto (tgt := 18) O dX8_isIn_14 (by decide) ?_
      exact gm_iret0 O hQ rfl w dX8_isIn_18
-- isTown
abbrev rM_isTown : Room := { frames := 2, cells := 0, slots := 0, locals := 37 }
set_option maxHeartbeats 4000000 in
theorem cM_isTown (l : Launch) (hfl : l.flags = flags0) (E : w_E) (z : Nat) (T L : Nat → Nat) (V0 : w_V) (P : w_P) (mb : Nat) (hM : mOk E T L P mb) (sg : MS) (x1 : Int32) (post : Int32 → Prop) (w : wM_isTown sg x1 post) : mMi0 l yX8_isTown cX8_isTown 2 (some .boolean) rM_isTown E z T L V0 P mb [.ref mb, .int x1] sg post := by
  refine g_start (S := Unit) hfl (by decide +kernel) rfl [some (.ref mb), some (.int x1)] rfl (fun _ h => h) (Nat.le_of_ble_eq_true rfl) (fun X hl hRm hEe O hQ => ?_)
  subst hl
  subst hEe
  unfold wM_isTown at w
  refine g_iload_n O dX8_isTown_0 rfl ?_
  refine g_i2l O dX8_isTown_1 ?_
  refine g_lconst (v := 0) O dX8_isTown_2 (by decide) ?_
  refine g_aload_n O dX8_isTown_3 rfl ?_
  refine gm_getA (j := 3) O hM.1 rfl (by decide) q1731 dX8_isTown_4 ?_
  refine g_iconst (v := 0) O dX8_isTown_7 (by decide) ?_
  refine gm_ald (j := 3) (len := 14) (nn := 0) O hM.1 rfl (by decide) (by decide) rfl dX8_isTown_8 ?_
  refine g_iconst (v := 1) O dX8_isTown_9 (by decide) ?_
  refine g_isub O dX8_isTown_10 ?_
  refine g_i2l O dX8_isTown_11 ?_
  refine gm_Si0 (nA := 3) (As := [.long x1.toInt64, .long 0, .long ((sg 4 0) - 1).toInt64]) (rest := []) O hRm (cM_isIn _ O.2.2.2.2.2.2.2.2 _ _ _ _ _ _ _ hM sg (x1.toInt64) (0) (((sg 4 0) - 1).toInt64) _ w) (lw_S q2161 q2162 q134 q2163) rfl rfl (by decide +kernel) ⟨Nat.le_of_ble_eq_true rfl, Nat.le_of_ble_eq_true rfl⟩ rfl rfl rfl (Nat.le_of_ble_eq_true rfl) dX8_isTown_12 (fun r1 w => ?_)
  exact gm_iret0 O hQ w.1 w.2 dX8_isTown_15
-- orNone
abbrev rM_orNone : Room := { frames := 1, cells := 0, slots := 0, locals := 12 }
set_option maxHeartbeats 4000000 in
theorem cM_orNone (l : Launch) (hfl : l.flags = flags0) (E : w_E) (z : Nat) (T L : Nat → Nat) (V0 : w_V) (P : w_P) (mb : Nat) (hM : mOk E T L P mb) (sg : MS) (x0 : Int32) (post : Int32 → Prop) (w : wM_orNone sg x0 post) : mMi0 l yX8_orNone cX8_orNone 1 (some .int) rM_orNone E z T L V0 P mb [.int x0] sg post := by
  refine g_start (S := Unit) hfl (by decide +kernel) rfl [some (.int x0)] rfl (fun _ h => h) (Nat.le_of_ble_eq_true rfl) (fun X hl hRm hEe O hQ => ?_)
  subst hl
  subst hEe
  unfold wM_orNone at w
  refine g_iload_n O dX8_orNone_0 rfl ?_
  refine g_ldc O q1948 dX8_orNone_1 ?_
  refine g_icmp_lt (tgt := 10) O w dX8_orNone_3 (by decide) (fun w => ?_) (fun w => ?_)
  · refine g_iload_n O dX8_orNone_10 rfl ?_
    exact gm_iret0 O hQ rfl w dX8_orNone_11
  · refine g_iconst (v := (-1)) O dX8_orNone_6 (by decide) ?_
    refine g_goto (tgt := 11) O dX8_orNone_7 (by decide) ?_
    exact gm_iret0 O hQ rfl w dX8_orNone_11
-- far
abbrev rM_far : Room := { frames := 3, cells := 0, slots := 0, locals := 58 }
set_option maxHeartbeats 4000000 in
theorem vM_far_30 {X : Cx} {z : Nat} {T L : Nat → Nat} {V0 : w_V} {P : w_P} {mb : Nat} (O : Okc X cX8_far RX8 4 (some .int)) (hRm : cxR X = rM_far) (hM : mOk (cxE X) T L P mb) (sg : MS) (post : Int32 → MS → Prop) (hQ : cxMQ X (va_Qi post (fun u t => wdW (cxE X) (mW z T L V0 P mb u) t.heap) (w_A (cxE X))) 0 0) (w : jM_far_30 sg post) : gW X 0 0 z T L (up1 V0 mb sg) P 30 [some (.ref mb), none, none, none] [] := by
  unfold jM_far_30 at w
  refine g_aload_n O dX8_far_30 rfl ?_
  refine g_iconst (v := 1) O dX8_far_31 (by decide) ?_
  refine gm_Vi (nA := 1) (As := [.int 1]) (rest := []) O hRm hM.1 (cM_fail _ O.2.2.2.2.2.2.2.2 _ _ _ _ _ _ _ hM sg (1) _ w) (lw_V q1930 q1932 qs49 q134 q1933) rfl rfl (by decide +kernel) ⟨Nat.le_of_ble_eq_true rfl, Nat.le_of_ble_eq_true rfl⟩ rfl rfl rfl (Nat.le_of_ble_eq_true rfl) dX8_far_32 (fun r3 g4 w => ?_)
  exact gm_iret O hQ rfl w dX8_far_35
set_option maxHeartbeats 4000000 in
theorem vM_far_59 {X : Cx} {z : Nat} {T L : Nat → Nat} {V0 : w_V} {P : w_P} {mb : Nat} (O : Okc X cX8_far RX8 4 (some .int)) (hRm : cxR X = rM_far) (hM : mOk (cxE X) T L P mb) (sg : MS) (t0 : Int32) (post : Int32 → MS → Prop) (hQ : cxMQ X (va_Qi post (fun u t => wdW (cxE X) (mW z T L V0 P mb u) t.heap) (w_A (cxE X))) 0 0) (w : jM_far_59 sg t0 post) : gW X 0 0 z T L (up1 V0 mb sg) P 59 [some (.ref mb), none, none, none] [.int t0] := by
  unfold jM_far_59 at w
  refine gm_Si0 (nA := 1) (As := [.int t0]) (rest := []) O hRm (cM_orNone _ O.2.2.2.2.2.2.2.2 _ _ _ _ _ _ _ hM sg (t0) _ w) (lw_S q2164 q2165 q134 q2166) rfl rfl (by decide +kernel) ⟨Nat.le_of_ble_eq_true rfl, Nat.le_of_ble_eq_true rfl⟩ rfl rfl rfl (Nat.le_of_ble_eq_true rfl) dX8_far_59 (fun r9 w => ?_)
  exact gm_iret O hQ rfl w dX8_far_62
set_option maxHeartbeats 4000000 in
theorem cM_far (l : Launch) (hfl : l.flags = flags0) (E : w_E) (z : Nat) (T L : Nat → Nat) (V0 : w_V) (P : w_P) (mb : Nat) (hM : mOk E T L P mb) (sg : MS) (x1 : Int32) (x2 : Int32) (x3 : Int32) (post : Int32 → MS → Prop) (w : wM_far sg x1 x2 x3 post) : mMi l yX8_far cX8_far 4 (some .int) rM_far E z T L V0 P mb [.ref mb, .int x1, .int x2, .int x3] sg post := by
  refine g_start (S := Unit) hfl (by decide +kernel) rfl [some (.ref mb), some (.int x1), some (.int x2), some (.int x3)] rfl (fun _ h => h) (Nat.le_of_ble_eq_true rfl) (fun X hl hRm hEe O hQ => ?_)
  subst hl
  subst hEe
  unfold wM_far at w
  refine g_aload_n O dX8_far_0 rfl ?_
  refine g_iconst (v := 0) O dX8_far_1 (by decide) ?_
  refine gm_putI (j := 2) (ty := .int) O hM.1 rfl (by decide) q1730 rfl rfl rfl rfl dX8_far_2 ?_
  refine g_aload_n O dX8_far_5 rfl ?_
  refine g_iload_n O dX8_far_6 rfl ?_
  refine gm_Vi0 (nA := 1) (As := [.int x1]) (rest := []) O hRm hM.1 (cM_isTown _ O.2.2.2.2.2.2.2.2 _ _ _ _ _ _ _ hM (s2 sg 0 2 0) (x1) _ w) (lw_V q2157 q2159 qs95 q134 q2160) rfl rfl (by decide +kernel) ⟨Nat.le_of_ble_eq_true rfl, Nat.le_of_ble_eq_true rfl⟩ rfl rfl rfl (Nat.le_of_ble_eq_true rfl) dX8_far_7 (fun r1 w => ?_)
  refine g_if_eq (tgt := 30) O w dX8_far_10 (by decide) (fun w => ?_) (fun w => ?_)
  · refine g_drop [1, 2, 3] (lv' := [some (.ref mb), none, none, none]) rfl ?_
    exact vM_far_30 O hRm hM (s2 sg 0 2 0)  post hQ w
  · refine g_aload_n O dX8_far_13 rfl ?_
    refine g_iload_n O dX8_far_14 rfl ?_
    refine gm_Vi0 (nA := 1) (As := [.int x2]) (rest := []) O hRm hM.1 (cM_isTown _ O.2.2.2.2.2.2.2.2 _ _ _ _ _ _ _ hM (s2 sg 0 2 0) (x2) _ w) (lw_V q2157 q2159 qs95 q134 q2160) rfl rfl (by decide +kernel) ⟨Nat.le_of_ble_eq_true rfl, Nat.le_of_ble_eq_true rfl⟩ rfl rfl rfl (Nat.le_of_ble_eq_true rfl) dX8_far_15 (fun r5 w => ?_)
    refine g_if_eq (tgt := 30) O w dX8_far_18 (by decide) (fun w => ?_) (fun w => ?_)
    · refine g_drop [1, 2, 3] (lv' := [some (.ref mb), none, none, none]) rfl ?_
      exact vM_far_30 O hRm hM (s2 sg 0 2 0)  post hQ w
    · refine g_iload_n O dX8_far_21 rfl ?_
      refine g_if_lt (tgt := 30) O w dX8_far_22 (by decide) (fun w => ?_) (fun w => ?_)
      · refine g_drop [1, 2, 3] (lv' := [some (.ref mb), none, none, none]) rfl ?_
        exact vM_far_30 O hRm hM (s2 sg 0 2 0)  post hQ w
      · refine g_iload_n O dX8_far_25 rfl ?_
        refine g_iconst (v := 1) O dX8_far_26 (by decide) ?_
        refine g_icmp_le (tgt := 36) O w dX8_far_27 (by decide) (fun w => ?_) (fun w => ?_)
        · refine g_iload_n O dX8_far_36 rfl ?_
          refine g_if_ne (tgt := 53) O w dX8_far_37 (by decide) (fun w => ?_) (fun w => ?_)
          · refine g_aload_n O dX8_far_53 rfl ?_
            refine g_iload_n O dX8_far_54 rfl ?_
            refine g_iload_n O dX8_far_55 rfl ?_
            refine gm_Vi0 (nA := 2) (As := [.int x1, .int x2]) (rest := []) O hRm hM.1 (cM_newsDays _ O.2.2.2.2.2.2.2.2 _ _ _ _ _ _ _ hM (s2 sg 0 2 0) (x1) (x2) _ w) (lw_V q2136 q2138 qs91 q134 q2139) rfl rfl (by decide +kernel) ⟨Nat.le_of_ble_eq_true rfl, Nat.le_of_ble_eq_true rfl⟩ rfl rfl rfl (Nat.le_of_ble_eq_true rfl) dX8_far_56 (fun r7 w => ?_)
            refine g_drop [1, 2, 3] (lv' := [some (.ref mb), none, none, none]) rfl ?_
            exact vM_far_59 O hRm hM (s2 sg 0 2 0)  r7 post hQ w
          · refine g_aload_n O dX8_far_40 rfl ?_
            refine gm_getA (j := 24) O hM.1 rfl (by decide) q1752 dX8_far_41 ?_
            refine g_iload_n O dX8_far_44 rfl ?_
            refine g_iload_n O dX8_far_45 rfl ?_
            refine gm_Si0 (nA := 2) (As := [.int x1, .int x2]) (rest := [.ref (mb + 14)]) O hRm (cM_couple _ O.2.2.2.2.2.2.2.2 _ _ _ _ _ _ _ hM (s2 sg 0 2 0) (x1) (x2) _ w) (lw_S q2032 q2033 q134 q2034) rfl rfl (by decide +kernel) ⟨Nat.le_of_ble_eq_true rfl, Nat.le_of_ble_eq_true rfl⟩ rfl rfl rfl (Nat.le_of_ble_eq_true rfl) dX8_far_46 (fun r11 w => ?_)
            obtain ⟨i13, hi14, e15, w⟩ := w
            refine gm_ald (j := 24) (len := 81) (nn := i13) O hM.1 rfl hi14 (by decide) e15 dX8_far_49 ?_
            refine g_goto (tgt := 59) O dX8_far_50 (by decide) ?_
            refine g_drop [1, 2, 3] (lv' := [some (.ref mb), none, none, none]) rfl ?_
            exact vM_far_59 O hRm hM (s2 sg 0 2 0)  ((s2 sg 0 2 0) 25 i13) post hQ w
        · refine g_drop [1, 2, 3] (lv' := [some (.ref mb), none, none, none]) rfl ?_
          exact vM_far_30 O hRm hM (s2 sg 0 2 0)  post hQ w
-- isJudge
abbrev rM_isJudge : Room := { frames := 2, cells := 0, slots := 0, locals := 37 }
set_option maxHeartbeats 4000000 in
theorem cM_isJudge (l : Launch) (hfl : l.flags = flags0) (E : w_E) (z : Nat) (T L : Nat → Nat) (V0 : w_V) (P : w_P) (mb : Nat) (hM : mOk E T L P mb) (sg : MS) (x1 : Int32) (post : Int32 → Prop) (w : wM_isJudge sg x1 post) : mMi0 l yX8_isJudge cX8_isJudge 2 (some .boolean) rM_isJudge E z T L V0 P mb [.ref mb, .int x1] sg post := by
  refine g_start (S := Unit) hfl (by decide +kernel) rfl [some (.ref mb), some (.int x1)] rfl (fun _ h => h) (Nat.le_of_ble_eq_true rfl) (fun X hl hRm hEe O hQ => ?_)
  subst hl
  subst hEe
  unfold wM_isJudge at w
  refine g_iload_n O dX8_isJudge_0 rfl ?_
  refine g_i2l O dX8_isJudge_1 ?_
  refine g_lconst (v := 0) O dX8_isJudge_2 (by decide) ?_
  refine g_aload_n O dX8_isJudge_3 rfl ?_
  refine gm_getA (j := 3) O hM.1 rfl (by decide) q1731 dX8_isJudge_4 ?_
  refine g_iconst (v := 4) O dX8_isJudge_7 (by decide) ?_
  refine gm_ald (j := 3) (len := 14) (nn := 4) O hM.1 rfl (by decide) (by decide) rfl dX8_isJudge_8 ?_
  refine g_iconst (v := 1) O dX8_isJudge_9 (by decide) ?_
  refine g_isub O dX8_isJudge_10 ?_
  refine g_i2l O dX8_isJudge_11 ?_
  refine gm_Si0 (nA := 3) (As := [.long x1.toInt64, .long 0, .long ((sg 4 4) - 1).toInt64]) (rest := []) O hRm (cM_isIn _ O.2.2.2.2.2.2.2.2 _ _ _ _ _ _ _ hM sg (x1.toInt64) (0) (((sg 4 4) - 1).toInt64) _ w) (lw_S q2161 q2162 q134 q2163) rfl rfl (by decide +kernel) ⟨Nat.le_of_ble_eq_true rfl, Nat.le_of_ble_eq_true rfl⟩ rfl rfl rfl (Nat.le_of_ble_eq_true rfl) dX8_isJudge_12 (fun r1 w => ?_)
  exact gm_iret0 O hQ w.1 w.2 dX8_isJudge_15
-- judge
abbrev rM_judge : Room := { frames := 3, cells := 0, slots := 0, locals := 58 }
set_option maxHeartbeats 4000000 in
theorem vM_judge_25 {X : Cx} {z : Nat} {T L : Nat → Nat} {V0 : w_V} {P : w_P} {mb : Nat} (O : Okc X cX8_judge RX8 3 (some .int)) (hRm : cxR X = rM_judge) (hM : mOk (cxE X) T L P mb) (sg : MS) (post : Int32 → MS → Prop) (hQ : cxMQ X (va_Qi post (fun u t => wdW (cxE X) (mW z T L V0 P mb u) t.heap) (w_A (cxE X))) 0 0) (w : jM_judge_25 sg post) : gW X 0 0 z T L (up1 V0 mb sg) P 25 [some (.ref mb), none, none] [] := by
  unfold jM_judge_25 at w
  refine g_aload_n O dX8_judge_25 rfl ?_
  refine g_iconst (v := 1) O dX8_judge_26 (by decide) ?_
  refine gm_Vi (nA := 1) (As := [.int 1]) (rest := []) O hRm hM.1 (cM_fail _ O.2.2.2.2.2.2.2.2 _ _ _ _ _ _ _ hM sg (1) _ w) (lw_V q1930 q1932 qs49 q134 q1933) rfl rfl (by decide +kernel) ⟨Nat.le_of_ble_eq_true rfl, Nat.le_of_ble_eq_true rfl⟩ rfl rfl rfl (Nat.le_of_ble_eq_true rfl) dX8_judge_27 (fun r3 g4 w => ?_)
  exact gm_iret O hQ rfl w dX8_judge_30
set_option maxHeartbeats 4000000 in
theorem cM_judge (l : Launch) (hfl : l.flags = flags0) (E : w_E) (z : Nat) (T L : Nat → Nat) (V0 : w_V) (P : w_P) (mb : Nat) (hM : mOk E T L P mb) (sg : MS) (x1 : Int32) (x2 : Int32) (post : Int32 → MS → Prop) (w : wM_judge sg x1 x2 post) : mMi l yX8_judge cX8_judge 3 (some .int) rM_judge E z T L V0 P mb [.ref mb, .int x1, .int x2] sg post := by
  refine g_start (S := Unit) hfl (by decide +kernel) rfl [some (.ref mb), some (.int x1), some (.int x2)] rfl (fun _ h => h) (Nat.le_of_ble_eq_true rfl) (fun X hl hRm hEe O hQ => ?_)
  subst hl
  subst hEe
  unfold wM_judge at w
  refine g_aload_n O dX8_judge_0 rfl ?_
  refine g_iconst (v := 0) O dX8_judge_1 (by decide) ?_
  refine gm_putI (j := 2) (ty := .int) O hM.1 rfl (by decide) q1730 rfl rfl rfl rfl dX8_judge_2 ?_
  refine g_aload_n O dX8_judge_5 rfl ?_
  refine g_iload_n O dX8_judge_6 rfl ?_
  refine gm_Vi0 (nA := 1) (As := [.int x1]) (rest := []) O hRm hM.1 (cM_isJudge _ O.2.2.2.2.2.2.2.2 _ _ _ _ _ _ _ hM (s2 sg 0 2 0) (x1) _ w) (lw_V q2171 q2173 qs96 q134 q2174) rfl rfl (by decide +kernel) ⟨Nat.le_of_ble_eq_true rfl, Nat.le_of_ble_eq_true rfl⟩ rfl rfl rfl (Nat.le_of_ble_eq_true rfl) dX8_judge_7 (fun r1 w => ?_)
  refine g_if_eq (tgt := 25) O w dX8_judge_10 (by decide) (fun w => ?_) (fun w => ?_)
  · refine g_drop [1, 2] (lv' := [some (.ref mb), none, none]) rfl ?_
    exact vM_judge_25 O hRm hM (s2 sg 0 2 0)  post hQ w
  · refine g_iload_n O dX8_judge_13 rfl ?_
    refine g_i2l O dX8_judge_14 ?_
    refine g_lconst (v := 0) O dX8_judge_15 (by decide) ?_
    refine g_ldc2 O q2175 dX8_judge_16 ?_
    refine gm_Si0 (nA := 3) (As := [.long x2.toInt64, .long 0, .long 4]) (rest := []) O hRm (cM_isIn _ O.2.2.2.2.2.2.2.2 _ _ _ _ _ _ _ hM (s2 sg 0 2 0) (x2.toInt64) (0) (4) _ w) (lw_S q2161 q2162 q134 q2163) rfl rfl (by decide +kernel) ⟨Nat.le_of_ble_eq_true rfl, Nat.le_of_ble_eq_true rfl⟩ rfl rfl rfl (Nat.le_of_ble_eq_true rfl) dX8_judge_19 (fun r5 w => ?_)
    refine g_if_ne (tgt := 31) O w dX8_judge_22 (by decide) (fun w => ?_) (fun w => ?_)
    · refine g_iload_n O dX8_judge_31 rfl ?_
      refine g_iconst (v := 4) O dX8_judge_32 (by decide) ?_
      refine g_icmp_ne (tgt := 63) O w dX8_judge_33 (by decide) (fun w => ?_) (fun w => ?_)
      · refine g_iload_n O dX8_judge_63 rfl ?_
        refine g_if_ne (tgt := 76) O w dX8_judge_64 (by decide) (fun w => ?_) (fun w => ?_)
        · refine g_iload_n O dX8_judge_76 rfl ?_
          refine g_iconst (v := 1) O dX8_judge_77 (by decide) ?_
          refine g_icmp_ne (tgt := 90) O w dX8_judge_78 (by decide) (fun w => ?_) (fun w => ?_)
          · refine g_iload_n O dX8_judge_90 rfl ?_
            refine g_iconst (v := 2) O dX8_judge_91 (by decide) ?_
            refine g_icmp_ne (tgt := 104) O w dX8_judge_92 (by decide) (fun w => ?_) (fun w => ?_)
            · refine g_aload_n O dX8_judge_104 rfl ?_
              refine gm_getA (j := 8) O hM.1 rfl (by decide) q1736 dX8_judge_105 ?_
              refine g_iload_n O dX8_judge_108 rfl ?_
              obtain ⟨i7, hi8, e9, w⟩ := w
              refine gm_ald (j := 8) (len := 10) (nn := i7) O hM.1 rfl hi8 (by decide) e9 dX8_judge_109 ?_
              exact gm_iret O hQ rfl w dX8_judge_110
            · refine g_aload_n O dX8_judge_95 rfl ?_
              refine gm_getA (j := 7) O hM.1 rfl (by decide) q1735 dX8_judge_96 ?_
              refine g_iload_n O dX8_judge_99 rfl ?_
              obtain ⟨i10, hi11, e12, w⟩ := w
              refine gm_ald (j := 7) (len := 10) (nn := i10) O hM.1 rfl hi11 (by decide) e12 dX8_judge_100 ?_
              refine g_goto (tgt := 110) O dX8_judge_101 (by decide) ?_
              exact gm_iret O hQ rfl w dX8_judge_110
          · refine g_aload_n O dX8_judge_81 rfl ?_
            refine gm_getA (j := 6) O hM.1 rfl (by decide) q1734 dX8_judge_82 ?_
            refine g_iload_n O dX8_judge_85 rfl ?_
            obtain ⟨i13, hi14, e15, w⟩ := w
            refine gm_ald (j := 6) (len := 10) (nn := i13) O hM.1 rfl hi14 (by decide) e15 dX8_judge_86 ?_
            refine g_goto (tgt := 110) O dX8_judge_87 (by decide) ?_
            exact gm_iret O hQ rfl w dX8_judge_110
        · refine g_aload_n O dX8_judge_67 rfl ?_
          refine gm_getA (j := 5) O hM.1 rfl (by decide) q1733 dX8_judge_68 ?_
          refine g_iload_n O dX8_judge_71 rfl ?_
          obtain ⟨i16, hi17, e18, w⟩ := w
          refine gm_ald (j := 5) (len := 10) (nn := i16) O hM.1 rfl hi17 (by decide) e18 dX8_judge_72 ?_
          refine g_goto (tgt := 110) O dX8_judge_73 (by decide) ?_
          exact gm_iret O hQ rfl w dX8_judge_110
      · refine g_aload_n O dX8_judge_36 rfl ?_
        refine gm_Vv (nA := 0) (As := []) (rest := []) O hRm hM.1 (cM_set _ O.2.2.2.2.2.2.2.2 _ _ _ _ _ _ _ hM (s2 sg 0 2 0) _ w) (lw_V q2073 q2075 qs76 q134 q2076) rfl rfl (by decide +kernel) ⟨Nat.le_of_ble_eq_true rfl, Nat.le_of_ble_eq_true rfl⟩ rfl rfl rfl (Nat.le_of_ble_eq_true rfl) dX8_judge_37 (fun g20 w => ?_)
        refine g_aload_n O dX8_judge_40 rfl ?_
        refine gm_Vv (nA := 0) (As := []) (rest := []) O hRm hM.1 (cM_tellStops _ O.2.2.2.2.2.2.2.2 _ _ _ _ _ _ _ hM g20 _ w) (lw_V q2081 q2083 qs78 q134 q2084) rfl rfl (by decide +kernel) ⟨Nat.le_of_ble_eq_true rfl, Nat.le_of_ble_eq_true rfl⟩ rfl rfl rfl (Nat.le_of_ble_eq_true rfl) dX8_judge_41 (fun g22 w => ?_)
        refine g_aload_n O dX8_judge_44 rfl ?_
        refine gm_getA (j := 38) O hM.1 rfl (by decide) q1766 dX8_judge_45 ?_
        refine g_bipush (v := 7) O dX8_judge_48 (by decide) ?_
        refine g_iload_n O dX8_judge_50 rfl ?_
        refine g_imul O dX8_judge_51 ?_
        refine g_aload_n O dX8_judge_52 rfl ?_
        refine gm_getA (j := 8) O hM.1 rfl (by decide) q1736 dX8_judge_53 ?_
        refine g_iload_n O dX8_judge_56 rfl ?_
        obtain ⟨i23, hi24, e25, w⟩ := w
        refine gm_ald (j := 8) (len := 10) (nn := i23) O hM.1 rfl hi24 (by decide) e25 dX8_judge_57 ?_
        refine g_iadd O dX8_judge_58 ?_
        refine g_iconst (v := 1) O dX8_judge_59 (by decide) ?_
        refine g_isub O dX8_judge_60 ?_
        obtain ⟨i26, hi27, e28, w⟩ := w
        refine gm_ald (j := 38) (len := 35) (nn := i26) O hM.1 rfl hi27 (by decide) e28 dX8_judge_61 ?_
        exact gm_iret O hQ rfl w dX8_judge_62
    · refine g_drop [1, 2] (lv' := [some (.ref mb), none, none]) rfl ?_
      exact vM_judge_25 O hRm hM (s2 sg 0 2 0)  post hQ w
-- stop
abbrev rM_stop : Room := { frames := 3, cells := 0, slots := 0, locals := 58 }
set_option maxHeartbeats 4000000 in
theorem vM_stop_40 {X : Cx} {z : Nat} {T L : Nat → Nat} {V0 : w_V} {P : w_P} {mb : Nat} (O : Okc X cX8_stop RX8 4 (some .int)) (hRm : cxR X = rM_stop) (hM : mOk (cxE X) T L P mb) (sg : MS) (post : Int32 → MS → Prop) (hQ : cxMQ X (va_Qi post (fun u t => wdW (cxE X) (mW z T L V0 P mb u) t.heap) (w_A (cxE X))) 0 0) (w : jM_stop_40 sg post) : gW X 0 0 z T L (up1 V0 mb sg) P 40 [some (.ref mb), none, none, none] [] := by
  unfold jM_stop_40 at w
  refine g_aload_n O dX8_stop_40 rfl ?_
  refine g_iconst (v := 1) O dX8_stop_41 (by decide) ?_
  refine gm_Vi (nA := 1) (As := [.int 1]) (rest := []) O hRm hM.1 (cM_fail _ O.2.2.2.2.2.2.2.2 _ _ _ _ _ _ _ hM sg (1) _ w) (lw_V q1930 q1932 qs49 q134 q1933) rfl rfl (by decide +kernel) ⟨Nat.le_of_ble_eq_true rfl, Nat.le_of_ble_eq_true rfl⟩ rfl rfl rfl (Nat.le_of_ble_eq_true rfl) dX8_stop_42 (fun r3 g4 w => ?_)
  exact gm_iret O hQ rfl w dX8_stop_45
set_option maxHeartbeats 4000000 in
theorem cM_stop (l : Launch) (hfl : l.flags = flags0) (E : w_E) (z : Nat) (T L : Nat → Nat) (V0 : w_V) (P : w_P) (mb : Nat) (hM : mOk E T L P mb) (sg : MS) (x1 : Int32) (x2 : Int32) (x3 : Int32) (post : Int32 → MS → Prop) (w : wM_stop sg x1 x2 x3 post) : mMi l yX8_stop cX8_stop 4 (some .int) rM_stop E z T L V0 P mb [.ref mb, .int x1, .int x2, .int x3] sg post := by
  refine g_start (S := Unit) hfl (by decide +kernel) rfl [some (.ref mb), some (.int x1), some (.int x2), some (.int x3)] rfl (fun _ h => h) (Nat.le_of_ble_eq_true rfl) (fun X hl hRm hEe O hQ => ?_)
  subst hl
  subst hEe
  unfold wM_stop at w
  refine g_aload_n O dX8_stop_0 rfl ?_
  refine g_iconst (v := 0) O dX8_stop_1 (by decide) ?_
  refine gm_putI (j := 2) (ty := .int) O hM.1 rfl (by decide) q1730 rfl rfl rfl rfl dX8_stop_2 ?_
  refine g_aload_n O dX8_stop_5 rfl ?_
  refine g_iload_n O dX8_stop_6 rfl ?_
  refine gm_Vi0 (nA := 1) (As := [.int x1]) (rest := []) O hRm hM.1 (cM_isJudge _ O.2.2.2.2.2.2.2.2 _ _ _ _ _ _ _ hM (s2 sg 0 2 0) (x1) _ w) (lw_V q2171 q2173 qs96 q134 q2174) rfl rfl (by decide +kernel) ⟨Nat.le_of_ble_eq_true rfl, Nat.le_of_ble_eq_true rfl⟩ rfl rfl rfl (Nat.le_of_ble_eq_true rfl) dX8_stop_7 (fun r1 w => ?_)
  refine g_if_eq (tgt := 40) O w dX8_stop_10 (by decide) (fun w => ?_) (fun w => ?_)
  · refine g_drop [1, 2, 3] (lv' := [some (.ref mb), none, none, none]) rfl ?_
    exact vM_stop_40 O hRm hM (s2 sg 0 2 0)  post hQ w
  · refine g_iload_n O dX8_stop_13 rfl ?_
    refine g_i2l O dX8_stop_14 ?_
    refine g_lconst (v := 0) O dX8_stop_15 (by decide) ?_
    refine g_aload_n O dX8_stop_16 rfl ?_
    refine gm_getA (j := 8) O hM.1 rfl (by decide) q1736 dX8_stop_17 ?_
    refine g_iload_n O dX8_stop_20 rfl ?_
    obtain ⟨i5, hi6, e7, w⟩ := w
    refine gm_ald (j := 8) (len := 10) (nn := i5) O hM.1 rfl hi6 (by decide) e7 dX8_stop_21 ?_
    refine g_iconst (v := 1) O dX8_stop_22 (by decide) ?_
    refine g_isub O dX8_stop_23 ?_
    refine g_i2l O dX8_stop_24 ?_
    refine gm_Si0 (nA := 3) (As := [.long x2.toInt64, .long 0, .long (((s2 sg 0 2 0) 9 i5) - 1).toInt64]) (rest := []) O hRm (cM_isIn _ O.2.2.2.2.2.2.2.2 _ _ _ _ _ _ _ hM (s2 sg 0 2 0) (x2.toInt64) (0) ((((s2 sg 0 2 0) 9 i5) - 1).toInt64) _ w) (lw_S q2161 q2162 q134 q2163) rfl rfl (by decide +kernel) ⟨Nat.le_of_ble_eq_true rfl, Nat.le_of_ble_eq_true rfl⟩ rfl rfl rfl (Nat.le_of_ble_eq_true rfl) dX8_stop_25 (fun r8 w => ?_)
    refine g_if_eq (tgt := 40) O w dX8_stop_28 (by decide) (fun w => ?_) (fun w => ?_)
    · refine g_drop [1, 2, 3] (lv' := [some (.ref mb), none, none, none]) rfl ?_
      exact vM_stop_40 O hRm hM (s2 sg 0 2 0)  post hQ w
    · refine g_iload_n O dX8_stop_31 rfl ?_
      refine g_if_lt (tgt := 40) O w dX8_stop_32 (by decide) (fun w => ?_) (fun w => ?_)
      · refine g_drop [1, 2, 3] (lv' := [some (.ref mb), none, none, none]) rfl ?_
        exact vM_stop_40 O hRm hM (s2 sg 0 2 0)  post hQ w
      · refine g_iload_n O dX8_stop_35 rfl ?_
        refine g_iconst (v := 1) O dX8_stop_36 (by decide) ?_
        refine g_icmp_le (tgt := 46) O w dX8_stop_37 (by decide) (fun w => ?_) (fun w => ?_)
        · refine g_aload_n O dX8_stop_46 rfl ?_
          refine gm_Vv (nA := 0) (As := []) (rest := []) O hRm hM.1 (cM_set _ O.2.2.2.2.2.2.2.2 _ _ _ _ _ _ _ hM (s2 sg 0 2 0) _ w) (lw_V q2073 q2075 qs76 q134 q2076) rfl rfl (by decide +kernel) ⟨Nat.le_of_ble_eq_true rfl, Nat.le_of_ble_eq_true rfl⟩ rfl rfl rfl (Nat.le_of_ble_eq_true rfl) dX8_stop_47 (fun g11 w => ?_)
          refine g_aload_n O dX8_stop_50 rfl ?_
          refine gm_Vv (nA := 0) (As := []) (rest := []) O hRm hM.1 (cM_tellStops _ O.2.2.2.2.2.2.2.2 _ _ _ _ _ _ _ hM g11 _ w) (lw_V q2081 q2083 qs78 q134 q2084) rfl rfl (by decide +kernel) ⟨Nat.le_of_ble_eq_true rfl, Nat.le_of_ble_eq_true rfl⟩ rfl rfl rfl (Nat.le_of_ble_eq_true rfl) dX8_stop_51 (fun g13 w => ?_)
          refine g_iload_n O dX8_stop_54 rfl ?_
          refine g_if_ne (tgt := 72) O w dX8_stop_55 (by decide) (fun w => ?_) (fun w => ?_)
          · refine g_aload_n O dX8_stop_72 rfl ?_
            refine gm_getA (j := 38) O hM.1 rfl (by decide) q1766 dX8_stop_73 ?_
            refine g_bipush (v := 7) O dX8_stop_76 (by decide) ?_
            refine g_iload_n O dX8_stop_78 rfl ?_
            refine g_imul O dX8_stop_79 ?_
            refine g_iload_n O dX8_stop_80 rfl ?_
            refine g_iadd O dX8_stop_81 ?_
            obtain ⟨i14, hi15, e16, w⟩ := w
            refine gm_ald (j := 38) (len := 35) (nn := i14) O hM.1 rfl hi15 (by decide) e16 dX8_stop_82 ?_
            exact gm_iret O hQ rfl w dX8_stop_83
          · refine g_aload_n O dX8_stop_58 rfl ?_
            refine gm_getA (j := 37) O hM.1 rfl (by decide) q1765 dX8_stop_59 ?_
            refine g_bipush (v := 7) O dX8_stop_62 (by decide) ?_
            refine g_iload_n O dX8_stop_64 rfl ?_
            refine g_imul O dX8_stop_65 ?_
            refine g_iload_n O dX8_stop_66 rfl ?_
            refine g_iadd O dX8_stop_67 ?_
            obtain ⟨i17, hi18, e19, w⟩ := w
            refine gm_ald (j := 37) (len := 35) (nn := i17) O hM.1 rfl hi18 (by decide) e19 dX8_stop_68 ?_
            refine g_goto (tgt := 83) O dX8_stop_69 (by decide) ?_
            exact gm_iret O hQ rfl w dX8_stop_83
        · refine g_drop [1, 2, 3] (lv' := [some (.ref mb), none, none, none]) rfl ?_
          exact vM_stop_40 O hRm hM (s2 sg 0 2 0)  post hQ w
-- where
abbrev rM_where : Room := { frames := 3, cells := 0, slots := 0, locals := 58 }
set_option maxHeartbeats 4000000 in
theorem cM_where (l : Launch) (hfl : l.flags = flags0) (E : w_E) (z : Nat) (T L : Nat → Nat) (V0 : w_V) (P : w_P) (mb : Nat) (hM : mOk E T L P mb) (sg : MS) (x1 : Int32) (x2 : Int32) (post : Int32 → MS → Prop) (w : wM_where sg x1 x2 post) : mMi l yX8_where cX8_where 3 (some .int) rM_where E z T L V0 P mb [.ref mb, .int x1, .int x2] sg post := by
  refine g_start (S := Unit) hfl (by decide +kernel) rfl [some (.ref mb), some (.int x1), some (.int x2)] rfl (fun _ h => h) (Nat.le_of_ble_eq_true rfl) (fun X hl hRm hEe O hQ => ?_)
  subst hl
  subst hEe
  unfold wM_where at w
  refine g_aload_n O dX8_where_0 rfl ?_
  refine g_iconst (v := 0) O dX8_where_1 (by decide) ?_
  refine gm_putI (j := 2) (ty := .int) O hM.1 rfl (by decide) q1730 rfl rfl rfl rfl dX8_where_2 ?_
  refine g_aload_n O dX8_where_5 rfl ?_
  refine g_iload_n O dX8_where_6 rfl ?_
  refine gm_Vi0 (nA := 1) (As := [.int x1]) (rest := []) O hRm hM.1 (cM_isJudge _ O.2.2.2.2.2.2.2.2 _ _ _ _ _ _ _ hM (s2 sg 0 2 0) (x1) _ w) (lw_V q2171 q2173 qs96 q134 q2174) rfl rfl (by decide +kernel) ⟨Nat.le_of_ble_eq_true rfl, Nat.le_of_ble_eq_true rfl⟩ rfl rfl rfl (Nat.le_of_ble_eq_true rfl) dX8_where_7 (fun r1 w => ?_)
  refine g_if_ne (tgt := 19) O w dX8_where_10 (by decide) (fun w => ?_) (fun w => ?_)
  · refine g_aload_n O dX8_where_19 rfl ?_
    refine gm_Vv (nA := 0) (As := []) (rest := []) O hRm hM.1 (cM_set _ O.2.2.2.2.2.2.2.2 _ _ _ _ _ _ _ hM (s2 sg 0 2 0) _ w) (lw_V q2073 q2075 qs76 q134 q2076) rfl rfl (by decide +kernel) ⟨Nat.le_of_ble_eq_true rfl, Nat.le_of_ble_eq_true rfl⟩ rfl rfl rfl (Nat.le_of_ble_eq_true rfl) dX8_where_20 (fun g4 w => ?_)
    refine g_aload_n O dX8_where_23 rfl ?_
    refine gm_Vv (nA := 0) (As := []) (rest := []) O hRm hM.1 (cM_tellStops _ O.2.2.2.2.2.2.2.2 _ _ _ _ _ _ _ hM g4 _ w) (lw_V q2081 q2083 qs78 q134 q2084) rfl rfl (by decide +kernel) ⟨Nat.le_of_ble_eq_true rfl, Nat.le_of_ble_eq_true rfl⟩ rfl rfl rfl (Nat.le_of_ble_eq_true rfl) dX8_where_24 (fun g6 w => ?_)
    refine g_aload_n O dX8_where_27 rfl ?_
    refine g_iload_n O dX8_where_28 rfl ?_
    refine g_iload_n O dX8_where_29 rfl ?_
    refine gm_Vi0 (nA := 2) (As := [.int x1, .int x2]) (rest := []) O hRm hM.1 (cM_townOn _ O.2.2.2.2.2.2.2.2 _ _ _ _ _ _ _ hM g6 (x1) (x2) _ w) (lw_V q2089 q2091 qs80 q134 q2092) rfl rfl (by decide +kernel) ⟨Nat.le_of_ble_eq_true rfl, Nat.le_of_ble_eq_true rfl⟩ rfl rfl rfl (Nat.le_of_ble_eq_true rfl) dX8_where_30 (fun r7 w => ?_)
    exact gm_iret O hQ rfl w dX8_where_33
  · refine g_aload_n O dX8_where_13 rfl ?_
    refine g_iconst (v := 1) O dX8_where_14 (by decide) ?_
    refine gm_Vi (nA := 1) (As := [.int 1]) (rest := []) O hRm hM.1 (cM_fail _ O.2.2.2.2.2.2.2.2 _ _ _ _ _ _ _ hM (s2 sg 0 2 0) (1) _ w) (lw_V q1930 q1932 qs49 q134 q1933) rfl rfl (by decide +kernel) ⟨Nat.le_of_ble_eq_true rfl, Nat.le_of_ble_eq_true rfl⟩ rfl rfl rfl (Nat.le_of_ble_eq_true rfl) dX8_where_15 (fun r9 g10 w => ?_)
    exact gm_iret O hQ rfl w dX8_where_18
-- isCase
abbrev rM_isCase : Room := { frames := 2, cells := 0, slots := 0, locals := 37 }
set_option maxHeartbeats 4000000 in
theorem cM_isCase (l : Launch) (hfl : l.flags = flags0) (E : w_E) (z : Nat) (T L : Nat → Nat) (V0 : w_V) (P : w_P) (mb : Nat) (hM : mOk E T L P mb) (sg : MS) (x1 : Int32) (post : Int32 → Prop) (w : wM_isCase sg x1 post) : mMi0 l yX8_isCase cX8_isCase 2 (some .boolean) rM_isCase E z T L V0 P mb [.ref mb, .int x1] sg post := by
  refine g_start (S := Unit) hfl (by decide +kernel) rfl [some (.ref mb), some (.int x1)] rfl (fun _ h => h) (Nat.le_of_ble_eq_true rfl) (fun X hl hRm hEe O hQ => ?_)
  subst hl
  subst hEe
  unfold wM_isCase at w
  refine g_iload_n O dX8_isCase_0 rfl ?_
  refine g_i2l O dX8_isCase_1 ?_
  refine g_lconst (v := 0) O dX8_isCase_2 (by decide) ?_
  refine g_aload_n O dX8_isCase_3 rfl ?_
  refine gm_getA (j := 3) O hM.1 rfl (by decide) q1731 dX8_isCase_4 ?_
  refine g_iconst (v := 5) O dX8_isCase_7 (by decide) ?_
  refine gm_ald (j := 3) (len := 14) (nn := 5) O hM.1 rfl (by decide) (by decide) rfl dX8_isCase_8 ?_
  refine g_iconst (v := 1) O dX8_isCase_9 (by decide) ?_
  refine g_isub O dX8_isCase_10 ?_
  refine g_i2l O dX8_isCase_11 ?_
  refine gm_Si0 (nA := 3) (As := [.long x1.toInt64, .long 0, .long ((sg 4 5) - 1).toInt64]) (rest := []) O hRm (cM_isIn _ O.2.2.2.2.2.2.2.2 _ _ _ _ _ _ _ hM sg (x1.toInt64) (0) (((sg 4 5) - 1).toInt64) _ w) (lw_S q2161 q2162 q134 q2163) rfl rfl (by decide +kernel) ⟨Nat.le_of_ble_eq_true rfl, Nat.le_of_ble_eq_true rfl⟩ rfl rfl rfl (Nat.le_of_ble_eq_true rfl) dX8_isCase_12 (fun r1 w => ?_)
  exact gm_iret0 O hQ w.1 w.2 dX8_isCase_15
-- proof
abbrev rM_proof : Room := { frames := 3, cells := 0, slots := 0, locals := 58 }
set_option maxHeartbeats 4000000 in
theorem vM_proof_35 {X : Cx} {z : Nat} {T L : Nat → Nat} {V0 : w_V} {P : w_P} {mb : Nat} (O : Okc X cX8_proof RX8 3 (some .int)) (hRm : cxR X = rM_proof) (hM : mOk (cxE X) T L P mb) (sg : MS) (post : Int32 → MS → Prop) (hQ : cxMQ X (va_Qi post (fun u t => wdW (cxE X) (mW z T L V0 P mb u) t.heap) (w_A (cxE X))) 0 0) (w : jM_proof_35 sg post) : gW X 0 0 z T L (up1 V0 mb sg) P 35 [some (.ref mb), none, none] [] := by
  unfold jM_proof_35 at w
  refine g_aload_n O dX8_proof_35 rfl ?_
  refine g_iconst (v := 1) O dX8_proof_36 (by decide) ?_
  refine gm_Vi (nA := 1) (As := [.int 1]) (rest := []) O hRm hM.1 (cM_fail _ O.2.2.2.2.2.2.2.2 _ _ _ _ _ _ _ hM sg (1) _ w) (lw_V q1930 q1932 qs49 q134 q1933) rfl rfl (by decide +kernel) ⟨Nat.le_of_ble_eq_true rfl, Nat.le_of_ble_eq_true rfl⟩ rfl rfl rfl (Nat.le_of_ble_eq_true rfl) dX8_proof_37 (fun r3 g4 w => ?_)
  exact gm_iret O hQ rfl w dX8_proof_40
set_option maxHeartbeats 4000000 in
theorem cM_proof (l : Launch) (hfl : l.flags = flags0) (E : w_E) (z : Nat) (T L : Nat → Nat) (V0 : w_V) (P : w_P) (mb : Nat) (hM : mOk E T L P mb) (sg : MS) (x1 : Int32) (x2 : Int32) (post : Int32 → MS → Prop) (w : wM_proof sg x1 x2 post) : mMi l yX8_proof cX8_proof 3 (some .int) rM_proof E z T L V0 P mb [.ref mb, .int x1, .int x2] sg post := by
  refine g_start (S := Unit) hfl (by decide +kernel) rfl [some (.ref mb), some (.int x1), some (.int x2)] rfl (fun _ h => h) (Nat.le_of_ble_eq_true rfl) (fun X hl hRm hEe O hQ => ?_)
  subst hl
  subst hEe
  unfold wM_proof at w
  refine g_aload_n O dX8_proof_0 rfl ?_
  refine g_iconst (v := 0) O dX8_proof_1 (by decide) ?_
  refine gm_putI (j := 2) (ty := .int) O hM.1 rfl (by decide) q1730 rfl rfl rfl rfl dX8_proof_2 ?_
  refine g_aload_n O dX8_proof_5 rfl ?_
  refine g_iload_n O dX8_proof_6 rfl ?_
  refine gm_Vi0 (nA := 1) (As := [.int x1]) (rest := []) O hRm hM.1 (cM_isCase _ O.2.2.2.2.2.2.2.2 _ _ _ _ _ _ _ hM (s2 sg 0 2 0) (x1) _ w) (lw_V q2188 q2190 qs97 q134 q2191) rfl rfl (by decide +kernel) ⟨Nat.le_of_ble_eq_true rfl, Nat.le_of_ble_eq_true rfl⟩ rfl rfl rfl (Nat.le_of_ble_eq_true rfl) dX8_proof_7 (fun r1 w => ?_)
  refine g_if_eq (tgt := 35) O w dX8_proof_10 (by decide) (fun w => ?_) (fun w => ?_)
  · refine g_drop [1, 2] (lv' := [some (.ref mb), none, none]) rfl ?_
    exact vM_proof_35 O hRm hM (s2 sg 0 2 0)  post hQ w
  · refine g_aload_n O dX8_proof_13 rfl ?_
    refine g_iload_n O dX8_proof_14 rfl ?_
    refine gm_Vi0 (nA := 1) (As := [.int x2]) (rest := []) O hRm hM.1 (cM_isTown _ O.2.2.2.2.2.2.2.2 _ _ _ _ _ _ _ hM (s2 sg 0 2 0) (x2) _ w) (lw_V q2157 q2159 qs95 q134 q2160) rfl rfl (by decide +kernel) ⟨Nat.le_of_ble_eq_true rfl, Nat.le_of_ble_eq_true rfl⟩ rfl rfl rfl (Nat.le_of_ble_eq_true rfl) dX8_proof_15 (fun r5 w => ?_)
    refine g_if_eq (tgt := 35) O w dX8_proof_18 (by decide) (fun w => ?_) (fun w => ?_)
    · refine g_drop [1, 2] (lv' := [some (.ref mb), none, none]) rfl ?_
      exact vM_proof_35 O hRm hM (s2 sg 0 2 0)  post hQ w
    · refine g_aload_n O dX8_proof_21 rfl ?_
      refine gm_getA (j := 10) O hM.1 rfl (by decide) q1738 dX8_proof_22 ?_
      refine g_bipush (v := 9) O dX8_proof_25 (by decide) ?_
      refine g_iload_n O dX8_proof_27 rfl ?_
      refine g_imul O dX8_proof_28 ?_
      refine g_iload_n O dX8_proof_29 rfl ?_
      refine g_iadd O dX8_proof_30 ?_
      obtain ⟨i7, hi8, e9, w⟩ := w
      refine gm_ald (j := 10) (len := 108) (nn := i7) O hM.1 rfl hi8 (by decide) e9 dX8_proof_31 ?_
      refine g_goto (tgt := 40) O dX8_proof_32 (by decide) ?_
      exact gm_iret O hQ rfl w dX8_proof_40
-- said
abbrev rM_said : Room := { frames := 9, cells := 0, slots := 0, locals := 197 }
set_option maxHeartbeats 4000000 in
theorem vM_said_33 {X : Cx} {z : Nat} {T L : Nat → Nat} {V0 : w_V} {P : w_P} {mb : Nat} (O : Okc X cX8_said RX8 5 (some .int)) (hRm : cxR X = rM_said) (hM : mOk (cxE X) T L P mb) (sg : MS) (post : Int32 → MS → Prop) (hQ : cxMQ X (va_Qi post (fun u t => wdW (cxE X) (mW z T L V0 P mb u) t.heap) (w_A (cxE X))) 0 0) (w : jM_said_33 sg post) : gW X 0 0 z T L (up1 V0 mb sg) P 33 [some (.ref mb), none, none, none, none] [] := by
  unfold jM_said_33 at w
  refine g_aload_n O dX8_said_33 rfl ?_
  refine g_iconst (v := 1) O dX8_said_34 (by decide) ?_
  refine gm_Vi (nA := 1) (As := [.int 1]) (rest := []) O hRm hM.1 (cM_fail _ O.2.2.2.2.2.2.2.2 _ _ _ _ _ _ _ hM sg (1) _ w) (lw_V q1930 q1932 qs49 q134 q1933) rfl rfl (by decide +kernel) ⟨Nat.le_of_ble_eq_true rfl, Nat.le_of_ble_eq_true rfl⟩ rfl rfl rfl (Nat.le_of_ble_eq_true rfl) dX8_said_35 (fun r3 g4 w => ?_)
  exact gm_iret O hQ rfl w dX8_said_38
set_option maxHeartbeats 4000000 in
theorem cM_said (l : Launch) (hfl : l.flags = flags0) (E : w_E) (z : Nat) (T L : Nat → Nat) (V0 : w_V) (P : w_P) (mb : Nat) (hM : mOk E T L P mb) (sg : MS) (x1 : Int32) (x2 : Int32) (x3 : Int32) (post : Int32 → MS → Prop) (w : wM_said sg x1 x2 x3 post) : mMi l yX8_said cX8_said 5 (some .int) rM_said E z T L V0 P mb [.ref mb, .int x1, .int x2, .int x3] sg post := by
  refine g_start (S := Unit) hfl (by decide +kernel) rfl [some (.ref mb), some (.int x1), some (.int x2), some (.int x3), none] rfl (fun _ h => h) (Nat.le_of_ble_eq_true rfl) (fun X hl hRm hEe O hQ => ?_)
  subst hl
  subst hEe
  unfold wM_said at w
  refine g_aload_n O dX8_said_0 rfl ?_
  refine g_iconst (v := 0) O dX8_said_1 (by decide) ?_
  refine gm_putI (j := 2) (ty := .int) O hM.1 rfl (by decide) q1730 rfl rfl rfl rfl dX8_said_2 ?_
  refine g_aload_n O dX8_said_5 rfl ?_
  refine g_iload_n O dX8_said_6 rfl ?_
  refine gm_Vi0 (nA := 1) (As := [.int x1]) (rest := []) O hRm hM.1 (cM_isCase _ O.2.2.2.2.2.2.2.2 _ _ _ _ _ _ _ hM (s2 sg 0 2 0) (x1) _ w) (lw_V q2188 q2190 qs97 q134 q2191) rfl rfl (by decide +kernel) ⟨Nat.le_of_ble_eq_true rfl, Nat.le_of_ble_eq_true rfl⟩ rfl rfl rfl (Nat.le_of_ble_eq_true rfl) dX8_said_7 (fun r1 w => ?_)
  refine g_if_eq (tgt := 33) O w dX8_said_10 (by decide) (fun w => ?_) (fun w => ?_)
  · refine g_drop [1, 2, 3] (lv' := [some (.ref mb), none, none, none, none]) rfl ?_
    exact vM_said_33 O hRm hM (s2 sg 0 2 0)  post hQ w
  · refine g_aload_n O dX8_said_13 rfl ?_
    refine g_iload_n O dX8_said_14 rfl ?_
    refine gm_Vi0 (nA := 1) (As := [.int x2]) (rest := []) O hRm hM.1 (cM_isJudge _ O.2.2.2.2.2.2.2.2 _ _ _ _ _ _ _ hM (s2 sg 0 2 0) (x2) _ w) (lw_V q2171 q2173 qs96 q134 q2174) rfl rfl (by decide +kernel) ⟨Nat.le_of_ble_eq_true rfl, Nat.le_of_ble_eq_true rfl⟩ rfl rfl rfl (Nat.le_of_ble_eq_true rfl) dX8_said_15 (fun r5 w => ?_)
    refine g_if_eq (tgt := 33) O w dX8_said_18 (by decide) (fun w => ?_) (fun w => ?_)
    · refine g_drop [1, 2, 3] (lv' := [some (.ref mb), none, none, none, none]) rfl ?_
      exact vM_said_33 O hRm hM (s2 sg 0 2 0)  post hQ w
    · refine g_iload_n O dX8_said_21 rfl ?_
      refine g_i2l O dX8_said_22 ?_
      refine g_lconst (v := 0) O dX8_said_23 (by decide) ?_
      refine g_ldc2 O q2196 dX8_said_24 ?_
      refine gm_Si0 (nA := 3) (As := [.long x3.toInt64, .long 0, .long 3]) (rest := []) O hRm (cM_isIn _ O.2.2.2.2.2.2.2.2 _ _ _ _ _ _ _ hM (s2 sg 0 2 0) (x3.toInt64) (0) (3) _ w) (lw_S q2161 q2162 q134 q2163) rfl rfl (by decide +kernel) ⟨Nat.le_of_ble_eq_true rfl, Nat.le_of_ble_eq_true rfl⟩ rfl rfl rfl (Nat.le_of_ble_eq_true rfl) dX8_said_27 (fun r7 w => ?_)
      refine g_if_ne (tgt := 39) O w dX8_said_30 (by decide) (fun w => ?_) (fun w => ?_)
      · refine g_aload_n O dX8_said_39 rfl ?_
        refine gm_Vi (nA := 0) (As := []) (rest := []) O hRm hM.1 (cM_tellNow _ O.2.2.2.2.2.2.2.2 _ _ _ _ _ _ _ hM (s2 sg 0 2 0) _ w) (lw_V q2069 q2071 qs75 q134 q2072) rfl rfl (by decide +kernel) ⟨Nat.le_of_ble_eq_true rfl, Nat.le_of_ble_eq_true rfl⟩ rfl rfl rfl (Nat.le_of_ble_eq_true rfl) dX8_said_40 (fun r9 g10 w => ?_)
        refine g_pop O dX8_said_43 rfl ?_
        refine g_iconst (v := 5) O dX8_said_44 (by decide) ?_
        refine g_iload_n O dX8_said_45 rfl ?_
        refine g_imul O dX8_said_46 ?_
        refine g_iload_n O dX8_said_47 rfl ?_
        refine g_iadd O dX8_said_48 ?_
        refine g_istore O dX8_said_49 (Nat.le_of_ble_eq_true rfl) rfl (lv' := [some (.ref mb), some (.int x1), some (.int x2), some (.int x3), some (.int ((5 * x1) + x2))]) rfl ?_
        refine g_iload_n O dX8_said_51 rfl ?_
        refine g_iconst (v := 3) O dX8_said_52 (by decide) ?_
        refine g_icmp_ne (tgt := 64) O w dX8_said_53 (by decide) (fun w => ?_) (fun w => ?_)
        · refine g_aload_n O dX8_said_64 rfl ?_
          refine gm_getA (j := 44) O hM.1 rfl (by decide) q1772 dX8_said_65 ?_
          refine g_iload O dX8_said_68 rfl ?_
          obtain ⟨i11, hi12, e13, w⟩ := w
          refine gm_ald (j := 44) (len := 30) (nn := i11) O hM.1 rfl hi12 (by decide) e13 dX8_said_70 ?_
          refine g_iconst (v := (-1)) O dX8_said_71 (by decide) ?_
          refine g_icmp_ne (tgt := 79) O w dX8_said_72 (by decide) (fun w => ?_) (fun w => ?_)
          · refine g_iload_n O dX8_said_79 rfl ?_
            refine g_if_ne (tgt := 93) O w dX8_said_80 (by decide) (fun w => ?_) (fun w => ?_)
            · refine g_iload_n O dX8_said_93 rfl ?_
              refine g_iconst (v := 1) O dX8_said_94 (by decide) ?_
              refine g_icmp_ne (tgt := 108) O w dX8_said_95 (by decide) (fun w => ?_) (fun w => ?_)
              · refine g_aload_n O dX8_said_108 rfl ?_
                refine gm_getA (j := 46) O hM.1 rfl (by decide) q1774 dX8_said_109 ?_
                refine g_iload O dX8_said_112 rfl ?_
                obtain ⟨i14, hi15, e16, w⟩ := w
                refine gm_ald (j := 46) (len := 30) (nn := i14) O hM.1 rfl hi15 (by decide) e16 dX8_said_114 ?_
                exact gm_iret O hQ rfl w dX8_said_115
              · refine g_aload_n O dX8_said_98 rfl ?_
                refine gm_getA (j := 45) O hM.1 rfl (by decide) q1773 dX8_said_99 ?_
                refine g_iload O dX8_said_102 rfl ?_
                obtain ⟨i17, hi18, e19, w⟩ := w
                refine gm_ald (j := 45) (len := 30) (nn := i17) O hM.1 rfl hi18 (by decide) e19 dX8_said_104 ?_
                refine g_goto (tgt := 115) O dX8_said_105 (by decide) ?_
                exact gm_iret O hQ rfl w dX8_said_115
            · refine g_aload_n O dX8_said_83 rfl ?_
              refine gm_getA (j := 44) O hM.1 rfl (by decide) q1772 dX8_said_84 ?_
              refine g_iload O dX8_said_87 rfl ?_
              obtain ⟨i20, hi21, e22, w⟩ := w
              refine gm_ald (j := 44) (len := 30) (nn := i20) O hM.1 rfl hi21 (by decide) e22 dX8_said_89 ?_
              refine g_goto (tgt := 115) O dX8_said_90 (by decide) ?_
              exact gm_iret O hQ rfl w dX8_said_115
          · refine g_iconst (v := (-1)) O dX8_said_75 (by decide) ?_
            refine g_goto (tgt := 115) O dX8_said_76 (by decide) ?_
            exact gm_iret O hQ rfl w dX8_said_115
        · refine g_aload_n O dX8_said_56 rfl ?_
          refine gm_getA (j := 47) O hM.1 rfl (by decide) q1775 dX8_said_57 ?_
          refine g_iload O dX8_said_60 rfl ?_
          obtain ⟨i23, hi24, e25, w⟩ := w
          refine gm_ald (j := 47) (len := 30) (nn := i23) O hM.1 rfl hi24 (by decide) e25 dX8_said_62 ?_
          exact gm_iret O hQ rfl w dX8_said_63
      · refine g_drop [1, 2, 3] (lv' := [some (.ref mb), none, none, none, none]) rfl ?_
        exact vM_said_33 O hRm hM (s2 sg 0 2 0)  post hQ w
-- met
abbrev rM_met : Room := { frames := 9, cells := 0, slots := 0, locals := 197 }
set_option maxHeartbeats 4000000 in
theorem vM_met_21 {X : Cx} {z : Nat} {T L : Nat → Nat} {V0 : w_V} {P : w_P} {mb : Nat} (O : Okc X cX8_met RX8 3 (some .int)) (hRm : cxR X = rM_met) (hM : mOk (cxE X) T L P mb) (sg : MS) (post : Int32 → MS → Prop) (hQ : cxMQ X (va_Qi post (fun u t => wdW (cxE X) (mW z T L V0 P mb u) t.heap) (w_A (cxE X))) 0 0) (w : jM_met_21 sg post) : gW X 0 0 z T L (up1 V0 mb sg) P 21 [some (.ref mb), none, none] [] := by
  unfold jM_met_21 at w
  refine g_aload_n O dX8_met_21 rfl ?_
  refine g_iconst (v := 1) O dX8_met_22 (by decide) ?_
  refine gm_Vi (nA := 1) (As := [.int 1]) (rest := []) O hRm hM.1 (cM_fail _ O.2.2.2.2.2.2.2.2 _ _ _ _ _ _ _ hM sg (1) _ w) (lw_V q1930 q1932 qs49 q134 q1933) rfl rfl (by decide +kernel) ⟨Nat.le_of_ble_eq_true rfl, Nat.le_of_ble_eq_true rfl⟩ rfl rfl rfl (Nat.le_of_ble_eq_true rfl) dX8_met_23 (fun r3 g4 w => ?_)
  exact gm_iret O hQ rfl w dX8_met_26
set_option maxHeartbeats 4000000 in
theorem cM_met (l : Launch) (hfl : l.flags = flags0) (E : w_E) (z : Nat) (T L : Nat → Nat) (V0 : w_V) (P : w_P) (mb : Nat) (hM : mOk E T L P mb) (sg : MS) (x1 : Int32) (x2 : Int32) (post : Int32 → MS → Prop) (w : wM_met sg x1 x2 post) : mMi l yX8_met cX8_met 3 (some .int) rM_met E z T L V0 P mb [.ref mb, .int x1, .int x2] sg post := by
  refine g_start (S := Unit) hfl (by decide +kernel) rfl [some (.ref mb), some (.int x1), some (.int x2)] rfl (fun _ h => h) (Nat.le_of_ble_eq_true rfl) (fun X hl hRm hEe O hQ => ?_)
  subst hl
  subst hEe
  unfold wM_met at w
  refine g_aload_n O dX8_met_0 rfl ?_
  refine g_iconst (v := 0) O dX8_met_1 (by decide) ?_
  refine gm_putI (j := 2) (ty := .int) O hM.1 rfl (by decide) q1730 rfl rfl rfl rfl dX8_met_2 ?_
  refine g_aload_n O dX8_met_5 rfl ?_
  refine g_iload_n O dX8_met_6 rfl ?_
  refine gm_Vi0 (nA := 1) (As := [.int x1]) (rest := []) O hRm hM.1 (cM_isJudge _ O.2.2.2.2.2.2.2.2 _ _ _ _ _ _ _ hM (s2 sg 0 2 0) (x1) _ w) (lw_V q2171 q2173 qs96 q134 q2174) rfl rfl (by decide +kernel) ⟨Nat.le_of_ble_eq_true rfl, Nat.le_of_ble_eq_true rfl⟩ rfl rfl rfl (Nat.le_of_ble_eq_true rfl) dX8_met_7 (fun r1 w => ?_)
  refine g_if_eq (tgt := 21) O w dX8_met_10 (by decide) (fun w => ?_) (fun w => ?_)
  · refine g_drop [1, 2] (lv' := [some (.ref mb), none, none]) rfl ?_
    exact vM_met_21 O hRm hM (s2 sg 0 2 0)  post hQ w
  · refine g_aload_n O dX8_met_13 rfl ?_
    refine g_iload_n O dX8_met_14 rfl ?_
    refine gm_Vi0 (nA := 1) (As := [.int x2]) (rest := []) O hRm hM.1 (cM_isJudge _ O.2.2.2.2.2.2.2.2 _ _ _ _ _ _ _ hM (s2 sg 0 2 0) (x2) _ w) (lw_V q2171 q2173 qs96 q134 q2174) rfl rfl (by decide +kernel) ⟨Nat.le_of_ble_eq_true rfl, Nat.le_of_ble_eq_true rfl⟩ rfl rfl rfl (Nat.le_of_ble_eq_true rfl) dX8_met_15 (fun r5 w => ?_)
    refine g_if_ne (tgt := 27) O w dX8_met_18 (by decide) (fun w => ?_) (fun w => ?_)
    · refine g_iload_n O dX8_met_27 rfl ?_
      refine g_iload_n O dX8_met_28 rfl ?_
      refine g_icmp_ne (tgt := 38) O w dX8_met_29 (by decide) (fun w => ?_) (fun w => ?_)
      · refine g_aload_n O dX8_met_38 rfl ?_
        refine gm_Vi (nA := 0) (As := []) (rest := []) O hRm hM.1 (cM_tellNow _ O.2.2.2.2.2.2.2.2 _ _ _ _ _ _ _ hM (s2 sg 0 2 0) _ w) (lw_V q2069 q2071 qs75 q134 q2072) rfl rfl (by decide +kernel) ⟨Nat.le_of_ble_eq_true rfl, Nat.le_of_ble_eq_true rfl⟩ rfl rfl rfl (Nat.le_of_ble_eq_true rfl) dX8_met_39 (fun r7 g8 w => ?_)
        refine g_pop O dX8_met_42 rfl ?_
        refine g_aload_n O dX8_met_43 rfl ?_
        refine gm_getA (j := 39) O hM.1 rfl (by decide) q1767 dX8_met_44 ?_
        refine g_iconst (v := 5) O dX8_met_47 (by decide) ?_
        refine g_iload_n O dX8_met_48 rfl ?_
        refine g_imul O dX8_met_49 ?_
        refine g_iload_n O dX8_met_50 rfl ?_
        refine g_iadd O dX8_met_51 ?_
        obtain ⟨i9, hi10, e11, w⟩ := w
        refine gm_ald (j := 39) (len := 25) (nn := i9) O hM.1 rfl hi10 (by decide) e11 dX8_met_52 ?_
        refine gm_Si0 (nA := 1) (As := [.int (g8 40 i9)]) (rest := []) O hRm (cM_orNone _ O.2.2.2.2.2.2.2.2 _ _ _ _ _ _ _ hM g8 ((g8 40 i9)) _ w) (lw_S q2164 q2165 q134 q2166) rfl rfl (by decide +kernel) ⟨Nat.le_of_ble_eq_true rfl, Nat.le_of_ble_eq_true rfl⟩ rfl rfl rfl (Nat.le_of_ble_eq_true rfl) dX8_met_53 (fun r12 w => ?_)
        exact gm_iret O hQ rfl w dX8_met_56
      · refine g_aload_n O dX8_met_32 rfl ?_
        refine g_iconst (v := 2) O dX8_met_33 (by decide) ?_
        refine gm_Vi (nA := 1) (As := [.int 2]) (rest := []) O hRm hM.1 (cM_fail _ O.2.2.2.2.2.2.2.2 _ _ _ _ _ _ _ hM (s2 sg 0 2 0) (2) _ w) (lw_V q1930 q1932 qs49 q134 q1933) rfl rfl (by decide +kernel) ⟨Nat.le_of_ble_eq_true rfl, Nat.le_of_ble_eq_true rfl⟩ rfl rfl rfl (Nat.le_of_ble_eq_true rfl) dX8_met_34 (fun r14 g15 w => ?_)
        exact gm_iret O hQ rfl w dX8_met_37
    · refine g_drop [1, 2] (lv' := [some (.ref mb), none, none]) rfl ?_
      exact vM_met_21 O hRm hM (s2 sg 0 2 0)  post hQ w
-- guilty
abbrev rM_guilty : Room := { frames := 9, cells := 0, slots := 0, locals := 197 }
set_option maxHeartbeats 4000000 in
theorem vM_guilty_22 {X : Cx} {z : Nat} {T L : Nat → Nat} {V0 : w_V} {P : w_P} {mb : Nat} (O : Okc X cX8_guilty RX8 3 (some .int)) (hRm : cxR X = rM_guilty) (hM : mOk (cxE X) T L P mb) (sg : MS) (post : Int32 → MS → Prop) (hQ : cxMQ X (va_Qi post (fun u t => wdW (cxE X) (mW z T L V0 P mb u) t.heap) (w_A (cxE X))) 0 0) (w : jM_guilty_22 sg post) : gW X 0 0 z T L (up1 V0 mb sg) P 22 [some (.ref mb), none, none] [] := by
  unfold jM_guilty_22 at w
  refine g_aload_n O dX8_guilty_22 rfl ?_
  refine g_iconst (v := 1) O dX8_guilty_23 (by decide) ?_
  refine gm_Vi (nA := 1) (As := [.int 1]) (rest := []) O hRm hM.1 (cM_fail _ O.2.2.2.2.2.2.2.2 _ _ _ _ _ _ _ hM sg (1) _ w) (lw_V q1930 q1932 qs49 q134 q1933) rfl rfl (by decide +kernel) ⟨Nat.le_of_ble_eq_true rfl, Nat.le_of_ble_eq_true rfl⟩ rfl rfl rfl (Nat.le_of_ble_eq_true rfl) dX8_guilty_24 (fun r3 g4 w => ?_)
  exact gm_iret O hQ rfl w dX8_guilty_27
set_option maxHeartbeats 4000000 in
theorem cM_guilty (l : Launch) (hfl : l.flags = flags0) (E : w_E) (z : Nat) (T L : Nat → Nat) (V0 : w_V) (P : w_P) (mb : Nat) (hM : mOk E T L P mb) (sg : MS) (x1 : Int32) (x2 : Int32) (post : Int32 → MS → Prop) (w : wM_guilty sg x1 x2 post) : mMi l yX8_guilty cX8_guilty 3 (some .int) rM_guilty E z T L V0 P mb [.ref mb, .int x1, .int x2] sg post := by
  refine g_start (S := Unit) hfl (by decide +kernel) rfl [some (.ref mb), some (.int x1), some (.int x2)] rfl (fun _ h => h) (Nat.le_of_ble_eq_true rfl) (fun X hl hRm hEe O hQ => ?_)
  subst hl
  subst hEe
  unfold wM_guilty at w
  refine g_aload_n O dX8_guilty_0 rfl ?_
  refine g_iconst (v := 0) O dX8_guilty_1 (by decide) ?_
  refine gm_putI (j := 2) (ty := .int) O hM.1 rfl (by decide) q1730 rfl rfl rfl rfl dX8_guilty_2 ?_
  refine g_aload_n O dX8_guilty_5 rfl ?_
  refine g_iload_n O dX8_guilty_6 rfl ?_
  refine gm_Vi0 (nA := 1) (As := [.int x1]) (rest := []) O hRm hM.1 (cM_isCase _ O.2.2.2.2.2.2.2.2 _ _ _ _ _ _ _ hM (s2 sg 0 2 0) (x1) _ w) (lw_V q2188 q2190 qs97 q134 q2191) rfl rfl (by decide +kernel) ⟨Nat.le_of_ble_eq_true rfl, Nat.le_of_ble_eq_true rfl⟩ rfl rfl rfl (Nat.le_of_ble_eq_true rfl) dX8_guilty_7 (fun r1 w => ?_)
  refine g_if_eq (tgt := 22) O w dX8_guilty_10 (by decide) (fun w => ?_) (fun w => ?_)
  · refine g_drop [1, 2] (lv' := [some (.ref mb), none, none]) rfl ?_
    exact vM_guilty_22 O hRm hM (s2 sg 0 2 0)  post hQ w
  · refine g_iload_n O dX8_guilty_13 rfl ?_
    refine g_if_lt (tgt := 22) O w dX8_guilty_14 (by decide) (fun w => ?_) (fun w => ?_)
    · refine g_drop [1, 2] (lv' := [some (.ref mb), none, none]) rfl ?_
      exact vM_guilty_22 O hRm hM (s2 sg 0 2 0)  post hQ w
    · refine g_iload_n O dX8_guilty_17 rfl ?_
      refine g_iconst (v := 1) O dX8_guilty_18 (by decide) ?_
      refine g_icmp_le (tgt := 28) O w dX8_guilty_19 (by decide) (fun w => ?_) (fun w => ?_)
      · refine g_aload_n O dX8_guilty_28 rfl ?_
        refine gm_Vi (nA := 0) (As := []) (rest := []) O hRm hM.1 (cM_tellNow _ O.2.2.2.2.2.2.2.2 _ _ _ _ _ _ _ hM (s2 sg 0 2 0) _ w) (lw_V q2069 q2071 qs75 q134 q2072) rfl rfl (by decide +kernel) ⟨Nat.le_of_ble_eq_true rfl, Nat.le_of_ble_eq_true rfl⟩ rfl rfl rfl (Nat.le_of_ble_eq_true rfl) dX8_guilty_29 (fun r5 g6 w => ?_)
        refine g_pop O dX8_guilty_32 rfl ?_
        refine g_iload_n O dX8_guilty_33 rfl ?_
        refine g_if_ne (tgt := 49) O w dX8_guilty_34 (by decide) (fun w => ?_) (fun w => ?_)
        · refine g_aload_n O dX8_guilty_49 rfl ?_
          refine gm_getA (j := 49) O hM.1 rfl (by decide) q1777 dX8_guilty_50 ?_
          refine g_iload_n O dX8_guilty_53 rfl ?_
          obtain ⟨i7, hi8, e9, w⟩ := w
          refine gm_ald (j := 49) (len := 6) (nn := i7) O hM.1 rfl hi8 (by decide) e9 dX8_guilty_54 ?_
          exact gm_iret O hQ rfl w dX8_guilty_55
        · refine g_aload_n O dX8_guilty_37 rfl ?_
          refine gm_getA (j := 48) O hM.1 rfl (by decide) q1776 dX8_guilty_38 ?_
          refine g_iload_n O dX8_guilty_41 rfl ?_
          obtain ⟨i10, hi11, e12, w⟩ := w
          refine gm_ald (j := 48) (len := 6) (nn := i10) O hM.1 rfl hi11 (by decide) e12 dX8_guilty_42 ?_
          refine gm_Si0 (nA := 1) (As := [.int (g6 49 i10)]) (rest := []) O hRm (cM_orNone _ O.2.2.2.2.2.2.2.2 _ _ _ _ _ _ _ hM g6 ((g6 49 i10)) _ w) (lw_S q2164 q2165 q134 q2166) rfl rfl (by decide +kernel) ⟨Nat.le_of_ble_eq_true rfl, Nat.le_of_ble_eq_true rfl⟩ rfl rfl rfl (Nat.le_of_ble_eq_true rfl) dX8_guilty_43 (fun r13 w => ?_)
          refine g_goto (tgt := 55) O dX8_guilty_46 (by decide) ?_
          exact gm_iret O hQ rfl w dX8_guilty_55
      · refine g_drop [1, 2] (lv' := [some (.ref mb), none, none]) rfl ?_
        exact vM_guilty_22 O hRm hM (s2 sg 0 2 0)  post hQ w
-- news
abbrev rM_news : Room := { frames := 9, cells := 0, slots := 0, locals := 197 }
set_option maxHeartbeats 4000000 in
theorem vM_news_21 {X : Cx} {z : Nat} {T L : Nat → Nat} {V0 : w_V} {P : w_P} {mb : Nat} (O : Okc X cX8_news RX8 5 (some .int)) (hRm : cxR X = rM_news) (hM : mOk (cxE X) T L P mb) (sg : MS) (post : Int32 → MS → Prop) (hQ : cxMQ X (va_Qi post (fun u t => wdW (cxE X) (mW z T L V0 P mb u) t.heap) (w_A (cxE X))) 0 0) (w : jM_news_21 sg post) : gW X 0 0 z T L (up1 V0 mb sg) P 21 [some (.ref mb), none, none, none, none] [] := by
  unfold jM_news_21 at w
  refine g_aload_n O dX8_news_21 rfl ?_
  refine g_iconst (v := 1) O dX8_news_22 (by decide) ?_
  refine gm_Vi (nA := 1) (As := [.int 1]) (rest := []) O hRm hM.1 (cM_fail _ O.2.2.2.2.2.2.2.2 _ _ _ _ _ _ _ hM sg (1) _ w) (lw_V q1930 q1932 qs49 q134 q1933) rfl rfl (by decide +kernel) ⟨Nat.le_of_ble_eq_true rfl, Nat.le_of_ble_eq_true rfl⟩ rfl rfl rfl (Nat.le_of_ble_eq_true rfl) dX8_news_23 (fun r3 g4 w => ?_)
  exact gm_iret O hQ rfl w dX8_news_26
set_option maxHeartbeats 4000000 in
theorem vM_news_42 {X : Cx} {z : Nat} {T L : Nat → Nat} {V0 : w_V} {P : w_P} {mb : Nat} (O : Okc X cX8_news RX8 5 (some .int)) (hRm : cxR X = rM_news) (hM : mOk (cxE X) T L P mb) (x1 : Int32) (x2 : Int32) (post : Int32 → MS → Prop) (hQ : cxMQ X (va_Qi post (fun u t => wdW (cxE X) (mW z T L V0 P mb u) t.heap) (w_A (cxE X))) 0 0) (ke_72 : Int32 → MS → Prop) (hke_72 : ∀ (y3 : Int32) (sg : MS), ke_72 y3 sg → gW X 0 0 z T L (up1 V0 mb sg) P 72 [some (.ref mb), none, none, some (.int y3), none] [])  : ∀ (n : Nat) (x3 : Int32) (x4 : Int32) (sg : MS), lM_news_42 x1 x2 post ke_72 n x3 x4 sg → gW X 0 0 z T L (up1 V0 mb sg) P 42 [some (.ref mb), some (.int x1), some (.int x2), some (.int x3), some (.int x4)] [] := by
  intro n
  induction n with
  | zero =>
    intro x3 x4 sg w
    exact w.elim
  | succ n ih =>
    intro x3 x4 sg w
    unfold lM_news_42 at w
    refine g_iload O dX8_news_42 rfl ?_
    refine g_aload_n O dX8_news_44 rfl ?_
    refine gm_getA (j := 3) O hM.1 rfl (by decide) q1731 dX8_news_45 ?_
    refine g_iconst (v := 4) O dX8_news_48 (by decide) ?_
    refine gm_ald (j := 3) (len := 14) (nn := 4) O hM.1 rfl (by decide) (by decide) rfl dX8_news_49 ?_
    refine g_icmp_ge (tgt := 72) O w dX8_news_50 (by decide) (fun w => ?_) (fun w => ?_)
    · refine g_drop [1, 2, 4] (lv' := [some (.ref mb), none, none, some (.int x3), none]) rfl ?_
      exact hke_72 (x3) (sg) w
    · refine g_iload_n O dX8_news_53 rfl ?_
      refine g_aload_n O dX8_news_54 rfl ?_
      refine g_iload_n O dX8_news_55 rfl ?_
      refine g_iload O dX8_news_56 rfl ?_
      refine g_iload_n O dX8_news_58 rfl ?_
      refine gm_Vi0 (nA := 3) (As := [.int x1, .int x4, .int x2]) (rest := [.int x3]) O hRm hM.1 (cM_newsBy _ O.2.2.2.2.2.2.2.2 _ _ _ _ _ _ _ hM sg (x1) (x4) (x2) _ w) (lw_V q2140 q2142 qs92 q134 q2143) rfl rfl (by decide +kernel) ⟨Nat.le_of_ble_eq_true rfl, Nat.le_of_ble_eq_true rfl⟩ rfl rfl rfl (Nat.le_of_ble_eq_true rfl) dX8_news_59 (fun r11 w => ?_)
      refine g_mmin O q1949 hRm (Nat.le_of_ble_eq_true rfl) (Nat.le_of_ble_eq_true rfl) ⟨Nat.le_of_ble_eq_true rfl, Nat.le_of_ble_eq_true rfl⟩ rfl dX8_news_62 ?_
      refine g_istore_n O dX8_news_65 (Nat.le_of_ble_eq_true rfl) rfl (lv' := [some (.ref mb), some (.int x1), some (.int x2), some (.int (if r11 < x3 then r11 else x3)), some (.int x4)]) rfl ?_
      refine g_iinc (v := (x4 + 1)) O dX8_news_66 rfl rfl rfl (lv' := [some (.ref mb), some (.int x1), some (.int x2), some (.int (if r11 < x3 then r11 else x3)), some (.int (x4 + 1))]) rfl ?_
      refine g_goto (tgt := 42) O dX8_news_69 (by decide) ?_
      exact ih ((if r11 < x3 then r11 else x3)) ((x4 + 1)) (sg) w
set_option maxHeartbeats 4000000 in
theorem cM_news (l : Launch) (hfl : l.flags = flags0) (E : w_E) (z : Nat) (T L : Nat → Nat) (V0 : w_V) (P : w_P) (mb : Nat) (hM : mOk E T L P mb) (sg : MS) (x1 : Int32) (x2 : Int32) (post : Int32 → MS → Prop) (w : wM_news sg x1 x2 post) : mMi l yX8_news cX8_news 5 (some .int) rM_news E z T L V0 P mb [.ref mb, .int x1, .int x2] sg post := by
  refine g_start (S := Unit) hfl (by decide +kernel) rfl [some (.ref mb), some (.int x1), some (.int x2), none, none] rfl (fun _ h => h) (Nat.le_of_ble_eq_true rfl) (fun X hl hRm hEe O hQ => ?_)
  subst hl
  subst hEe
  unfold wM_news at w
  refine g_aload_n O dX8_news_0 rfl ?_
  refine g_iconst (v := 0) O dX8_news_1 (by decide) ?_
  refine gm_putI (j := 2) (ty := .int) O hM.1 rfl (by decide) q1730 rfl rfl rfl rfl dX8_news_2 ?_
  refine g_aload_n O dX8_news_5 rfl ?_
  refine g_iload_n O dX8_news_6 rfl ?_
  refine gm_Vi0 (nA := 1) (As := [.int x1]) (rest := []) O hRm hM.1 (cM_isCase _ O.2.2.2.2.2.2.2.2 _ _ _ _ _ _ _ hM (s2 sg 0 2 0) (x1) _ w) (lw_V q2188 q2190 qs97 q134 q2191) rfl rfl (by decide +kernel) ⟨Nat.le_of_ble_eq_true rfl, Nat.le_of_ble_eq_true rfl⟩ rfl rfl rfl (Nat.le_of_ble_eq_true rfl) dX8_news_7 (fun r1 w => ?_)
  refine g_if_eq (tgt := 21) O w dX8_news_10 (by decide) (fun w => ?_) (fun w => ?_)
  · refine g_drop [1, 2] (lv' := [some (.ref mb), none, none, none, none]) rfl ?_
    exact vM_news_21 O hRm hM (s2 sg 0 2 0)  post hQ w
  · refine g_aload_n O dX8_news_13 rfl ?_
    refine g_iload_n O dX8_news_14 rfl ?_
    refine gm_Vi0 (nA := 1) (As := [.int x2]) (rest := []) O hRm hM.1 (cM_isTown _ O.2.2.2.2.2.2.2.2 _ _ _ _ _ _ _ hM (s2 sg 0 2 0) (x2) _ w) (lw_V q2157 q2159 qs95 q134 q2160) rfl rfl (by decide +kernel) ⟨Nat.le_of_ble_eq_true rfl, Nat.le_of_ble_eq_true rfl⟩ rfl rfl rfl (Nat.le_of_ble_eq_true rfl) dX8_news_15 (fun r5 w => ?_)
    refine g_if_ne (tgt := 27) O w dX8_news_18 (by decide) (fun w => ?_) (fun w => ?_)
    · refine g_aload_n O dX8_news_27 rfl ?_
      refine gm_Vi (nA := 0) (As := []) (rest := []) O hRm hM.1 (cM_tellNow _ O.2.2.2.2.2.2.2.2 _ _ _ _ _ _ _ hM (s2 sg 0 2 0) _ w) (lw_V q2069 q2071 qs75 q134 q2072) rfl rfl (by decide +kernel) ⟨Nat.le_of_ble_eq_true rfl, Nat.le_of_ble_eq_true rfl⟩ rfl rfl rfl (Nat.le_of_ble_eq_true rfl) dX8_news_28 (fun r7 g8 w => ?_)
      refine g_pop O dX8_news_31 rfl ?_
      refine g_aload_n O dX8_news_32 rfl ?_
      refine g_iload_n O dX8_news_33 rfl ?_
      refine g_iload_n O dX8_news_34 rfl ?_
      refine gm_Vi0 (nA := 2) (As := [.int x1, .int x2]) (rest := []) O hRm hM.1 (cM_newsByWord _ O.2.2.2.2.2.2.2.2 _ _ _ _ _ _ _ hM g8 (x1) (x2) _ w) (lw_V q2132 q2134 qs90 q134 q2135) rfl rfl (by decide +kernel) ⟨Nat.le_of_ble_eq_true rfl, Nat.le_of_ble_eq_true rfl⟩ rfl rfl rfl (Nat.le_of_ble_eq_true rfl) dX8_news_35 (fun r9 w => ?_)
      refine g_istore_n O dX8_news_38 (Nat.le_of_ble_eq_true rfl) rfl (lv' := [some (.ref mb), some (.int x1), some (.int x2), some (.int r9), none]) rfl ?_
      refine g_iconst (v := 0) O dX8_news_39 (by decide) ?_
      refine g_istore O dX8_news_40 (Nat.le_of_ble_eq_true rfl) rfl (lv' := [some (.ref mb), some (.int x1), some (.int x2), some (.int r9), some (.int 0)]) rfl ?_
      obtain ⟨n17, w⟩ := w
      refine vM_news_42 O hRm hM x1 x2 post hQ _ (fun y13 g14 w => ?_) n17 r9 0 g8 w
      refine g_iload_n O dX8_news_72 rfl ?_
      refine gm_Si0 (nA := 1) (As := [.int y13]) (rest := []) O hRm (cM_orNone _ O.2.2.2.2.2.2.2.2 _ _ _ _ _ _ _ hM g14 (y13) _ w) (lw_S q2164 q2165 q134 q2166) rfl rfl (by decide +kernel) ⟨Nat.le_of_ble_eq_true rfl, Nat.le_of_ble_eq_true rfl⟩ rfl rfl rfl (Nat.le_of_ble_eq_true rfl) dX8_news_73 (fun r15 w => ?_)
      exact gm_iret O hQ rfl w dX8_news_76
    · refine g_drop [1, 2] (lv' := [some (.ref mb), none, none, none, none]) rfl ?_
      exact vM_news_21 O hRm hM (s2 sg 0 2 0)  post hQ w
-- pack
abbrev rM_pack : Room := { frames := 1, cells := 0, slots := 0, locals := 12 }
set_option maxHeartbeats 4000000 in
theorem vM_pack_5 {X : Cx} {z : Nat} {T L : Nat → Nat} {V0 : w_V} {P : w_P} {mb : Nat} (O : Okc X cX8_pack RX8 5 none) (hRm : cxR X = rM_pack) (hM : mOk (cxE X) T L P mb) (a1 o1 n1 : Nat) (h1 : aOk a1 o1 n1) (x3 : Int32) (post : MS → Prop) (hQ : cxMQ X (va_Qv post (fun u t => wdW (cxE X) (mW z T L V0 P mb u) t.heap) (w_A (cxE X))) 0 0) (ke_30 : MS → Prop) (hke_30 : ∀ (sg : MS), ke_30 sg → gW X 0 0 z T L (up1 V0 mb sg) P 30 [some (.ref mb), some (.ref (mb + o1)), none, some (.int x3), none] [])  : ∀ (n : Nat) (x4 : Int32) (sg : MS), lM_pack_5 a1 n1 x3 post ke_30 n x4 sg → gW X 0 0 z T L (up1 V0 mb sg) P 5 [some (.ref mb), some (.ref (mb + o1)), none, some (.int x3), some (.int x4)] [] := by
  intro n
  induction n with
  | zero =>
    intro x4 sg w
    exact w.elim
  | succ n ih =>
    intro x4 sg w
    unfold lM_pack_5 at w
    refine g_iload O dX8_pack_5 rfl ?_
    refine g_iconst (v := 5) O dX8_pack_7 (by decide) ?_
    refine g_icmp_ge (tgt := 30) O w dX8_pack_8 (by decide) (fun w => ?_) (fun w => ?_)
    · refine g_drop [4] (lv' := [some (.ref mb), some (.ref (mb + o1)), none, some (.int x3), none]) rfl ?_
      exact hke_30  (sg) w
    · refine g_aload_n O dX8_pack_11 rfl ?_
      refine g_iload_n O dX8_pack_12 rfl ?_
      refine g_iload O dX8_pack_13 rfl ?_
      refine g_iadd O dX8_pack_15 ?_
      refine g_aload_n O dX8_pack_16 rfl ?_
      refine gm_getA (j := 6) O hM.1 rfl (by decide) q1734 dX8_pack_17 ?_
      refine g_iload O dX8_pack_20 rfl ?_
      obtain ⟨i1, hi2, e3, w⟩ := w
      refine gm_ald (j := 6) (len := 10) (nn := i1) O hM.1 rfl hi2 (by decide) e3 dX8_pack_22 ?_
      obtain ⟨i4, hi5, e6, w⟩ := w
      refine gm_ast (j := a1) (len := n1) (nn := i4) O hM.1 h1.1 hi5 h1.2 e6 dX8_pack_23 ?_
      refine g_iinc (v := (x4 + 1)) O dX8_pack_24 rfl rfl rfl (lv' := [some (.ref mb), some (.ref (mb + o1)), none, some (.int x3), some (.int (x4 + 1))]) rfl ?_
      refine g_goto (tgt := 5) O dX8_pack_27 (by decide) ?_
      exact ih ((x4 + 1)) ((s2 sg (a1 + 1) i4 (sg 7 i1))) w
set_option maxHeartbeats 4000000 in
theorem vM_pack_73 {X : Cx} {z : Nat} {T L : Nat → Nat} {V0 : w_V} {P : w_P} {mb : Nat} (O : Okc X cX8_pack RX8 5 none) (hRm : cxR X = rM_pack) (hM : mOk (cxE X) T L P mb) (a1 o1 n1 : Nat) (h1 : aOk a1 o1 n1) (x3 : Int32) (post : MS → Prop) (hQ : cxMQ X (va_Qv post (fun u t => wdW (cxE X) (mW z T L V0 P mb u) t.heap) (w_A (cxE X))) 0 0)  : ∀ (n : Nat) (x4 : Int32) (sg : MS), lM_pack_73 a1 n1 x3 post n x4 sg → gW X 0 0 z T L (up1 V0 mb sg) P 73 [some (.ref mb), some (.ref (mb + o1)), none, some (.int x3), some (.int x4)] [] := by
  intro n
  induction n with
  | zero =>
    intro x4 sg w
    exact w.elim
  | succ n ih =>
    intro x4 sg w
    unfold lM_pack_73 at w
    refine g_iload O dX8_pack_73 rfl ?_
    refine g_bipush (v := 12) O dX8_pack_75 (by decide) ?_
    refine g_icmp_ge (tgt := 131) O w dX8_pack_77 (by decide) (fun w => ?_) (fun w => ?_)
    · exact gm_vret O hQ w dX8_pack_131
    · refine g_aload_n O dX8_pack_80 rfl ?_
      refine g_iload_n O dX8_pack_81 rfl ?_
      refine g_iload O dX8_pack_82 rfl ?_
      refine g_iadd O dX8_pack_84 ?_
      refine g_aload_n O dX8_pack_85 rfl ?_
      refine gm_getA (j := 25) O hM.1 rfl (by decide) q1753 dX8_pack_86 ?_
      refine g_iload O dX8_pack_89 rfl ?_
      obtain ⟨i20, hi21, e22, w⟩ := w
      refine gm_ald (j := 25) (len := 15) (nn := i20) O hM.1 rfl hi21 (by decide) e22 dX8_pack_91 ?_
      obtain ⟨i23, hi24, e25, w⟩ := w
      refine gm_ast (j := a1) (len := n1) (nn := i23) O hM.1 h1.1 hi24 h1.2 e25 dX8_pack_92 ?_
      refine g_aload_n O dX8_pack_93 rfl ?_
      refine g_iload_n O dX8_pack_94 rfl ?_
      refine g_bipush (v := 12) O dX8_pack_95 (by decide) ?_
      refine g_iadd O dX8_pack_97 ?_
      refine g_iload O dX8_pack_98 rfl ?_
      refine g_iadd O dX8_pack_100 ?_
      refine g_aload_n O dX8_pack_101 rfl ?_
      refine gm_getA (j := 26) O hM.1 rfl (by decide) q1754 dX8_pack_102 ?_
      refine g_iload O dX8_pack_105 rfl ?_
      obtain ⟨i26, hi27, e28, w⟩ := w
      refine gm_ald (j := 26) (len := 12) (nn := i26) O hM.1 rfl hi27 (by decide) e28 dX8_pack_107 ?_
      obtain ⟨i29, hi30, e31, w⟩ := w
      refine gm_ast (j := a1) (len := n1) (nn := i29) O hM.1 h1.1 hi30 h1.2 e31 dX8_pack_108 ?_
      refine g_aload_n O dX8_pack_109 rfl ?_
      refine g_iload_n O dX8_pack_110 rfl ?_
      refine g_bipush (v := 24) O dX8_pack_111 (by decide) ?_
      refine g_iadd O dX8_pack_113 ?_
      refine g_iload O dX8_pack_114 rfl ?_
      refine g_iadd O dX8_pack_116 ?_
      refine g_aload_n O dX8_pack_117 rfl ?_
      refine gm_getA (j := 27) O hM.1 rfl (by decide) q1755 dX8_pack_118 ?_
      refine g_iload O dX8_pack_121 rfl ?_
      obtain ⟨i32, hi33, e34, w⟩ := w
      refine gm_ald (j := 27) (len := 18) (nn := i32) O hM.1 rfl hi33 (by decide) e34 dX8_pack_123 ?_
      obtain ⟨i35, hi36, e37, w⟩ := w
      refine gm_ast (j := a1) (len := n1) (nn := i35) O hM.1 h1.1 hi36 h1.2 e37 dX8_pack_124 ?_
      refine g_iinc (v := (x4 + 1)) O dX8_pack_125 rfl rfl rfl (lv' := [some (.ref mb), some (.ref (mb + o1)), none, some (.int x3), some (.int (x4 + 1))]) rfl ?_
      refine g_goto (tgt := 73) O dX8_pack_128 (by decide) ?_
      exact ih ((x4 + 1)) ((s2 (s2 (s2 sg (a1 + 1) i23 (sg 26 i20)) (a1 + 1) i29 ((s2 sg (a1 + 1) i23 (sg 26 i20)) 27 i26)) (a1 + 1) i35 ((s2 (s2 sg (a1 + 1) i23 (sg 26 i20)) (a1 + 1) i29 ((s2 sg (a1 + 1) i23 (sg 26 i20)) 27 i26)) 28 i32))) w
set_option maxHeartbeats 4000000 in
theorem cM_pack (l : Launch) (hfl : l.flags = flags0) (E : w_E) (z : Nat) (T L : Nat → Nat) (V0 : w_V) (P : w_P) (mb : Nat) (hM : mOk E T L P mb) (sg : MS) (a1 o1 n1 : Nat) (h1 : aOk a1 o1 n1) (x2 : Int32) (post : MS → Prop) (w : wM_pack sg a1 n1 x2 post) : mMv l yX8_pack cX8_pack 5 none rM_pack E z T L V0 P mb [.ref mb, .ref (mb + o1), .int x2] sg post := by
  refine g_start (S := Unit) hfl (by decide +kernel) rfl [some (.ref mb), some (.ref (mb + o1)), some (.int x2), none, none] rfl (fun _ h => h) (Nat.le_of_ble_eq_true rfl) (fun X hl hRm hEe O hQ => ?_)
  subst hl
  subst hEe
  unfold wM_pack at w
  refine g_iload_n O dX8_pack_0 rfl ?_
  refine g_istore_n O dX8_pack_1 (Nat.le_of_ble_eq_true rfl) rfl (lv' := [some (.ref mb), some (.ref (mb + o1)), some (.int x2), some (.int x2), none]) rfl ?_
  refine g_iconst (v := 0) O dX8_pack_2 (by decide) ?_
  refine g_istore O dX8_pack_3 (Nat.le_of_ble_eq_true rfl) rfl (lv' := [some (.ref mb), some (.ref (mb + o1)), some (.int x2), some (.int x2), some (.int 0)]) rfl ?_
  obtain ⟨n39, w⟩ := w
  refine g_drop [2] (lv' := [some (.ref mb), some (.ref (mb + o1)), none, some (.int x2), some (.int 0)]) rfl ?_
  refine vM_pack_5 O hRm hM a1 o1 n1 h1 x2 post hQ _ (fun g7 w => ?_) n39 0 sg w
  refine g_iinc (v := (x2 + 5)) O dX8_pack_30 rfl rfl rfl (lv' := [some (.ref mb), some (.ref (mb + o1)), none, some (.int (x2 + 5)), none]) rfl ?_
  refine g_aload_n O dX8_pack_33 rfl ?_
  refine g_iload_n O dX8_pack_34 rfl ?_
  refine g_aload_n O dX8_pack_35 rfl ?_
  refine gm_getI (j := 29) O hM.1 rfl (by decide) q1757 dX8_pack_36 ?_
  obtain ⟨i8, hi9, e10, w⟩ := w
  refine gm_ast (j := a1) (len := n1) (nn := i8) O hM.1 h1.1 hi9 h1.2 e10 dX8_pack_39 ?_
  refine g_aload_n O dX8_pack_40 rfl ?_
  refine g_iload_n O dX8_pack_41 rfl ?_
  refine g_iconst (v := 1) O dX8_pack_42 (by decide) ?_
  refine g_iadd O dX8_pack_43 ?_
  refine g_aload_n O dX8_pack_44 rfl ?_
  refine gm_getI (j := 30) O hM.1 rfl (by decide) q1758 dX8_pack_45 ?_
  obtain ⟨i11, hi12, e13, w⟩ := w
  refine gm_ast (j := a1) (len := n1) (nn := i11) O hM.1 h1.1 hi12 h1.2 e13 dX8_pack_48 ?_
  refine g_aload_n O dX8_pack_49 rfl ?_
  refine g_iload_n O dX8_pack_50 rfl ?_
  refine g_iconst (v := 2) O dX8_pack_51 (by decide) ?_
  refine g_iadd O dX8_pack_52 ?_
  refine g_aload_n O dX8_pack_53 rfl ?_
  refine gm_getI (j := 31) O hM.1 rfl (by decide) q1759 dX8_pack_54 ?_
  obtain ⟨i14, hi15, e16, w⟩ := w
  refine gm_ast (j := a1) (len := n1) (nn := i14) O hM.1 h1.1 hi15 h1.2 e16 dX8_pack_57 ?_
  refine g_aload_n O dX8_pack_58 rfl ?_
  refine g_iload_n O dX8_pack_59 rfl ?_
  refine g_iconst (v := 3) O dX8_pack_60 (by decide) ?_
  refine g_iadd O dX8_pack_61 ?_
  refine g_aload_n O dX8_pack_62 rfl ?_
  refine gm_getI (j := 32) O hM.1 rfl (by decide) q1760 dX8_pack_63 ?_
  obtain ⟨i17, hi18, e19, w⟩ := w
  refine gm_ast (j := a1) (len := n1) (nn := i17) O hM.1 h1.1 hi18 h1.2 e19 dX8_pack_66 ?_
  refine g_iinc (v := ((x2 + 5) + 4)) O dX8_pack_67 rfl rfl rfl (lv' := [some (.ref mb), some (.ref (mb + o1)), none, some (.int ((x2 + 5) + 4)), none]) rfl ?_
  refine g_iconst (v := 0) O dX8_pack_70 (by decide) ?_
  refine g_istore O dX8_pack_71 (Nat.le_of_ble_eq_true rfl) rfl (lv' := [some (.ref mb), some (.ref (mb + o1)), none, some (.int ((x2 + 5) + 4)), some (.int 0)]) rfl ?_
  obtain ⟨n38, w⟩ := w
  exact vM_pack_73 O hRm hM a1 o1 n1 h1 ((x2 + 5) + 4) post hQ n38 0 (s2 (s2 (s2 (s2 g7 (a1 + 1) i8 (g7 0 29)) (a1 + 1) i11 ((s2 g7 (a1 + 1) i8 (g7 0 29)) 0 30)) (a1 + 1) i14 ((s2 (s2 g7 (a1 + 1) i8 (g7 0 29)) (a1 + 1) i11 ((s2 g7 (a1 + 1) i8 (g7 0 29)) 0 30)) 0 31)) (a1 + 1) i17 ((s2 (s2 (s2 g7 (a1 + 1) i8 (g7 0 29)) (a1 + 1) i11 ((s2 g7 (a1 + 1) i8 (g7 0 29)) 0 30)) (a1 + 1) i14 ((s2 (s2 g7 (a1 + 1) i8 (g7 0 29)) (a1 + 1) i11 ((s2 g7 (a1 + 1) i8 (g7 0 29)) 0 30)) 0 31)) 0 32)) w
-- keep
abbrev rM_keep : Room := { frames := 2, cells := 0, slots := 0, locals := 36 }
set_option maxHeartbeats 4000000 in
theorem vM_keep_52 {X : Cx} {z : Nat} {T L : Nat → Nat} {V0 : w_V} {P : w_P} {mb : Nat} (O : Okc X cX8_keep RX8 2 none) (hRm : cxR X = rM_keep) (hM : mOk (cxE X) T L P mb) (sg : MS) (post : MS → Prop) (hQ : cxMQ X (va_Qv post (fun u t => wdW (cxE X) (mW z T L V0 P mb u) t.heap) (w_A (cxE X))) 0 0) (w : jM_keep_52 sg post) : gW X 0 0 z T L (up1 V0 mb sg) P 52 [some (.ref mb), none] [] := by
  unfold jM_keep_52 at w
  refine g_aload_n O dX8_keep_52 rfl ?_
  refine g_aload_n O dX8_keep_53 rfl ?_
  refine gm_getA (j := 28) O hM.1 rfl (by decide) q1756 dX8_keep_54 ?_
  refine g_bipush (v := 45) O dX8_keep_57 (by decide) ?_
  refine g_aload_n O dX8_keep_59 rfl ?_
  refine gm_getI (j := 33) O hM.1 rfl (by decide) q1761 dX8_keep_60 ?_
  refine g_imul O dX8_keep_63 ?_
  refine gm_Vv (nA := 2) (As := [.ref (mb + 18), .int (45 * (sg 0 33))]) (rest := []) O hRm hM.1 (cM_pack _ O.2.2.2.2.2.2.2.2 _ _ _ _ _ _ _ hM sg 28 18 1800 ⟨rfl, by decide⟩ ((45 * (sg 0 33))) _ w) (lw_V q2222 q2224 qs100 q134 q2225) rfl rfl (by decide +kernel) ⟨Nat.le_of_ble_eq_true rfl, Nat.le_of_ble_eq_true rfl⟩ rfl rfl rfl (Nat.le_of_ble_eq_true rfl) dX8_keep_64 (fun g2 w => ?_)
  refine g_aload_n O dX8_keep_67 rfl ?_
  refine g_dup O dX8_keep_68 rfl ?_
  refine gm_getI (j := 33) O hM.1 rfl (by decide) q1761 dX8_keep_69 ?_
  refine g_iconst (v := 1) O dX8_keep_72 (by decide) ?_
  refine g_iadd O dX8_keep_73 ?_
  refine gm_putI (j := 33) (ty := .int) O hM.1 rfl (by decide) q1761 rfl rfl rfl rfl dX8_keep_74 ?_
  exact gm_vret O hQ w dX8_keep_77
set_option maxHeartbeats 4000000 in
theorem vM_keep_12 {X : Cx} {z : Nat} {T L : Nat → Nat} {V0 : w_V} {P : w_P} {mb : Nat} (O : Okc X cX8_keep RX8 2 none) (hRm : cxR X = rM_keep) (hM : mOk (cxE X) T L P mb) (post : MS → Prop) (hQ : cxMQ X (va_Qv post (fun u t => wdW (cxE X) (mW z T L V0 P mb u) t.heap) (w_A (cxE X))) 0 0) (ke_42 : MS → Prop) (hke_42 : ∀ (sg : MS), ke_42 sg → gW X 0 0 z T L (up1 V0 mb sg) P 42 [some (.ref mb), none] [])  : ∀ (n : Nat) (x1 : Int32) (sg : MS), lM_keep_12 post ke_42 n x1 sg → gW X 0 0 z T L (up1 V0 mb sg) P 12 [some (.ref mb), some (.int x1)] [] := by
  intro n
  induction n with
  | zero =>
    intro x1 sg w
    exact w.elim
  | succ n ih =>
    intro x1 sg w
    unfold lM_keep_12 at w
    refine g_iload_n O dX8_keep_12 rfl ?_
    refine g_aload_n O dX8_keep_13 rfl ?_
    refine gm_getA (j := 28) O hM.1 rfl (by decide) q1756 dX8_keep_14 ?_
    refine gm_alen (j := 28) (len := 1800) O hM.1 rfl dX8_keep_17 ?_
    refine g_icmp_ge (tgt := 42) O w dX8_keep_18 (by decide) (fun w => ?_) (fun w => ?_)
    · refine g_drop [1] (lv' := [some (.ref mb), none]) rfl ?_
      exact hke_42  (sg) w
    · refine g_aload_n O dX8_keep_21 rfl ?_
      refine gm_getA (j := 28) O hM.1 rfl (by decide) q1756 dX8_keep_22 ?_
      refine g_iload_n O dX8_keep_25 rfl ?_
      refine g_bipush (v := 45) O dX8_keep_26 (by decide) ?_
      refine g_isub O dX8_keep_28 ?_
      refine g_aload_n O dX8_keep_29 rfl ?_
      refine gm_getA (j := 28) O hM.1 rfl (by decide) q1756 dX8_keep_30 ?_
      refine g_iload_n O dX8_keep_33 rfl ?_
      obtain ⟨i3, hi4, e5, w⟩ := w
      refine gm_ald (j := 28) (len := 1800) (nn := i3) O hM.1 rfl hi4 (by decide) e5 dX8_keep_34 ?_
      obtain ⟨i6, hi7, e8, w⟩ := w
      refine gm_ast (j := 28) (len := 1800) (nn := i6) O hM.1 rfl hi7 (by decide) e8 dX8_keep_35 ?_
      refine g_iinc (v := (x1 + 1)) O dX8_keep_36 rfl rfl rfl (lv' := [some (.ref mb), some (.int (x1 + 1))]) rfl ?_
      refine g_goto (tgt := 12) O dX8_keep_39 (by decide) ?_
      exact ih ((x1 + 1)) ((s2 sg 29 i6 (sg 29 i3))) w
set_option maxHeartbeats 4000000 in
theorem cM_keep (l : Launch) (hfl : l.flags = flags0) (E : w_E) (z : Nat) (T L : Nat → Nat) (V0 : w_V) (P : w_P) (mb : Nat) (hM : mOk E T L P mb) (sg : MS) (post : MS → Prop) (w : wM_keep sg post) : mMv l yX8_keep cX8_keep 2 none rM_keep E z T L V0 P mb [.ref mb] sg post := by
  refine g_start (S := Unit) hfl (by decide +kernel) rfl [some (.ref mb), none] rfl (fun _ h => h) (Nat.le_of_ble_eq_true rfl) (fun X hl hRm hEe O hQ => ?_)
  subst hl
  subst hEe
  unfold wM_keep at w
  refine g_aload_n O dX8_keep_0 rfl ?_
  refine gm_getI (j := 33) O hM.1 rfl (by decide) q1761 dX8_keep_1 ?_
  refine g_bipush (v := 40) O dX8_keep_4 (by decide) ?_
  refine g_icmp_ne (tgt := 52) O w dX8_keep_6 (by decide) (fun w => ?_) (fun w => ?_)
  · exact vM_keep_52 O hRm hM sg  post hQ w
  · refine g_bipush (v := 45) O dX8_keep_9 (by decide) ?_
    refine g_istore_n O dX8_keep_11 (Nat.le_of_ble_eq_true rfl) rfl (lv' := [some (.ref mb), some (.int 45)]) rfl ?_
    obtain ⟨n10, w⟩ := w
    refine vM_keep_12 O hRm hM post hQ _ (fun g9 w => ?_) n10 45 sg w
    refine g_aload_n O dX8_keep_42 rfl ?_
    refine g_dup O dX8_keep_43 rfl ?_
    refine gm_getI (j := 33) O hM.1 rfl (by decide) q1761 dX8_keep_44 ?_
    refine g_iconst (v := 1) O dX8_keep_47 (by decide) ?_
    refine g_isub O dX8_keep_48 ?_
    refine gm_putI (j := 33) (ty := .int) O hM.1 rfl (by decide) q1761 rfl rfl rfl rfl dX8_keep_49 ?_
    exact vM_keep_52 O hRm hM (s2 g9 0 33 ((g9 0 33) - 1))  post hQ w
-- refuse
abbrev rM_refuse : Room := { frames := 1, cells := 0, slots := 0, locals := 12 }
set_option maxHeartbeats 4000000 in
theorem cM_refuse (l : Launch) (hfl : l.flags = flags0) (E : w_E) (z : Nat) (T L : Nat → Nat) (V0 : w_V) (P : w_P) (mb : Nat) (hM : mOk E T L P mb) (sg : MS) (x1 : Int32) (post : Int32 → MS → Prop) (w : wM_refuse sg x1 post) : mMi l yX8_refuse cX8_refuse 2 (some .int) rM_refuse E z T L V0 P mb [.ref mb, .int x1] sg post := by
  refine g_start (S := Unit) hfl (by decide +kernel) rfl [some (.ref mb), some (.int x1)] rfl (fun _ h => h) (Nat.le_of_ble_eq_true rfl) (fun X hl hRm hEe O hQ => ?_)
  subst hl
  subst hEe
  unfold wM_refuse at w
  refine g_aload_n O dX8_refuse_0 rfl ?_
  refine gm_getA (j := 12) O hM.1 rfl (by decide) q1740 dX8_refuse_1 ?_
  refine g_iload_n O dX8_refuse_4 rfl ?_
  refine g_dup2 O dX8_refuse_5 rfl rfl ?_
  obtain ⟨i1, hi2, e3, w⟩ := w
  refine gm_ald (j := 12) (len := 3) (nn := i1) O hM.1 rfl hi2 (by decide) e3 dX8_refuse_6 ?_
  refine g_iconst (v := 1) O dX8_refuse_7 (by decide) ?_
  refine g_iadd O dX8_refuse_8 ?_
  obtain ⟨i4, hi5, e6, w⟩ := w
  refine gm_ast (j := 12) (len := 3) (nn := i4) O hM.1 rfl hi5 (by decide) e6 dX8_refuse_9 ?_
  refine g_iconst (v := (-1)) O dX8_refuse_10 (by decide) ?_
  exact gm_iret O hQ rfl w dX8_refuse_11
-- start
abbrev rM_start : Room := { frames := 3, cells := 0, slots := 0, locals := 58 }
set_option maxHeartbeats 4000000 in
theorem cM_start (l : Launch) (hfl : l.flags = flags0) (E : w_E) (z : Nat) (T L : Nat → Nat) (V0 : w_V) (P : w_P) (mb : Nat) (hM : mOk E T L P mb) (sg : MS) (x1 : Int32) (x2 : Int32) (post : Int32 → MS → Prop) (w : wM_start sg x1 x2 post) : mMi l yX8_start cX8_start 4 (some .int) rM_start E z T L V0 P mb [.ref mb, .int x1, .int x2] sg post := by
  refine g_start (S := Unit) hfl (by decide +kernel) rfl [some (.ref mb), some (.int x1), some (.int x2), none] rfl (fun _ h => h) (Nat.le_of_ble_eq_true rfl) (fun X hl hRm hEe O hQ => ?_)
  subst hl
  subst hEe
  unfold wM_start at w
  refine g_aload_n O dX8_start_0 rfl ?_
  refine g_iconst (v := 0) O dX8_start_1 (by decide) ?_
  refine gm_putI (j := 2) (ty := .int) O hM.1 rfl (by decide) q1730 rfl rfl rfl rfl dX8_start_2 ?_
  refine g_aload_n O dX8_start_5 rfl ?_
  refine g_iload_n O dX8_start_6 rfl ?_
  refine gm_Vi0 (nA := 1) (As := [.int x1]) (rest := []) O hRm hM.1 (cM_isJudge _ O.2.2.2.2.2.2.2.2 _ _ _ _ _ _ _ hM (s2 sg 0 2 0) (x1) _ w) (lw_V q2171 q2173 qs96 q134 q2174) rfl rfl (by decide +kernel) ⟨Nat.le_of_ble_eq_true rfl, Nat.le_of_ble_eq_true rfl⟩ rfl rfl rfl (Nat.le_of_ble_eq_true rfl) dX8_start_7 (fun r1 w => ?_)
  refine g_if_ne (tgt := 19) O w dX8_start_10 (by decide) (fun w => ?_) (fun w => ?_)
  · refine g_iload_n O dX8_start_19 rfl ?_
    refine g_i2l O dX8_start_20 ?_
    refine g_lconst (v := 0) O dX8_start_21 (by decide) ?_
    refine g_ldc2 O q2213 dX8_start_22 ?_
    refine gm_Si0 (nA := 3) (As := [.long x2.toInt64, .long 0, .long 60]) (rest := []) O hRm (cM_isIn _ O.2.2.2.2.2.2.2.2 _ _ _ _ _ _ _ hM (s2 sg 0 2 0) (x2.toInt64) (0) (60) _ w) (lw_S q2161 q2162 q134 q2163) rfl rfl (by decide +kernel) ⟨Nat.le_of_ble_eq_true rfl, Nat.le_of_ble_eq_true rfl⟩ rfl rfl rfl (Nat.le_of_ble_eq_true rfl) dX8_start_25 (fun r3 w => ?_)
    refine g_if_ne (tgt := 37) O w dX8_start_28 (by decide) (fun w => ?_) (fun w => ?_)
    · refine g_aload_n O dX8_start_37 rfl ?_
      refine gm_Vv (nA := 0) (As := []) (rest := []) O hRm hM.1 (cM_keep _ O.2.2.2.2.2.2.2.2 _ _ _ _ _ _ _ hM (s2 sg 0 2 0) _ w) (lw_V q2218 q2220 qs99 q134 q2221) rfl rfl (by decide +kernel) ⟨Nat.le_of_ble_eq_true rfl, Nat.le_of_ble_eq_true rfl⟩ rfl rfl rfl (Nat.le_of_ble_eq_true rfl) dX8_start_38 (fun g6 w => ?_)
      refine g_aload_n O dX8_start_41 rfl ?_
      refine gm_getA (j := 6) O hM.1 rfl (by decide) q1734 dX8_start_42 ?_
      refine g_iload_n O dX8_start_45 rfl ?_
      obtain ⟨i7, hi8, e9, w⟩ := w
      refine gm_ald (j := 6) (len := 10) (nn := i7) O hM.1 rfl hi8 (by decide) e9 dX8_start_46 ?_
      refine g_istore_n O dX8_start_47 (Nat.le_of_ble_eq_true rfl) rfl (lv' := [some (.ref mb), some (.int x1), some (.int x2), some (.int (g6 7 i7))]) rfl ?_
      refine g_aload_n O dX8_start_48 rfl ?_
      refine gm_getA (j := 6) O hM.1 rfl (by decide) q1734 dX8_start_49 ?_
      refine g_iload_n O dX8_start_52 rfl ?_
      refine g_iload_n O dX8_start_53 rfl ?_
      obtain ⟨i10, hi11, e12, w⟩ := w
      refine gm_ast (j := 6) (len := 10) (nn := i10) O hM.1 rfl hi11 (by decide) e12 dX8_start_54 ?_
      refine g_iload_n O dX8_start_55 rfl ?_
      exact gm_iret O hQ rfl w dX8_start_56
    · refine g_aload_n O dX8_start_31 rfl ?_
      refine g_iconst (v := 1) O dX8_start_32 (by decide) ?_
      refine gm_Vi (nA := 1) (As := [.int 1]) (rest := []) O hRm hM.1 (cM_refuse _ O.2.2.2.2.2.2.2.2 _ _ _ _ _ _ _ hM (s2 sg 0 2 0) (1) _ w) (lw_V q2214 q2216 qs98 q134 q2217) rfl rfl (by decide +kernel) ⟨Nat.le_of_ble_eq_true rfl, Nat.le_of_ble_eq_true rfl⟩ rfl rfl rfl (Nat.le_of_ble_eq_true rfl) dX8_start_33 (fun r13 g14 w => ?_)
      exact gm_iret O hQ rfl w dX8_start_36
  · refine g_aload_n O dX8_start_13 rfl ?_
    refine g_iconst (v := 1) O dX8_start_14 (by decide) ?_
    refine gm_Vi (nA := 1) (As := [.int 1]) (rest := []) O hRm hM.1 (cM_fail _ O.2.2.2.2.2.2.2.2 _ _ _ _ _ _ _ hM (s2 sg 0 2 0) (1) _ w) (lw_V q1930 q1932 qs49 q134 q1933) rfl rfl (by decide +kernel) ⟨Nat.le_of_ble_eq_true rfl, Nat.le_of_ble_eq_true rfl⟩ rfl rfl rfl (Nat.le_of_ble_eq_true rfl) dX8_start_15 (fun r15 g16 w => ?_)
    exact gm_iret O hQ rfl w dX8_start_18
-- inn
abbrev rM_inn : Room := { frames := 3, cells := 0, slots := 0, locals := 58 }
set_option maxHeartbeats 4000000 in
theorem vM_inn_37 {X : Cx} {z : Nat} {T L : Nat → Nat} {V0 : w_V} {P : w_P} {mb : Nat} (O : Okc X cX8_inn RX8 3 (some .boolean)) (hRm : cxR X = rM_inn) (hM : mOk (cxE X) T L P mb) (sg : MS) (x1 : Int32) (t0 : Int32) (t1 : Int32) (post : Int32 → MS → Prop) (hQ : cxMQ X (va_Qi post (fun u t => wdW (cxE X) (mW z T L V0 P mb u) t.heap) (w_A (cxE X))) 0 0) (w : jM_inn_37 sg x1 t0 t1 post) : gW X 0 0 z T L (up1 V0 mb sg) P 37 [some (.ref mb), some (.int x1), none] [.int t0, .int t1] := by
  unfold jM_inn_37 at w
  refine g_icmp_ne (tgt := 52) O w dX8_inn_37 (by decide) (fun w => ?_) (fun w => ?_)
  · refine g_aload_n O dX8_inn_52 rfl ?_
    refine gm_Vv (nA := 0) (As := []) (rest := []) O hRm hM.1 (cM_keep _ O.2.2.2.2.2.2.2.2 _ _ _ _ _ _ _ hM sg _ w) (lw_V q2218 q2220 qs99 q134 q2221) rfl rfl (by decide +kernel) ⟨Nat.le_of_ble_eq_true rfl, Nat.le_of_ble_eq_true rfl⟩ rfl rfl rfl (Nat.le_of_ble_eq_true rfl) dX8_inn_53 (fun g4 w => ?_)
    refine g_aload_n O dX8_inn_56 rfl ?_
    refine g_dup O dX8_inn_57 rfl ?_
    refine gm_getI (j := 29) O hM.1 rfl (by decide) q1757 dX8_inn_58 ?_
    refine g_iconst (v := 1) O dX8_inn_61 (by decide) ?_
    refine g_iload_n O dX8_inn_62 rfl ?_
    refine g_ishl O dX8_inn_63 ?_
    refine g_ixor O dX8_inn_64 ?_
    refine gm_putI (j := 29) (ty := .int) O hM.1 rfl (by decide) q1757 rfl rfl rfl rfl dX8_inn_65 ?_
    refine g_iconst (v := 1) O dX8_inn_68 (by decide) ?_
    exact gm_iret O hQ rfl w dX8_inn_69
  · refine g_aload_n O dX8_inn_40 rfl ?_
    refine gm_getA (j := 12) O hM.1 rfl (by decide) q1740 dX8_inn_41 ?_
    refine g_iconst (v := 1) O dX8_inn_44 (by decide) ?_
    refine g_dup2 O dX8_inn_45 rfl rfl ?_
    refine gm_ald (j := 12) (len := 3) (nn := 1) O hM.1 rfl (by decide) (by decide) rfl dX8_inn_46 ?_
    refine g_iconst (v := 1) O dX8_inn_47 (by decide) ?_
    refine g_iadd O dX8_inn_48 ?_
    refine gm_ast (j := 12) (len := 3) (nn := 1) O hM.1 rfl (by decide) (by decide) rfl dX8_inn_49 ?_
    refine g_iconst (v := 0) O dX8_inn_50 (by decide) ?_
    exact gm_iret O hQ rfl w dX8_inn_51
set_option maxHeartbeats 4000000 in
theorem cM_inn (l : Launch) (hfl : l.flags = flags0) (E : w_E) (z : Nat) (T L : Nat → Nat) (V0 : w_V) (P : w_P) (mb : Nat) (hM : mOk E T L P mb) (sg : MS) (x1 : Int32) (x2 : Int32) (post : Int32 → MS → Prop) (w : wM_inn sg x1 x2 post) : mMi l yX8_inn cX8_inn 3 (some .boolean) rM_inn E z T L V0 P mb [.ref mb, .int x1, .int x2] sg post := by
  refine g_start (S := Unit) hfl (by decide +kernel) rfl [some (.ref mb), some (.int x1), some (.int x2)] rfl (fun _ h => h) (Nat.le_of_ble_eq_true rfl) (fun X hl hRm hEe O hQ => ?_)
  subst hl
  subst hEe
  unfold wM_inn at w
  refine g_aload_n O dX8_inn_0 rfl ?_
  refine g_iconst (v := 0) O dX8_inn_1 (by decide) ?_
  refine gm_putI (j := 2) (ty := .int) O hM.1 rfl (by decide) q1730 rfl rfl rfl rfl dX8_inn_2 ?_
  refine g_aload_n O dX8_inn_5 rfl ?_
  refine g_iload_n O dX8_inn_6 rfl ?_
  refine gm_Vi0 (nA := 1) (As := [.int x1]) (rest := []) O hRm hM.1 (cM_isTown _ O.2.2.2.2.2.2.2.2 _ _ _ _ _ _ _ hM (s2 sg 0 2 0) (x1) _ w) (lw_V q2157 q2159 qs95 q134 q2160) rfl rfl (by decide +kernel) ⟨Nat.le_of_ble_eq_true rfl, Nat.le_of_ble_eq_true rfl⟩ rfl rfl rfl (Nat.le_of_ble_eq_true rfl) dX8_inn_7 (fun r1 w => ?_)
  refine g_if_ne (tgt := 20) O w dX8_inn_10 (by decide) (fun w => ?_) (fun w => ?_)
  · refine g_aload_n O dX8_inn_20 rfl ?_
    refine gm_getI (j := 29) O hM.1 rfl (by decide) q1757 dX8_inn_21 ?_
    refine g_iload_n O dX8_inn_24 rfl ?_
    refine g_ishr O dX8_inn_25 ?_
    refine g_iconst (v := 1) O dX8_inn_26 (by decide) ?_
    refine g_iand O dX8_inn_27 ?_
    refine g_iload_n O dX8_inn_28 rfl ?_
    refine g_if_eq (tgt := 36) O w dX8_inn_29 (by decide) (fun w => ?_) (fun w => ?_)
    · refine g_iconst (v := 0) O dX8_inn_36 (by decide) ?_
      refine g_drop [2] (lv' := [some (.ref mb), some (.int x1), none]) rfl ?_
      exact vM_inn_37 O hRm hM (s2 sg 0 2 0)  x1 0 (((((s2 sg 0 2 0) 0 29) : Int32) >>> ((x1 : Int32) &&& 31)) &&& 1) post hQ w
    · refine g_iconst (v := 1) O dX8_inn_32 (by decide) ?_
      refine g_goto (tgt := 37) O dX8_inn_33 (by decide) ?_
      refine g_drop [2] (lv' := [some (.ref mb), some (.int x1), none]) rfl ?_
      exact vM_inn_37 O hRm hM (s2 sg 0 2 0)  x1 1 (((((s2 sg 0 2 0) 0 29) : Int32) >>> ((x1 : Int32) &&& 31)) &&& 1) post hQ w
  · refine g_aload_n O dX8_inn_13 rfl ?_
    refine g_iconst (v := 1) O dX8_inn_14 (by decide) ?_
    refine gm_putI (j := 2) (ty := .int) O hM.1 rfl (by decide) q1730 rfl rfl rfl rfl dX8_inn_15 ?_
    refine g_iconst (v := 0) O dX8_inn_18 (by decide) ?_
    exact gm_iret O hQ rfl w dX8_inn_19
-- putRow
abbrev rM_putRow : Room := { frames := 1, cells := 0, slots := 0, locals := 12 }
set_option maxHeartbeats 4000000 in
theorem cM_putRow (l : Launch) (hfl : l.flags = flags0) (E : w_E) (z : Nat) (T L : Nat → Nat) (V0 : w_V) (P : w_P) (mb : Nat) (hM : mOk E T L P mb) (sg : MS) (a0 o0 n0 : Nat) (h0 : aOk a0 o0 n0) (x1 : Int32) (x2 : Int32) (x3 : Int32) (x4 : Int32) (post : MS → Prop) (w : wM_putRow sg a0 n0 x1 x2 x3 x4 post) : mMv l yX8_putRow cX8_putRow 5 none rM_putRow E z T L V0 P mb [.ref (mb + o0), .int x1, .int x2, .int x3, .int x4] sg post := by
  refine g_start (S := Unit) hfl (by decide +kernel) rfl [some (.ref (mb + o0)), some (.int x1), some (.int x2), some (.int x3), some (.int x4)] rfl (fun _ h => h) (Nat.le_of_ble_eq_true rfl) (fun X hl hRm hEe O hQ => ?_)
  subst hl
  subst hEe
  unfold wM_putRow at w
  refine g_aload_n O dX8_putRow_0 rfl ?_
  refine g_iconst (v := 3) O dX8_putRow_1 (by decide) ?_
  refine g_iload_n O dX8_putRow_2 rfl ?_
  refine g_imul O dX8_putRow_3 ?_
  refine g_iload_n O dX8_putRow_4 rfl ?_
  obtain ⟨i1, hi2, e3, w⟩ := w
  refine gm_ast (j := a0) (len := n0) (nn := i1) O hM.1 h0.1 hi2 h0.2 e3 dX8_putRow_5 ?_
  refine g_aload_n O dX8_putRow_6 rfl ?_
  refine g_iconst (v := 3) O dX8_putRow_7 (by decide) ?_
  refine g_iload_n O dX8_putRow_8 rfl ?_
  refine g_imul O dX8_putRow_9 ?_
  refine g_iconst (v := 1) O dX8_putRow_10 (by decide) ?_
  refine g_iadd O dX8_putRow_11 ?_
  refine g_iload_n O dX8_putRow_12 rfl ?_
  obtain ⟨i4, hi5, e6, w⟩ := w
  refine gm_ast (j := a0) (len := n0) (nn := i4) O hM.1 h0.1 hi5 h0.2 e6 dX8_putRow_13 ?_
  refine g_aload_n O dX8_putRow_14 rfl ?_
  refine g_iconst (v := 3) O dX8_putRow_15 (by decide) ?_
  refine g_iload_n O dX8_putRow_16 rfl ?_
  refine g_imul O dX8_putRow_17 ?_
  refine g_iconst (v := 2) O dX8_putRow_18 (by decide) ?_
  refine g_iadd O dX8_putRow_19 ?_
  refine g_iload O dX8_putRow_20 rfl ?_
  obtain ⟨i7, hi8, e9, w⟩ := w
  refine gm_ast (j := a0) (len := n0) (nn := i7) O hM.1 h0.1 hi8 h0.2 e9 dX8_putRow_22 ?_
  exact gm_vret O hQ w dX8_putRow_23
-- word
abbrev rM_word : Room := { frames := 3, cells := 0, slots := 0, locals := 58 }
set_option maxHeartbeats 4000000 in
theorem vM_word_21 {X : Cx} {z : Nat} {T L : Nat → Nat} {V0 : w_V} {P : w_P} {mb : Nat} (O : Okc X cX8_word RX8 4 (some .int)) (hRm : cxR X = rM_word) (hM : mOk (cxE X) T L P mb) (sg : MS) (post : Int32 → MS → Prop) (hQ : cxMQ X (va_Qi post (fun u t => wdW (cxE X) (mW z T L V0 P mb u) t.heap) (w_A (cxE X))) 0 0) (w : jM_word_21 sg post) : gW X 0 0 z T L (up1 V0 mb sg) P 21 [some (.ref mb), none, none, none] [] := by
  unfold jM_word_21 at w
  refine g_aload_n O dX8_word_21 rfl ?_
  refine g_iconst (v := 1) O dX8_word_22 (by decide) ?_
  refine gm_Vi (nA := 1) (As := [.int 1]) (rest := []) O hRm hM.1 (cM_fail _ O.2.2.2.2.2.2.2.2 _ _ _ _ _ _ _ hM sg (1) _ w) (lw_V q1930 q1932 qs49 q134 q1933) rfl rfl (by decide +kernel) ⟨Nat.le_of_ble_eq_true rfl, Nat.le_of_ble_eq_true rfl⟩ rfl rfl rfl (Nat.le_of_ble_eq_true rfl) dX8_word_23 (fun r3 g4 w => ?_)
  exact gm_iret O hQ rfl w dX8_word_26
set_option maxHeartbeats 4000000 in
theorem vM_word_47 {X : Cx} {z : Nat} {T L : Nat → Nat} {V0 : w_V} {P : w_P} {mb : Nat} (O : Okc X cX8_word RX8 4 (some .int)) (hRm : cxR X = rM_word) (hM : mOk (cxE X) T L P mb) (sg : MS) (post : Int32 → MS → Prop) (hQ : cxMQ X (va_Qi post (fun u t => wdW (cxE X) (mW z T L V0 P mb u) t.heap) (w_A (cxE X))) 0 0) (w : jM_word_47 sg post) : gW X 0 0 z T L (up1 V0 mb sg) P 47 [some (.ref mb), none, none, none] [] := by
  unfold jM_word_47 at w
  refine g_aload_n O dX8_word_47 rfl ?_
  refine g_iconst (v := 1) O dX8_word_48 (by decide) ?_
  refine gm_Vi (nA := 1) (As := [.int 1]) (rest := []) O hRm hM.1 (cM_refuse _ O.2.2.2.2.2.2.2.2 _ _ _ _ _ _ _ hM sg (1) _ w) (lw_V q2214 q2216 qs98 q134 q2217) rfl rfl (by decide +kernel) ⟨Nat.le_of_ble_eq_true rfl, Nat.le_of_ble_eq_true rfl⟩ rfl rfl rfl (Nat.le_of_ble_eq_true rfl) dX8_word_49 (fun r7 g8 w => ?_)
  exact gm_iret O hQ rfl w dX8_word_52
set_option maxHeartbeats 4000000 in
theorem cM_word (l : Launch) (hfl : l.flags = flags0) (E : w_E) (z : Nat) (T L : Nat → Nat) (V0 : w_V) (P : w_P) (mb : Nat) (hM : mOk E T L P mb) (sg : MS) (x1 : Int32) (x2 : Int32) (x3 : Int32) (post : Int32 → MS → Prop) (w : wM_word sg x1 x2 x3 post) : mMi l yX8_word cX8_word 4 (some .int) rM_word E z T L V0 P mb [.ref mb, .int x1, .int x2, .int x3] sg post := by
  refine g_start (S := Unit) hfl (by decide +kernel) rfl [some (.ref mb), some (.int x1), some (.int x2), some (.int x3)] rfl (fun _ h => h) (Nat.le_of_ble_eq_true rfl) (fun X hl hRm hEe O hQ => ?_)
  subst hl
  subst hEe
  unfold wM_word at w
  refine g_aload_n O dX8_word_0 rfl ?_
  refine g_iconst (v := 0) O dX8_word_1 (by decide) ?_
  refine gm_putI (j := 2) (ty := .int) O hM.1 rfl (by decide) q1730 rfl rfl rfl rfl dX8_word_2 ?_
  refine g_aload_n O dX8_word_5 rfl ?_
  refine g_iload_n O dX8_word_6 rfl ?_
  refine gm_Vi0 (nA := 1) (As := [.int x1]) (rest := []) O hRm hM.1 (cM_isCase _ O.2.2.2.2.2.2.2.2 _ _ _ _ _ _ _ hM (s2 sg 0 2 0) (x1) _ w) (lw_V q2188 q2190 qs97 q134 q2191) rfl rfl (by decide +kernel) ⟨Nat.le_of_ble_eq_true rfl, Nat.le_of_ble_eq_true rfl⟩ rfl rfl rfl (Nat.le_of_ble_eq_true rfl) dX8_word_7 (fun r1 w => ?_)
  refine g_if_eq (tgt := 21) O w dX8_word_10 (by decide) (fun w => ?_) (fun w => ?_)
  · refine g_drop [1, 2, 3] (lv' := [some (.ref mb), none, none, none]) rfl ?_
    exact vM_word_21 O hRm hM (s2 sg 0 2 0)  post hQ w
  · refine g_aload_n O dX8_word_13 rfl ?_
    refine g_iload_n O dX8_word_14 rfl ?_
    refine gm_Vi0 (nA := 1) (As := [.int x2]) (rest := []) O hRm hM.1 (cM_isTown _ O.2.2.2.2.2.2.2.2 _ _ _ _ _ _ _ hM (s2 sg 0 2 0) (x2) _ w) (lw_V q2157 q2159 qs95 q134 q2160) rfl rfl (by decide +kernel) ⟨Nat.le_of_ble_eq_true rfl, Nat.le_of_ble_eq_true rfl⟩ rfl rfl rfl (Nat.le_of_ble_eq_true rfl) dX8_word_15 (fun r5 w => ?_)
    refine g_if_ne (tgt := 27) O w dX8_word_18 (by decide) (fun w => ?_) (fun w => ?_)
    · refine g_aload_n O dX8_word_27 rfl ?_
      refine gm_getI (j := 30) O hM.1 rfl (by decide) q1758 dX8_word_28 ?_
      refine g_iconst (v := 4) O dX8_word_31 (by decide) ?_
      refine g_icmp_eq (tgt := 47) O w dX8_word_32 (by decide) (fun w => ?_) (fun w => ?_)
      · refine g_drop [1, 2, 3] (lv' := [some (.ref mb), none, none, none]) rfl ?_
        exact vM_word_47 O hRm hM (s2 sg 0 2 0)  post hQ w
      · refine g_iload_n O dX8_word_35 rfl ?_
        refine g_i2l O dX8_word_36 ?_
        refine g_lconst (v := 0) O dX8_word_37 (by decide) ?_
        refine g_ldc2 O q2234 dX8_word_38 ?_
        refine gm_Si0 (nA := 3) (As := [.long x3.toInt64, .long 0, .long 99]) (rest := []) O hRm (cM_isIn _ O.2.2.2.2.2.2.2.2 _ _ _ _ _ _ _ hM (s2 sg 0 2 0) (x3.toInt64) (0) (99) _ w) (lw_S q2161 q2162 q134 q2163) rfl rfl (by decide +kernel) ⟨Nat.le_of_ble_eq_true rfl, Nat.le_of_ble_eq_true rfl⟩ rfl rfl rfl (Nat.le_of_ble_eq_true rfl) dX8_word_41 (fun r9 w => ?_)
        refine g_if_ne (tgt := 53) O w dX8_word_44 (by decide) (fun w => ?_) (fun w => ?_)
        · refine g_aload_n O dX8_word_53 rfl ?_
          refine gm_Vv (nA := 0) (As := []) (rest := []) O hRm hM.1 (cM_keep _ O.2.2.2.2.2.2.2.2 _ _ _ _ _ _ _ hM (s2 sg 0 2 0) _ w) (lw_V q2218 q2220 qs99 q134 q2221) rfl rfl (by decide +kernel) ⟨Nat.le_of_ble_eq_true rfl, Nat.le_of_ble_eq_true rfl⟩ rfl rfl rfl (Nat.le_of_ble_eq_true rfl) dX8_word_54 (fun g12 w => ?_)
          refine g_aload_n O dX8_word_57 rfl ?_
          refine gm_getA (j := 25) O hM.1 rfl (by decide) q1753 dX8_word_58 ?_
          refine g_aload_n O dX8_word_61 rfl ?_
          refine gm_getI (j := 30) O hM.1 rfl (by decide) q1758 dX8_word_62 ?_
          refine g_iload_n O dX8_word_65 rfl ?_
          refine g_iload_n O dX8_word_66 rfl ?_
          refine g_iload_n O dX8_word_67 rfl ?_
          refine gm_Sv (nA := 5) (As := [.ref (mb + 15), .int (g12 0 30), .int x1, .int x2, .int x3]) (rest := []) O hRm (cM_putRow _ O.2.2.2.2.2.2.2.2 _ _ _ _ _ _ _ hM g12 25 15 15 ⟨rfl, by decide⟩ ((g12 0 30)) (x1) (x2) (x3) _ w) (lw_S q2235 q2236 q134 q2237) rfl rfl (by decide +kernel) ⟨Nat.le_of_ble_eq_true rfl, Nat.le_of_ble_eq_true rfl⟩ rfl rfl rfl (Nat.le_of_ble_eq_true rfl) dX8_word_68 (fun g14 w => ?_)
          refine g_aload_n O dX8_word_71 rfl ?_
          refine g_dup O dX8_word_72 rfl ?_
          refine gm_getI (j := 30) O hM.1 rfl (by decide) q1758 dX8_word_73 ?_
          refine g_iconst (v := 1) O dX8_word_76 (by decide) ?_
          refine g_iadd O dX8_word_77 ?_
          refine gm_putI (j := 30) (ty := .int) O hM.1 rfl (by decide) q1758 rfl rfl rfl rfl dX8_word_78 ?_
          refine g_aload_n O dX8_word_81 rfl ?_
          refine gm_getI (j := 30) O hM.1 rfl (by decide) q1758 dX8_word_82 ?_
          exact gm_iret O hQ rfl w dX8_word_85
        · refine g_drop [1, 2, 3] (lv' := [some (.ref mb), none, none, none]) rfl ?_
          exact vM_word_47 O hRm hM (s2 sg 0 2 0)  post hQ w
    · refine g_drop [1, 2, 3] (lv' := [some (.ref mb), none, none, none]) rfl ?_
      exact vM_word_21 O hRm hM (s2 sg 0 2 0)  post hQ w
-- feast
abbrev rM_feast : Room := { frames := 3, cells := 0, slots := 0, locals := 58 }
set_option maxHeartbeats 4000000 in
theorem vM_feast_52 {X : Cx} {z : Nat} {T L : Nat → Nat} {V0 : w_V} {P : w_P} {mb : Nat} (O : Okc X cX8_feast RX8 4 (some .int)) (hRm : cxR X = rM_feast) (hM : mOk (cxE X) T L P mb) (sg : MS) (post : Int32 → MS → Prop) (hQ : cxMQ X (va_Qi post (fun u t => wdW (cxE X) (mW z T L V0 P mb u) t.heap) (w_A (cxE X))) 0 0) (w : jM_feast_52 sg post) : gW X 0 0 z T L (up1 V0 mb sg) P 52 [some (.ref mb), none, none, none] [] := by
  unfold jM_feast_52 at w
  refine g_aload_n O dX8_feast_52 rfl ?_
  refine g_iconst (v := 1) O dX8_feast_53 (by decide) ?_
  refine gm_Vi (nA := 1) (As := [.int 1]) (rest := []) O hRm hM.1 (cM_refuse _ O.2.2.2.2.2.2.2.2 _ _ _ _ _ _ _ hM sg (1) _ w) (lw_V q2214 q2216 qs98 q134 q2217) rfl rfl (by decide +kernel) ⟨Nat.le_of_ble_eq_true rfl, Nat.le_of_ble_eq_true rfl⟩ rfl rfl rfl (Nat.le_of_ble_eq_true rfl) dX8_feast_54 (fun r3 g4 w => ?_)
  exact gm_iret O hQ rfl w dX8_feast_57
set_option maxHeartbeats 4000000 in
theorem cM_feast (l : Launch) (hfl : l.flags = flags0) (E : w_E) (z : Nat) (T L : Nat → Nat) (V0 : w_V) (P : w_P) (mb : Nat) (hM : mOk E T L P mb) (sg : MS) (x1 : Int32) (x2 : Int32) (x3 : Int32) (post : Int32 → MS → Prop) (w : wM_feast sg x1 x2 x3 post) : mMi l yX8_feast cX8_feast 4 (some .int) rM_feast E z T L V0 P mb [.ref mb, .int x1, .int x2, .int x3] sg post := by
  refine g_start (S := Unit) hfl (by decide +kernel) rfl [some (.ref mb), some (.int x1), some (.int x2), some (.int x3)] rfl (fun _ h => h) (Nat.le_of_ble_eq_true rfl) (fun X hl hRm hEe O hQ => ?_)
  subst hl
  subst hEe
  unfold wM_feast at w
  refine g_aload_n O dX8_feast_0 rfl ?_
  refine g_iconst (v := 0) O dX8_feast_1 (by decide) ?_
  refine gm_putI (j := 2) (ty := .int) O hM.1 rfl (by decide) q1730 rfl rfl rfl rfl dX8_feast_2 ?_
  refine g_aload_n O dX8_feast_5 rfl ?_
  refine g_iload_n O dX8_feast_6 rfl ?_
  refine gm_Vi0 (nA := 1) (As := [.int x1]) (rest := []) O hRm hM.1 (cM_isTown _ O.2.2.2.2.2.2.2.2 _ _ _ _ _ _ _ hM (s2 sg 0 2 0) (x1) _ w) (lw_V q2157 q2159 qs95 q134 q2160) rfl rfl (by decide +kernel) ⟨Nat.le_of_ble_eq_true rfl, Nat.le_of_ble_eq_true rfl⟩ rfl rfl rfl (Nat.le_of_ble_eq_true rfl) dX8_feast_7 (fun r1 w => ?_)
  refine g_if_ne (tgt := 19) O w dX8_feast_10 (by decide) (fun w => ?_) (fun w => ?_)
  · refine g_aload_n O dX8_feast_19 rfl ?_
    refine gm_getI (j := 31) O hM.1 rfl (by decide) q1759 dX8_feast_20 ?_
    refine g_iconst (v := 4) O dX8_feast_23 (by decide) ?_
    refine g_icmp_eq (tgt := 52) O w dX8_feast_24 (by decide) (fun w => ?_) (fun w => ?_)
    · refine g_drop [1, 2, 3] (lv' := [some (.ref mb), none, none, none]) rfl ?_
      exact vM_feast_52 O hRm hM (s2 sg 0 2 0)  post hQ w
    · refine g_iload_n O dX8_feast_27 rfl ?_
      refine g_i2l O dX8_feast_28 ?_
      refine g_lconst (v := 0) O dX8_feast_29 (by decide) ?_
      refine g_ldc2 O q2234 dX8_feast_30 ?_
      refine gm_Si0 (nA := 3) (As := [.long x2.toInt64, .long 0, .long 99]) (rest := []) O hRm (cM_isIn _ O.2.2.2.2.2.2.2.2 _ _ _ _ _ _ _ hM (s2 sg 0 2 0) (x2.toInt64) (0) (99) _ w) (lw_S q2161 q2162 q134 q2163) rfl rfl (by decide +kernel) ⟨Nat.le_of_ble_eq_true rfl, Nat.le_of_ble_eq_true rfl⟩ rfl rfl rfl (Nat.le_of_ble_eq_true rfl) dX8_feast_33 (fun r5 w => ?_)
      refine g_if_eq (tgt := 52) O w dX8_feast_36 (by decide) (fun w => ?_) (fun w => ?_)
      · refine g_drop [1, 2, 3] (lv' := [some (.ref mb), none, none, none]) rfl ?_
        exact vM_feast_52 O hRm hM (s2 sg 0 2 0)  post hQ w
      · refine g_iload_n O dX8_feast_39 rfl ?_
        refine g_i2l O dX8_feast_40 ?_
        refine g_iload_n O dX8_feast_41 rfl ?_
        refine g_i2l O dX8_feast_42 ?_
        refine g_ldc2 O q2234 dX8_feast_43 ?_
        refine gm_Si0 (nA := 3) (As := [.long x3.toInt64, .long x2.toInt64, .long 99]) (rest := []) O hRm (cM_isIn _ O.2.2.2.2.2.2.2.2 _ _ _ _ _ _ _ hM (s2 sg 0 2 0) (x3.toInt64) (x2.toInt64) (99) _ w) (lw_S q2161 q2162 q134 q2163) rfl rfl (by decide +kernel) ⟨Nat.le_of_ble_eq_true rfl, Nat.le_of_ble_eq_true rfl⟩ rfl rfl rfl (Nat.le_of_ble_eq_true rfl) dX8_feast_46 (fun r7 w => ?_)
        refine g_if_ne (tgt := 58) O w dX8_feast_49 (by decide) (fun w => ?_) (fun w => ?_)
        · refine g_aload_n O dX8_feast_58 rfl ?_
          refine gm_Vv (nA := 0) (As := []) (rest := []) O hRm hM.1 (cM_keep _ O.2.2.2.2.2.2.2.2 _ _ _ _ _ _ _ hM (s2 sg 0 2 0) _ w) (lw_V q2218 q2220 qs99 q134 q2221) rfl rfl (by decide +kernel) ⟨Nat.le_of_ble_eq_true rfl, Nat.le_of_ble_eq_true rfl⟩ rfl rfl rfl (Nat.le_of_ble_eq_true rfl) dX8_feast_59 (fun g10 w => ?_)
          refine g_aload_n O dX8_feast_62 rfl ?_
          refine gm_getA (j := 26) O hM.1 rfl (by decide) q1754 dX8_feast_63 ?_
          refine g_aload_n O dX8_feast_66 rfl ?_
          refine gm_getI (j := 31) O hM.1 rfl (by decide) q1759 dX8_feast_67 ?_
          refine g_iload_n O dX8_feast_70 rfl ?_
          refine g_iload_n O dX8_feast_71 rfl ?_
          refine g_iload_n O dX8_feast_72 rfl ?_
          refine gm_Sv (nA := 5) (As := [.ref (mb + 16), .int (g10 0 31), .int x1, .int x2, .int x3]) (rest := []) O hRm (cM_putRow _ O.2.2.2.2.2.2.2.2 _ _ _ _ _ _ _ hM g10 26 16 12 ⟨rfl, by decide⟩ ((g10 0 31)) (x1) (x2) (x3) _ w) (lw_S q2235 q2236 q134 q2237) rfl rfl (by decide +kernel) ⟨Nat.le_of_ble_eq_true rfl, Nat.le_of_ble_eq_true rfl⟩ rfl rfl rfl (Nat.le_of_ble_eq_true rfl) dX8_feast_73 (fun g12 w => ?_)
          refine g_aload_n O dX8_feast_76 rfl ?_
          refine g_dup O dX8_feast_77 rfl ?_
          refine gm_getI (j := 31) O hM.1 rfl (by decide) q1759 dX8_feast_78 ?_
          refine g_iconst (v := 1) O dX8_feast_81 (by decide) ?_
          refine g_iadd O dX8_feast_82 ?_
          refine gm_putI (j := 31) (ty := .int) O hM.1 rfl (by decide) q1759 rfl rfl rfl rfl dX8_feast_83 ?_
          refine g_aload_n O dX8_feast_86 rfl ?_
          refine gm_getI (j := 31) O hM.1 rfl (by decide) q1759 dX8_feast_87 ?_
          exact gm_iret O hQ rfl w dX8_feast_90
        · refine g_drop [1, 2, 3] (lv' := [some (.ref mb), none, none, none]) rfl ?_
          exact vM_feast_52 O hRm hM (s2 sg 0 2 0)  post hQ w
  · refine g_aload_n O dX8_feast_13 rfl ?_
    refine g_iconst (v := 1) O dX8_feast_14 (by decide) ?_
    refine gm_Vi (nA := 1) (As := [.int 1]) (rest := []) O hRm hM.1 (cM_fail _ O.2.2.2.2.2.2.2.2 _ _ _ _ _ _ _ hM (s2 sg 0 2 0) (1) _ w) (lw_V q1930 q1932 qs49 q134 q1933) rfl rfl (by decide +kernel) ⟨Nat.le_of_ble_eq_true rfl, Nat.le_of_ble_eq_true rfl⟩ rfl rfl rfl (Nat.le_of_ble_eq_true rfl) dX8_feast_15 (fun r13 g14 w => ?_)
    exact gm_iret O hQ rfl w dX8_feast_18
-- flood
abbrev rM_flood : Room := { frames := 3, cells := 0, slots := 0, locals := 58 }
set_option maxHeartbeats 4000000 in
theorem vM_flood_51 {X : Cx} {z : Nat} {T L : Nat → Nat} {V0 : w_V} {P : w_P} {mb : Nat} (O : Okc X cX8_flood RX8 4 (some .int)) (hRm : cxR X = rM_flood) (hM : mOk (cxE X) T L P mb) (sg : MS) (post : Int32 → MS → Prop) (hQ : cxMQ X (va_Qi post (fun u t => wdW (cxE X) (mW z T L V0 P mb u) t.heap) (w_A (cxE X))) 0 0) (w : jM_flood_51 sg post) : gW X 0 0 z T L (up1 V0 mb sg) P 51 [some (.ref mb), none, none, none] [] := by
  unfold jM_flood_51 at w
  refine g_aload_n O dX8_flood_51 rfl ?_
  refine g_iconst (v := 1) O dX8_flood_52 (by decide) ?_
  refine gm_Vi (nA := 1) (As := [.int 1]) (rest := []) O hRm hM.1 (cM_refuse _ O.2.2.2.2.2.2.2.2 _ _ _ _ _ _ _ hM sg (1) _ w) (lw_V q2214 q2216 qs98 q134 q2217) rfl rfl (by decide +kernel) ⟨Nat.le_of_ble_eq_true rfl, Nat.le_of_ble_eq_true rfl⟩ rfl rfl rfl (Nat.le_of_ble_eq_true rfl) dX8_flood_53 (fun r3 g4 w => ?_)
  exact gm_iret O hQ rfl w dX8_flood_56
set_option maxHeartbeats 4000000 in
theorem cM_flood (l : Launch) (hfl : l.flags = flags0) (E : w_E) (z : Nat) (T L : Nat → Nat) (V0 : w_V) (P : w_P) (mb : Nat) (hM : mOk E T L P mb) (sg : MS) (x1 : Int32) (x2 : Int32) (x3 : Int32) (post : Int32 → MS → Prop) (w : wM_flood sg x1 x2 x3 post) : mMi l yX8_flood cX8_flood 4 (some .int) rM_flood E z T L V0 P mb [.ref mb, .int x1, .int x2, .int x3] sg post := by
  refine g_start (S := Unit) hfl (by decide +kernel) rfl [some (.ref mb), some (.int x1), some (.int x2), some (.int x3)] rfl (fun _ h => h) (Nat.le_of_ble_eq_true rfl) (fun X hl hRm hEe O hQ => ?_)
  subst hl
  subst hEe
  unfold wM_flood at w
  refine g_aload_n O dX8_flood_0 rfl ?_
  refine g_iconst (v := 0) O dX8_flood_1 (by decide) ?_
  refine gm_putI (j := 2) (ty := .int) O hM.1 rfl (by decide) q1730 rfl rfl rfl rfl dX8_flood_2 ?_
  refine g_aload_n O dX8_flood_5 rfl ?_
  refine g_iload_n O dX8_flood_6 rfl ?_
  refine gm_Vi0 (nA := 1) (As := [.int x1]) (rest := []) O hRm hM.1 (cM_isTown _ O.2.2.2.2.2.2.2.2 _ _ _ _ _ _ _ hM (s2 sg 0 2 0) (x1) _ w) (lw_V q2157 q2159 qs95 q134 q2160) rfl rfl (by decide +kernel) ⟨Nat.le_of_ble_eq_true rfl, Nat.le_of_ble_eq_true rfl⟩ rfl rfl rfl (Nat.le_of_ble_eq_true rfl) dX8_flood_7 (fun r1 w => ?_)
  refine g_if_ne (tgt := 19) O w dX8_flood_10 (by decide) (fun w => ?_) (fun w => ?_)
  · refine g_aload_n O dX8_flood_19 rfl ?_
    refine gm_getI (j := 32) O hM.1 rfl (by decide) q1760 dX8_flood_20 ?_
    refine g_iconst (v := 4) O dX8_flood_23 (by decide) ?_
    refine g_icmp_eq (tgt := 51) O w dX8_flood_24 (by decide) (fun w => ?_) (fun w => ?_)
    · refine g_drop [1, 2, 3] (lv' := [some (.ref mb), none, none, none]) rfl ?_
      exact vM_flood_51 O hRm hM (s2 sg 0 2 0)  post hQ w
    · refine g_iload_n O dX8_flood_27 rfl ?_
      refine g_i2l O dX8_flood_28 ?_
      refine g_lconst (v := 0) O dX8_flood_29 (by decide) ?_
      refine g_ldc2 O q2234 dX8_flood_30 ?_
      refine gm_Si0 (nA := 3) (As := [.long x2.toInt64, .long 0, .long 99]) (rest := []) O hRm (cM_isIn _ O.2.2.2.2.2.2.2.2 _ _ _ _ _ _ _ hM (s2 sg 0 2 0) (x2.toInt64) (0) (99) _ w) (lw_S q2161 q2162 q134 q2163) rfl rfl (by decide +kernel) ⟨Nat.le_of_ble_eq_true rfl, Nat.le_of_ble_eq_true rfl⟩ rfl rfl rfl (Nat.le_of_ble_eq_true rfl) dX8_flood_33 (fun r5 w => ?_)
      refine g_if_eq (tgt := 51) O w dX8_flood_36 (by decide) (fun w => ?_) (fun w => ?_)
      · refine g_drop [1, 2, 3] (lv' := [some (.ref mb), none, none, none]) rfl ?_
        exact vM_flood_51 O hRm hM (s2 sg 0 2 0)  post hQ w
      · refine g_iload_n O dX8_flood_39 rfl ?_
        refine g_i2l O dX8_flood_40 ?_
        refine g_lconst (v := 0) O dX8_flood_41 (by decide) ?_
        refine g_ldc2 O q2246 dX8_flood_42 ?_
        refine gm_Si0 (nA := 3) (As := [.long x3.toInt64, .long 0, .long 20]) (rest := []) O hRm (cM_isIn _ O.2.2.2.2.2.2.2.2 _ _ _ _ _ _ _ hM (s2 sg 0 2 0) (x3.toInt64) (0) (20) _ w) (lw_S q2161 q2162 q134 q2163) rfl rfl (by decide +kernel) ⟨Nat.le_of_ble_eq_true rfl, Nat.le_of_ble_eq_true rfl⟩ rfl rfl rfl (Nat.le_of_ble_eq_true rfl) dX8_flood_45 (fun r7 w => ?_)
        refine g_if_ne (tgt := 57) O w dX8_flood_48 (by decide) (fun w => ?_) (fun w => ?_)
        · refine g_aload_n O dX8_flood_57 rfl ?_
          refine gm_Vv (nA := 0) (As := []) (rest := []) O hRm hM.1 (cM_keep _ O.2.2.2.2.2.2.2.2 _ _ _ _ _ _ _ hM (s2 sg 0 2 0) _ w) (lw_V q2218 q2220 qs99 q134 q2221) rfl rfl (by decide +kernel) ⟨Nat.le_of_ble_eq_true rfl, Nat.le_of_ble_eq_true rfl⟩ rfl rfl rfl (Nat.le_of_ble_eq_true rfl) dX8_flood_58 (fun g10 w => ?_)
          refine g_aload_n O dX8_flood_61 rfl ?_
          refine gm_getA (j := 27) O hM.1 rfl (by decide) q1755 dX8_flood_62 ?_
          refine g_aload_n O dX8_flood_65 rfl ?_
          refine gm_getI (j := 32) O hM.1 rfl (by decide) q1760 dX8_flood_66 ?_
          refine g_iload_n O dX8_flood_69 rfl ?_
          refine g_iload_n O dX8_flood_70 rfl ?_
          refine g_iload_n O dX8_flood_71 rfl ?_
          refine gm_Sv (nA := 5) (As := [.ref (mb + 17), .int (g10 0 32), .int x1, .int x2, .int x3]) (rest := []) O hRm (cM_putRow _ O.2.2.2.2.2.2.2.2 _ _ _ _ _ _ _ hM g10 27 17 18 ⟨rfl, by decide⟩ ((g10 0 32)) (x1) (x2) (x3) _ w) (lw_S q2235 q2236 q134 q2237) rfl rfl (by decide +kernel) ⟨Nat.le_of_ble_eq_true rfl, Nat.le_of_ble_eq_true rfl⟩ rfl rfl rfl (Nat.le_of_ble_eq_true rfl) dX8_flood_72 (fun g12 w => ?_)
          refine g_aload_n O dX8_flood_75 rfl ?_
          refine g_dup O dX8_flood_76 rfl ?_
          refine gm_getI (j := 32) O hM.1 rfl (by decide) q1760 dX8_flood_77 ?_
          refine g_iconst (v := 1) O dX8_flood_80 (by decide) ?_
          refine g_iadd O dX8_flood_81 ?_
          refine gm_putI (j := 32) (ty := .int) O hM.1 rfl (by decide) q1760 rfl rfl rfl rfl dX8_flood_82 ?_
          refine g_aload_n O dX8_flood_85 rfl ?_
          refine gm_getI (j := 32) O hM.1 rfl (by decide) q1760 dX8_flood_86 ?_
          exact gm_iret O hQ rfl w dX8_flood_89
        · refine g_drop [1, 2, 3] (lv' := [some (.ref mb), none, none, none]) rfl ?_
          exact vM_flood_51 O hRm hM (s2 sg 0 2 0)  post hQ w
  · refine g_aload_n O dX8_flood_13 rfl ?_
    refine g_iconst (v := 1) O dX8_flood_14 (by decide) ?_
    refine gm_Vi (nA := 1) (As := [.int 1]) (rest := []) O hRm hM.1 (cM_fail _ O.2.2.2.2.2.2.2.2 _ _ _ _ _ _ _ hM (s2 sg 0 2 0) (1) _ w) (lw_V q1930 q1932 qs49 q134 q1933) rfl rfl (by decide +kernel) ⟨Nat.le_of_ble_eq_true rfl, Nat.le_of_ble_eq_true rfl⟩ rfl rfl rfl (Nat.le_of_ble_eq_true rfl) dX8_flood_15 (fun r13 g14 w => ?_)
    exact gm_iret O hQ rfl w dX8_flood_18
-- unpack
abbrev rM_unpack : Room := { frames := 1, cells := 0, slots := 0, locals := 12 }
set_option maxHeartbeats 4000000 in
theorem vM_unpack_5 {X : Cx} {z : Nat} {T L : Nat → Nat} {V0 : w_V} {P : w_P} {mb : Nat} (O : Okc X cX8_unpack RX8 5 none) (hRm : cxR X = rM_unpack) (hM : mOk (cxE X) T L P mb) (a1 o1 n1 : Nat) (h1 : aOk a1 o1 n1) (x3 : Int32) (post : MS → Prop) (hQ : cxMQ X (va_Qv post (fun u t => wdW (cxE X) (mW z T L V0 P mb u) t.heap) (w_A (cxE X))) 0 0) (ke_30 : MS → Prop) (hke_30 : ∀ (sg : MS), ke_30 sg → gW X 0 0 z T L (up1 V0 mb sg) P 30 [some (.ref mb), some (.ref (mb + o1)), none, some (.int x3), none] [])  : ∀ (n : Nat) (x4 : Int32) (sg : MS), lM_unpack_5 a1 n1 x3 post ke_30 n x4 sg → gW X 0 0 z T L (up1 V0 mb sg) P 5 [some (.ref mb), some (.ref (mb + o1)), none, some (.int x3), some (.int x4)] [] := by
  intro n
  induction n with
  | zero =>
    intro x4 sg w
    exact w.elim
  | succ n ih =>
    intro x4 sg w
    unfold lM_unpack_5 at w
    refine g_iload O dX8_unpack_5 rfl ?_
    refine g_iconst (v := 5) O dX8_unpack_7 (by decide) ?_
    refine g_icmp_ge (tgt := 30) O w dX8_unpack_8 (by decide) (fun w => ?_) (fun w => ?_)
    · refine g_drop [4] (lv' := [some (.ref mb), some (.ref (mb + o1)), none, some (.int x3), none]) rfl ?_
      exact hke_30  (sg) w
    · refine g_aload_n O dX8_unpack_11 rfl ?_
      refine gm_getA (j := 6) O hM.1 rfl (by decide) q1734 dX8_unpack_12 ?_
      refine g_iload O dX8_unpack_15 rfl ?_
      refine g_aload_n O dX8_unpack_17 rfl ?_
      refine g_iload_n O dX8_unpack_18 rfl ?_
      refine g_iload O dX8_unpack_19 rfl ?_
      refine g_iadd O dX8_unpack_21 ?_
      obtain ⟨i1, hi2, e3, w⟩ := w
      refine gm_ald (j := a1) (len := n1) (nn := i1) O hM.1 h1.1 hi2 h1.2 e3 dX8_unpack_22 ?_
      obtain ⟨i4, hi5, e6, w⟩ := w
      refine gm_ast (j := 6) (len := 10) (nn := i4) O hM.1 rfl hi5 (by decide) e6 dX8_unpack_23 ?_
      refine g_iinc (v := (x4 + 1)) O dX8_unpack_24 rfl rfl rfl (lv' := [some (.ref mb), some (.ref (mb + o1)), none, some (.int x3), some (.int (x4 + 1))]) rfl ?_
      refine g_goto (tgt := 5) O dX8_unpack_27 (by decide) ?_
      exact ih ((x4 + 1)) ((s2 sg 7 i4 (sg (a1 + 1) i1))) w
set_option maxHeartbeats 4000000 in
theorem vM_unpack_73 {X : Cx} {z : Nat} {T L : Nat → Nat} {V0 : w_V} {P : w_P} {mb : Nat} (O : Okc X cX8_unpack RX8 5 none) (hRm : cxR X = rM_unpack) (hM : mOk (cxE X) T L P mb) (a1 o1 n1 : Nat) (h1 : aOk a1 o1 n1) (x3 : Int32) (post : MS → Prop) (hQ : cxMQ X (va_Qv post (fun u t => wdW (cxE X) (mW z T L V0 P mb u) t.heap) (w_A (cxE X))) 0 0)  : ∀ (n : Nat) (x4 : Int32) (sg : MS), lM_unpack_73 a1 n1 x3 post n x4 sg → gW X 0 0 z T L (up1 V0 mb sg) P 73 [some (.ref mb), some (.ref (mb + o1)), none, some (.int x3), some (.int x4)] [] := by
  intro n
  induction n with
  | zero =>
    intro x4 sg w
    exact w.elim
  | succ n ih =>
    intro x4 sg w
    unfold lM_unpack_73 at w
    refine g_iload O dX8_unpack_73 rfl ?_
    refine g_bipush (v := 12) O dX8_unpack_75 (by decide) ?_
    refine g_icmp_ge (tgt := 131) O w dX8_unpack_77 (by decide) (fun w => ?_) (fun w => ?_)
    · exact gm_vret O hQ w dX8_unpack_131
    · refine g_aload_n O dX8_unpack_80 rfl ?_
      refine gm_getA (j := 25) O hM.1 rfl (by decide) q1753 dX8_unpack_81 ?_
      refine g_iload O dX8_unpack_84 rfl ?_
      refine g_aload_n O dX8_unpack_86 rfl ?_
      refine g_iload_n O dX8_unpack_87 rfl ?_
      refine g_iload O dX8_unpack_88 rfl ?_
      refine g_iadd O dX8_unpack_90 ?_
      obtain ⟨i20, hi21, e22, w⟩ := w
      refine gm_ald (j := a1) (len := n1) (nn := i20) O hM.1 h1.1 hi21 h1.2 e22 dX8_unpack_91 ?_
      obtain ⟨i23, hi24, e25, w⟩ := w
      refine gm_ast (j := 25) (len := 15) (nn := i23) O hM.1 rfl hi24 (by decide) e25 dX8_unpack_92 ?_
      refine g_aload_n O dX8_unpack_93 rfl ?_
      refine gm_getA (j := 26) O hM.1 rfl (by decide) q1754 dX8_unpack_94 ?_
      refine g_iload O dX8_unpack_97 rfl ?_
      refine g_aload_n O dX8_unpack_99 rfl ?_
      refine g_iload_n O dX8_unpack_100 rfl ?_
      refine g_bipush (v := 12) O dX8_unpack_101 (by decide) ?_
      refine g_iadd O dX8_unpack_103 ?_
      refine g_iload O dX8_unpack_104 rfl ?_
      refine g_iadd O dX8_unpack_106 ?_
      obtain ⟨i26, hi27, e28, w⟩ := w
      refine gm_ald (j := a1) (len := n1) (nn := i26) O hM.1 h1.1 hi27 h1.2 e28 dX8_unpack_107 ?_
      obtain ⟨i29, hi30, e31, w⟩ := w
      refine gm_ast (j := 26) (len := 12) (nn := i29) O hM.1 rfl hi30 (by decide) e31 dX8_unpack_108 ?_
      refine g_aload_n O dX8_unpack_109 rfl ?_
      refine gm_getA (j := 27) O hM.1 rfl (by decide) q1755 dX8_unpack_110 ?_
      refine g_iload O dX8_unpack_113 rfl ?_
      refine g_aload_n O dX8_unpack_115 rfl ?_
      refine g_iload_n O dX8_unpack_116 rfl ?_
      refine g_bipush (v := 24) O dX8_unpack_117 (by decide) ?_
      refine g_iadd O dX8_unpack_119 ?_
      refine g_iload O dX8_unpack_120 rfl ?_
      refine g_iadd O dX8_unpack_122 ?_
      obtain ⟨i32, hi33, e34, w⟩ := w
      refine gm_ald (j := a1) (len := n1) (nn := i32) O hM.1 h1.1 hi33 h1.2 e34 dX8_unpack_123 ?_
      obtain ⟨i35, hi36, e37, w⟩ := w
      refine gm_ast (j := 27) (len := 18) (nn := i35) O hM.1 rfl hi36 (by decide) e37 dX8_unpack_124 ?_
      refine g_iinc (v := (x4 + 1)) O dX8_unpack_125 rfl rfl rfl (lv' := [some (.ref mb), some (.ref (mb + o1)), none, some (.int x3), some (.int (x4 + 1))]) rfl ?_
      refine g_goto (tgt := 73) O dX8_unpack_128 (by decide) ?_
      exact ih ((x4 + 1)) ((s2 (s2 (s2 sg 26 i23 (sg (a1 + 1) i20)) 27 i29 ((s2 sg 26 i23 (sg (a1 + 1) i20)) (a1 + 1) i26)) 28 i35 ((s2 (s2 sg 26 i23 (sg (a1 + 1) i20)) 27 i29 ((s2 sg 26 i23 (sg (a1 + 1) i20)) (a1 + 1) i26)) (a1 + 1) i32))) w
set_option maxHeartbeats 4000000 in
theorem cM_unpack (l : Launch) (hfl : l.flags = flags0) (E : w_E) (z : Nat) (T L : Nat → Nat) (V0 : w_V) (P : w_P) (mb : Nat) (hM : mOk E T L P mb) (sg : MS) (a1 o1 n1 : Nat) (h1 : aOk a1 o1 n1) (x2 : Int32) (post : MS → Prop) (w : wM_unpack sg a1 n1 x2 post) : mMv l yX8_unpack cX8_unpack 5 none rM_unpack E z T L V0 P mb [.ref mb, .ref (mb + o1), .int x2] sg post := by
  refine g_start (S := Unit) hfl (by decide +kernel) rfl [some (.ref mb), some (.ref (mb + o1)), some (.int x2), none, none] rfl (fun _ h => h) (Nat.le_of_ble_eq_true rfl) (fun X hl hRm hEe O hQ => ?_)
  subst hl
  subst hEe
  unfold wM_unpack at w
  refine g_iload_n O dX8_unpack_0 rfl ?_
  refine g_istore_n O dX8_unpack_1 (Nat.le_of_ble_eq_true rfl) rfl (lv' := [some (.ref mb), some (.ref (mb + o1)), some (.int x2), some (.int x2), none]) rfl ?_
  refine g_iconst (v := 0) O dX8_unpack_2 (by decide) ?_
  refine g_istore O dX8_unpack_3 (Nat.le_of_ble_eq_true rfl) rfl (lv' := [some (.ref mb), some (.ref (mb + o1)), some (.int x2), some (.int x2), some (.int 0)]) rfl ?_
  obtain ⟨n39, w⟩ := w
  refine g_drop [2] (lv' := [some (.ref mb), some (.ref (mb + o1)), none, some (.int x2), some (.int 0)]) rfl ?_
  refine vM_unpack_5 O hRm hM a1 o1 n1 h1 x2 post hQ _ (fun g7 w => ?_) n39 0 sg w
  refine g_iinc (v := (x2 + 5)) O dX8_unpack_30 rfl rfl rfl (lv' := [some (.ref mb), some (.ref (mb + o1)), none, some (.int (x2 + 5)), none]) rfl ?_
  refine g_aload_n O dX8_unpack_33 rfl ?_
  refine g_aload_n O dX8_unpack_34 rfl ?_
  refine g_iload_n O dX8_unpack_35 rfl ?_
  obtain ⟨i8, hi9, e10, w⟩ := w
  refine gm_ald (j := a1) (len := n1) (nn := i8) O hM.1 h1.1 hi9 h1.2 e10 dX8_unpack_36 ?_
  refine gm_putI (j := 29) (ty := .int) O hM.1 rfl (by decide) q1757 rfl rfl rfl rfl dX8_unpack_37 ?_
  refine g_aload_n O dX8_unpack_40 rfl ?_
  refine g_aload_n O dX8_unpack_41 rfl ?_
  refine g_iload_n O dX8_unpack_42 rfl ?_
  refine g_iconst (v := 1) O dX8_unpack_43 (by decide) ?_
  refine g_iadd O dX8_unpack_44 ?_
  obtain ⟨i11, hi12, e13, w⟩ := w
  refine gm_ald (j := a1) (len := n1) (nn := i11) O hM.1 h1.1 hi12 h1.2 e13 dX8_unpack_45 ?_
  refine gm_putI (j := 30) (ty := .int) O hM.1 rfl (by decide) q1758 rfl rfl rfl rfl dX8_unpack_46 ?_
  refine g_aload_n O dX8_unpack_49 rfl ?_
  refine g_aload_n O dX8_unpack_50 rfl ?_
  refine g_iload_n O dX8_unpack_51 rfl ?_
  refine g_iconst (v := 2) O dX8_unpack_52 (by decide) ?_
  refine g_iadd O dX8_unpack_53 ?_
  obtain ⟨i14, hi15, e16, w⟩ := w
  refine gm_ald (j := a1) (len := n1) (nn := i14) O hM.1 h1.1 hi15 h1.2 e16 dX8_unpack_54 ?_
  refine gm_putI (j := 31) (ty := .int) O hM.1 rfl (by decide) q1759 rfl rfl rfl rfl dX8_unpack_55 ?_
  refine g_aload_n O dX8_unpack_58 rfl ?_
  refine g_aload_n O dX8_unpack_59 rfl ?_
  refine g_iload_n O dX8_unpack_60 rfl ?_
  refine g_iconst (v := 3) O dX8_unpack_61 (by decide) ?_
  refine g_iadd O dX8_unpack_62 ?_
  obtain ⟨i17, hi18, e19, w⟩ := w
  refine gm_ald (j := a1) (len := n1) (nn := i17) O hM.1 h1.1 hi18 h1.2 e19 dX8_unpack_63 ?_
  refine gm_putI (j := 32) (ty := .int) O hM.1 rfl (by decide) q1760 rfl rfl rfl rfl dX8_unpack_64 ?_
  refine g_iinc (v := ((x2 + 5) + 4)) O dX8_unpack_67 rfl rfl rfl (lv' := [some (.ref mb), some (.ref (mb + o1)), none, some (.int ((x2 + 5) + 4)), none]) rfl ?_
  refine g_iconst (v := 0) O dX8_unpack_70 (by decide) ?_
  refine g_istore O dX8_unpack_71 (Nat.le_of_ble_eq_true rfl) rfl (lv' := [some (.ref mb), some (.ref (mb + o1)), none, some (.int ((x2 + 5) + 4)), some (.int 0)]) rfl ?_
  obtain ⟨n38, w⟩ := w
  exact vM_unpack_73 O hRm hM a1 o1 n1 h1 ((x2 + 5) + 4) post hQ n38 0 (s2 (s2 (s2 (s2 g7 0 29 (g7 (a1 + 1) i8)) 0 30 ((s2 g7 0 29 (g7 (a1 + 1) i8)) (a1 + 1) i11)) 0 31 ((s2 (s2 g7 0 29 (g7 (a1 + 1) i8)) 0 30 ((s2 g7 0 29 (g7 (a1 + 1) i8)) (a1 + 1) i11)) (a1 + 1) i14)) 0 32 ((s2 (s2 (s2 g7 0 29 (g7 (a1 + 1) i8)) 0 30 ((s2 g7 0 29 (g7 (a1 + 1) i8)) (a1 + 1) i11)) 0 31 ((s2 (s2 g7 0 29 (g7 (a1 + 1) i8)) 0 30 ((s2 g7 0 29 (g7 (a1 + 1) i8)) (a1 + 1) i11)) (a1 + 1) i14)) (a1 + 1) i17)) w
-- undo
abbrev rM_undo : Room := { frames := 2, cells := 0, slots := 0, locals := 36 }
set_option maxHeartbeats 4000000 in
theorem cM_undo (l : Launch) (hfl : l.flags = flags0) (E : w_E) (z : Nat) (T L : Nat → Nat) (V0 : w_V) (P : w_P) (mb : Nat) (hM : mOk E T L P mb) (sg : MS) (post : Int32 → MS → Prop) (w : wM_undo sg post) : mMi l yX8_undo cX8_undo 1 (some .int) rM_undo E z T L V0 P mb [.ref mb] sg post := by
  refine g_start (S := Unit) hfl (by decide +kernel) rfl [some (.ref mb)] rfl (fun _ h => h) (Nat.le_of_ble_eq_true rfl) (fun X hl hRm hEe O hQ => ?_)
  subst hl
  subst hEe
  unfold wM_undo at w
  refine g_aload_n O dX8_undo_0 rfl ?_
  refine g_iconst (v := 0) O dX8_undo_1 (by decide) ?_
  refine gm_putI (j := 2) (ty := .int) O hM.1 rfl (by decide) q1730 rfl rfl rfl rfl dX8_undo_2 ?_
  refine g_aload_n O dX8_undo_5 rfl ?_
  refine gm_getI (j := 33) O hM.1 rfl (by decide) q1761 dX8_undo_6 ?_
  refine g_if_ne (tgt := 14) O w dX8_undo_9 (by decide) (fun w => ?_) (fun w => ?_)
  · refine g_aload_n O dX8_undo_14 rfl ?_
    refine g_dup O dX8_undo_15 rfl ?_
    refine gm_getI (j := 33) O hM.1 rfl (by decide) q1761 dX8_undo_16 ?_
    refine g_iconst (v := 1) O dX8_undo_19 (by decide) ?_
    refine g_isub O dX8_undo_20 ?_
    refine gm_putI (j := 33) (ty := .int) O hM.1 rfl (by decide) q1761 rfl rfl rfl rfl dX8_undo_21 ?_
    refine g_aload_n O dX8_undo_24 rfl ?_
    refine g_aload_n O dX8_undo_25 rfl ?_
    refine gm_getA (j := 28) O hM.1 rfl (by decide) q1756 dX8_undo_26 ?_
    refine g_bipush (v := 45) O dX8_undo_29 (by decide) ?_
    refine g_aload_n O dX8_undo_31 rfl ?_
    refine gm_getI (j := 33) O hM.1 rfl (by decide) q1761 dX8_undo_32 ?_
    refine g_imul O dX8_undo_35 ?_
    refine gm_Vv (nA := 2) (As := [.ref (mb + 18), .int (45 * ((s2 (s2 sg 0 2 0) 0 33 (((s2 sg 0 2 0) 0 33) - 1)) 0 33))]) (rest := []) O hRm hM.1 (cM_unpack _ O.2.2.2.2.2.2.2.2 _ _ _ _ _ _ _ hM (s2 (s2 sg 0 2 0) 0 33 (((s2 sg 0 2 0) 0 33) - 1)) 28 18 1800 ⟨rfl, by decide⟩ ((45 * ((s2 (s2 sg 0 2 0) 0 33 (((s2 sg 0 2 0) 0 33) - 1)) 0 33))) _ w) (lw_V q2251 q2253 qs101 q134 q2254) rfl rfl (by decide +kernel) ⟨Nat.le_of_ble_eq_true rfl, Nat.le_of_ble_eq_true rfl⟩ rfl rfl rfl (Nat.le_of_ble_eq_true rfl) dX8_undo_36 (fun g2 w => ?_)
    refine g_aload_n O dX8_undo_39 rfl ?_
    refine gm_getI (j := 33) O hM.1 rfl (by decide) q1761 dX8_undo_40 ?_
    exact gm_iret O hQ rfl w dX8_undo_43
  · refine g_iconst (v := (-1)) O dX8_undo_12 (by decide) ?_
    exact gm_iret O hQ rfl w dX8_undo_13
-- burn
abbrev rM_burn : Room := { frames := 8, cells := 0, slots := 0, locals := 177 }
set_option maxHeartbeats 4000000 in
theorem vM_burn_14 {X : Cx} {z : Nat} {T L : Nat → Nat} {V0 : w_V} {P : w_P} {mb : Nat} (O : Okc X cX8_burn RX8 6 (some .int)) (hRm : cxR X = rM_burn) (hM : mOk (cxE X) T L P mb) (sg : MS) (post : Int32 → MS → Prop) (hQ : cxMQ X (va_Qi post (fun u t => wdW (cxE X) (mW z T L V0 P mb u) t.heap) (w_A (cxE X))) 0 0) (w : jM_burn_14 sg post) : gW X 0 0 z T L (up1 V0 mb sg) P 14 [some (.ref mb), none, none, none, none, none] [] := by
  unfold jM_burn_14 at w
  refine g_aload_n O dX8_burn_14 rfl ?_
  refine g_iconst (v := 1) O dX8_burn_15 (by decide) ?_
  refine gm_Vi (nA := 1) (As := [.int 1]) (rest := []) O hRm hM.1 (cM_fail _ O.2.2.2.2.2.2.2.2 _ _ _ _ _ _ _ hM sg (1) _ w) (lw_V q1930 q1932 qs49 q134 q1933) rfl rfl (by decide +kernel) ⟨Nat.le_of_ble_eq_true rfl, Nat.le_of_ble_eq_true rfl⟩ rfl rfl rfl (Nat.le_of_ble_eq_true rfl) dX8_burn_16 (fun r1 g2 w => ?_)
  exact gm_iret O hQ rfl w dX8_burn_19
set_option maxHeartbeats 4000000 in
theorem vM_burn_104 {X : Cx} {z : Nat} {T L : Nat → Nat} {V0 : w_V} {P : w_P} {mb : Nat} (O : Okc X cX8_burn RX8 6 (some .int)) (hRm : cxR X = rM_burn) (hM : mOk (cxE X) T L P mb) (sg : MS) (x1 : Int32) (x2 : Int32) (x3 : Int32) (x4 : Int32) (post : Int32 → MS → Prop) (hQ : cxMQ X (va_Qi post (fun u t => wdW (cxE X) (mW z T L V0 P mb u) t.heap) (w_A (cxE X))) 0 0) (kb : Int32 → Int32 → Int32 → MS → Prop) (hkb : ∀ (y2 : Int32) (y3 : Int32) (y4 : Int32) (sg : MS), kb y2 y3 y4 sg → gW X 0 0 z T L (up1 V0 mb sg) P 31 [some (.ref mb), some (.int x1), some (.int y2), some (.int y3), some (.int y4), none] []) (w : jM_burn_104 sg x1 x2 x3 x4 post kb) : gW X 0 0 z T L (up1 V0 mb sg) P 104 [some (.ref mb), some (.int x1), some (.int x2), some (.int x3), some (.int x4), none] [] := by
  unfold jM_burn_104 at w
  refine g_iinc (v := (x4 + 1)) O dX8_burn_104 rfl rfl rfl (lv' := [some (.ref mb), some (.int x1), some (.int x2), some (.int x3), some (.int (x4 + 1)), none]) rfl ?_
  refine g_goto (tgt := 31) O dX8_burn_107 (by decide) ?_
  exact hkb (x2) (x3) ((x4 + 1)) (sg) w
set_option maxHeartbeats 4000000 in
theorem vM_burn_31 {X : Cx} {z : Nat} {T L : Nat → Nat} {V0 : w_V} {P : w_P} {mb : Nat} (O : Okc X cX8_burn RX8 6 (some .int)) (hRm : cxR X = rM_burn) (hM : mOk (cxE X) T L P mb) (x1 : Int32) (post : Int32 → MS → Prop) (hQ : cxMQ X (va_Qi post (fun u t => wdW (cxE X) (mW z T L V0 P mb u) t.heap) (w_A (cxE X))) 0 0) (ke_110 : Int32 → Int32 → MS → Prop) (hke_110 : ∀ (y2 : Int32) (y3 : Int32) (sg : MS), ke_110 y2 y3 sg → gW X 0 0 z T L (up1 V0 mb sg) P 110 [some (.ref mb), some (.int x1), some (.int y2), some (.int y3), none, none] [])  : ∀ (n : Nat) (x2 : Int32) (x3 : Int32) (x4 : Int32) (sg : MS), lM_burn_31 x1 post ke_110 n x2 x3 x4 sg → gW X 0 0 z T L (up1 V0 mb sg) P 31 [some (.ref mb), some (.int x1), some (.int x2), some (.int x3), some (.int x4), none] [] := by
  intro n
  induction n with
  | zero =>
    intro x2 x3 x4 sg w
    exact w.elim
  | succ n ih =>
    intro x2 x3 x4 sg w
    unfold lM_burn_31 at w
    refine g_iload O dX8_burn_31 rfl ?_
    refine g_aload_n O dX8_burn_33 rfl ?_
    refine gm_getA (j := 3) O hM.1 rfl (by decide) q1731 dX8_burn_34 ?_
    refine g_iconst (v := 0) O dX8_burn_37 (by decide) ?_
    refine gm_ald (j := 3) (len := 14) (nn := 0) O hM.1 rfl (by decide) (by decide) rfl dX8_burn_38 ?_
    refine g_icmp_ge (tgt := 110) O w dX8_burn_39 (by decide) (fun w => ?_) (fun w => ?_)
    · refine g_drop [4] (lv' := [some (.ref mb), some (.int x1), some (.int x2), some (.int x3), none, none]) rfl ?_
      exact hke_110 (x2) (x3) (sg) w
    · refine g_aload_n O dX8_burn_42 rfl ?_
      refine gm_getI (j := 29) O hM.1 rfl (by decide) q1757 dX8_burn_43 ?_
      refine g_iload O dX8_burn_46 rfl ?_
      refine g_ishr O dX8_burn_48 ?_
      refine g_iconst (v := 1) O dX8_burn_49 (by decide) ?_
      refine g_iand O dX8_burn_50 ?_
      refine g_if_ne (tgt := 57) O w dX8_burn_51 (by decide) (fun w => ?_) (fun w => ?_)
      · refine g_aload_n O dX8_burn_57 rfl ?_
        refine g_dup O dX8_burn_58 rfl ?_
        refine gm_getI (j := 29) O hM.1 rfl (by decide) q1757 dX8_burn_59 ?_
        refine g_iconst (v := 1) O dX8_burn_62 (by decide) ?_
        refine g_iload O dX8_burn_63 rfl ?_
        refine g_ishl O dX8_burn_65 ?_
        refine g_ixor O dX8_burn_66 ?_
        refine gm_putI (j := 29) (ty := .int) O hM.1 rfl (by decide) q1757 rfl rfl rfl rfl dX8_burn_67 ?_
        refine g_aload_n O dX8_burn_70 rfl ?_
        refine gm_Vi (nA := 0) (As := []) (rest := []) O hRm hM.1 (cM_tell _ O.2.2.2.2.2.2.2.2 _ _ _ _ _ _ _ hM (s2 sg 0 29 ((sg 0 29) ^^^ ((1 : Int32) <<< ((x4 : Int32) &&& 31)))) _ w) (lw_V q2077 q2079 qs77 q134 q2080) rfl rfl (by decide +kernel) ⟨Nat.le_of_ble_eq_true rfl, Nat.le_of_ble_eq_true rfl⟩ rfl rfl rfl (Nat.le_of_ble_eq_true rfl) dX8_burn_71 (fun r5 g6 w => ?_)
        refine g_istore O dX8_burn_74 (Nat.le_of_ble_eq_true rfl) rfl (lv' := [some (.ref mb), some (.int x1), some (.int x2), some (.int x3), some (.int x4), some (.int r5)]) rfl ?_
        refine g_aload_n O dX8_burn_76 rfl ?_
        refine g_dup O dX8_burn_77 rfl ?_
        refine gm_getI (j := 29) O hM.1 rfl (by decide) q1757 dX8_burn_78 ?_
        refine g_iconst (v := 1) O dX8_burn_81 (by decide) ?_
        refine g_iload O dX8_burn_82 rfl ?_
        refine g_ishl O dX8_burn_84 ?_
        refine g_ixor O dX8_burn_85 ?_
        refine gm_putI (j := 29) (ty := .int) O hM.1 rfl (by decide) q1757 rfl rfl rfl rfl dX8_burn_86 ?_
        refine g_iload O dX8_burn_89 rfl ?_
        refine g_iload_n O dX8_burn_91 rfl ?_
        refine g_icmp_gt (tgt := 98) O w dX8_burn_92 (by decide) (fun w => ?_) (fun w => ?_)
        · refine g_iload O dX8_burn_98 rfl ?_
          refine g_istore_n O dX8_burn_100 (Nat.le_of_ble_eq_true rfl) rfl (lv' := [some (.ref mb), some (.int x1), some (.int x4), some (.int x3), some (.int x4), some (.int r5)]) rfl ?_
          refine g_iload O dX8_burn_101 rfl ?_
          refine g_istore_n O dX8_burn_103 (Nat.le_of_ble_eq_true rfl) rfl (lv' := [some (.ref mb), some (.int x1), some (.int x4), some (.int r5), some (.int x4), some (.int r5)]) rfl ?_
          refine g_drop [5] (lv' := [some (.ref mb), some (.int x1), some (.int x4), some (.int r5), some (.int x4), none]) rfl ?_
          exact vM_burn_104 O hRm hM (s2 g6 0 29 ((g6 0 29) ^^^ ((1 : Int32) <<< ((x4 : Int32) &&& 31))))  x1 x4 r5 x4 post hQ (lM_burn_31 x1 post ke_110 n) ih w
        · refine g_goto (tgt := 104) O dX8_burn_95 (by decide) ?_
          refine g_drop [5] (lv' := [some (.ref mb), some (.int x1), some (.int x2), some (.int x3), some (.int x4), none]) rfl ?_
          exact vM_burn_104 O hRm hM (s2 g6 0 29 ((g6 0 29) ^^^ ((1 : Int32) <<< ((x4 : Int32) &&& 31))))  x1 x2 x3 x4 post hQ (lM_burn_31 x1 post ke_110 n) ih w
      · refine g_goto (tgt := 104) O dX8_burn_54 (by decide) ?_
        exact vM_burn_104 O hRm hM sg  x1 x2 x3 x4 post hQ (lM_burn_31 x1 post ke_110 n) ih w
set_option maxHeartbeats 4000000 in
theorem cM_burn (l : Launch) (hfl : l.flags = flags0) (E : w_E) (z : Nat) (T L : Nat → Nat) (V0 : w_V) (P : w_P) (mb : Nat) (hM : mOk E T L P mb) (sg : MS) (x1 : Int32) (post : Int32 → MS → Prop) (w : wM_burn sg x1 post) : mMi l yX8_burn cX8_burn 6 (some .int) rM_burn E z T L V0 P mb [.ref mb, .int x1] sg post := by
  refine g_start (S := Unit) hfl (by decide +kernel) rfl [some (.ref mb), some (.int x1), none, none, none, none] rfl (fun _ h => h) (Nat.le_of_ble_eq_true rfl) (fun X hl hRm hEe O hQ => ?_)
  subst hl
  subst hEe
  unfold wM_burn at w
  refine g_aload_n O dX8_burn_0 rfl ?_
  refine g_iconst (v := 0) O dX8_burn_1 (by decide) ?_
  refine gm_putI (j := 2) (ty := .int) O hM.1 rfl (by decide) q1730 rfl rfl rfl rfl dX8_burn_2 ?_
  refine g_iload_n O dX8_burn_5 rfl ?_
  refine g_if_lt (tgt := 14) O w dX8_burn_6 (by decide) (fun w => ?_) (fun w => ?_)
  · refine g_drop [1] (lv' := [some (.ref mb), none, none, none, none, none]) rfl ?_
    exact vM_burn_14 O hRm hM (s2 sg 0 2 0)  post hQ w
  · refine g_iload_n O dX8_burn_9 rfl ?_
    refine g_iconst (v := 1) O dX8_burn_10 (by decide) ?_
    refine g_icmp_le (tgt := 20) O w dX8_burn_11 (by decide) (fun w => ?_) (fun w => ?_)
    · refine g_aload_n O dX8_burn_20 rfl ?_
      refine gm_Vv (nA := 0) (As := []) (rest := []) O hRm hM.1 (cM_set _ O.2.2.2.2.2.2.2.2 _ _ _ _ _ _ _ hM (s2 sg 0 2 0) _ w) (lw_V q2073 q2075 qs76 q134 q2076) rfl rfl (by decide +kernel) ⟨Nat.le_of_ble_eq_true rfl, Nat.le_of_ble_eq_true rfl⟩ rfl rfl rfl (Nat.le_of_ble_eq_true rfl) dX8_burn_21 (fun g4 w => ?_)
      refine g_iconst (v := (-1)) O dX8_burn_24 (by decide) ?_
      refine g_istore_n O dX8_burn_25 (Nat.le_of_ble_eq_true rfl) rfl (lv' := [some (.ref mb), some (.int x1), some (.int (-1)), none, none, none]) rfl ?_
      refine g_iconst (v := (-1)) O dX8_burn_26 (by decide) ?_
      refine g_istore_n O dX8_burn_27 (Nat.le_of_ble_eq_true rfl) rfl (lv' := [some (.ref mb), some (.int x1), some (.int (-1)), some (.int (-1)), none, none]) rfl ?_
      refine g_iconst (v := 0) O dX8_burn_28 (by decide) ?_
      refine g_istore O dX8_burn_29 (Nat.le_of_ble_eq_true rfl) rfl (lv' := [some (.ref mb), some (.int x1), some (.int (-1)), some (.int (-1)), some (.int 0), none]) rfl ?_
      obtain ⟨n10, w⟩ := w
      refine vM_burn_31 O hRm hM x1 post hQ _ (fun y7 y8 g9 w => ?_) n10 (-1) (-1) 0 g4 w
      refine g_iload_n O dX8_burn_110 rfl ?_
      refine g_if_ne (tgt := 118) O w dX8_burn_111 (by decide) (fun w => ?_) (fun w => ?_)
      · refine g_iload_n O dX8_burn_118 rfl ?_
        exact gm_iret O hQ rfl w dX8_burn_119
      · refine g_iload_n O dX8_burn_114 rfl ?_
        refine g_goto (tgt := 119) O dX8_burn_115 (by decide) ?_
        exact gm_iret O hQ rfl w dX8_burn_119
    · refine g_drop [1] (lv' := [some (.ref mb), none, none, none, none, none]) rfl ?_
      exact vM_burn_14 O hRm hM (s2 sg 0 2 0)  post hQ w
-- when
abbrev rM_when : Room := { frames := 8, cells := 0, slots := 0, locals := 177 }
set_option maxHeartbeats 4000000 in
theorem vM_when_22 {X : Cx} {z : Nat} {T L : Nat → Nat} {V0 : w_V} {P : w_P} {mb : Nat} (O : Okc X cX8_when RX8 8 (some .int)) (hRm : cxR X = rM_when) (hM : mOk (cxE X) T L P mb) (sg : MS) (post : Int32 → MS → Prop) (hQ : cxMQ X (va_Qi post (fun u t => wdW (cxE X) (mW z T L V0 P mb u) t.heap) (w_A (cxE X))) 0 0) (w : jM_when_22 sg post) : gW X 0 0 z T L (up1 V0 mb sg) P 22 [some (.ref mb), none, none, none, none, none, none, none] [] := by
  unfold jM_when_22 at w
  refine g_aload_n O dX8_when_22 rfl ?_
  refine g_iconst (v := 1) O dX8_when_23 (by decide) ?_
  refine gm_Vi (nA := 1) (As := [.int 1]) (rest := []) O hRm hM.1 (cM_fail _ O.2.2.2.2.2.2.2.2 _ _ _ _ _ _ _ hM sg (1) _ w) (lw_V q1930 q1932 qs49 q134 q1933) rfl rfl (by decide +kernel) ⟨Nat.le_of_ble_eq_true rfl, Nat.le_of_ble_eq_true rfl⟩ rfl rfl rfl (Nat.le_of_ble_eq_true rfl) dX8_when_24 (fun r3 g4 w => ?_)
  exact gm_iret O hQ rfl w dX8_when_27
set_option maxHeartbeats 4000000 in
theorem vM_when_87 {X : Cx} {z : Nat} {T L : Nat → Nat} {V0 : w_V} {P : w_P} {mb : Nat} (O : Okc X cX8_when RX8 8 (some .int)) (hRm : cxR X = rM_when) (hM : mOk (cxE X) T L P mb) (sg : MS) (x1 : Int32) (x2 : Int32) (x3 : Int32) (x4 : Int32) (x5 : Int32) (x6 : Int32) (post : Int32 → MS → Prop) (hQ : cxMQ X (va_Qi post (fun u t => wdW (cxE X) (mW z T L V0 P mb u) t.heap) (w_A (cxE X))) 0 0) (kb : Int32 → Int32 → Int32 → MS → Prop) (hkb : ∀ (y4 : Int32) (y5 : Int32) (y6 : Int32) (sg : MS), kb y4 y5 y6 sg → gW X 0 0 z T L (up1 V0 mb sg) P 48 [some (.ref mb), some (.int x1), some (.int x2), some (.int x3), some (.int y4), some (.int y5), some (.int y6), none] []) (w : jM_when_87 sg x1 x2 x3 x4 x5 x6 post kb) : gW X 0 0 z T L (up1 V0 mb sg) P 87 [some (.ref mb), some (.int x1), some (.int x2), some (.int x3), some (.int x4), some (.int x5), some (.int x6), none] [] := by
  unfold jM_when_87 at w
  refine g_iinc (v := (x6 + 1)) O dX8_when_87 rfl rfl rfl (lv' := [some (.ref mb), some (.int x1), some (.int x2), some (.int x3), some (.int x4), some (.int x5), some (.int (x6 + 1)), none]) rfl ?_
  refine g_goto (tgt := 48) O dX8_when_90 (by decide) ?_
  exact hkb (x4) (x5) ((x6 + 1)) (sg) w
set_option maxHeartbeats 4000000 in
theorem vM_when_48 {X : Cx} {z : Nat} {T L : Nat → Nat} {V0 : w_V} {P : w_P} {mb : Nat} (O : Okc X cX8_when RX8 8 (some .int)) (hRm : cxR X = rM_when) (hM : mOk (cxE X) T L P mb) (x1 : Int32) (x2 : Int32) (x3 : Int32) (post : Int32 → MS → Prop) (hQ : cxMQ X (va_Qi post (fun u t => wdW (cxE X) (mW z T L V0 P mb u) t.heap) (w_A (cxE X))) 0 0) (ke_93 : Int32 → Int32 → MS → Prop) (hke_93 : ∀ (y4 : Int32) (y5 : Int32) (sg : MS), ke_93 y4 y5 sg → gW X 0 0 z T L (up1 V0 mb sg) P 93 [some (.ref mb), some (.int x1), some (.int x2), some (.int x3), some (.int y4), some (.int y5), none, none] [])  : ∀ (n : Nat) (x4 : Int32) (x5 : Int32) (x6 : Int32) (sg : MS), lM_when_48 x1 x2 x3 post ke_93 n x4 x5 x6 sg → gW X 0 0 z T L (up1 V0 mb sg) P 48 [some (.ref mb), some (.int x1), some (.int x2), some (.int x3), some (.int x4), some (.int x5), some (.int x6), none] [] := by
  intro n
  induction n with
  | zero =>
    intro x4 x5 x6 sg w
    exact w.elim
  | succ n ih =>
    intro x4 x5 x6 sg w
    unfold lM_when_48 at w
    refine g_iload O dX8_when_48 rfl ?_
    refine g_bipush (v := 60) O dX8_when_50 (by decide) ?_
    refine g_icmp_gt (tgt := 93) O w dX8_when_52 (by decide) (fun w => ?_) (fun w => ?_)
    · refine g_drop [6] (lv' := [some (.ref mb), some (.int x1), some (.int x2), some (.int x3), some (.int x4), some (.int x5), none, none]) rfl ?_
      exact hke_93 (x4) (x5) (sg) w
    · refine g_aload_n O dX8_when_55 rfl ?_
      refine gm_getA (j := 6) O hM.1 rfl (by decide) q1734 dX8_when_56 ?_
      refine g_iload_n O dX8_when_59 rfl ?_
      refine g_iload O dX8_when_60 rfl ?_
      obtain ⟨i10, hi11, e12, w⟩ := w
      refine gm_ast (j := 6) (len := 10) (nn := i10) O hM.1 rfl hi11 (by decide) e12 dX8_when_62 ?_
      refine g_aload_n O dX8_when_63 rfl ?_
      refine gm_Vi (nA := 0) (As := []) (rest := []) O hRm hM.1 (cM_tell _ O.2.2.2.2.2.2.2.2 _ _ _ _ _ _ _ hM (s2 sg 7 i10 x6) _ w) (lw_V q2077 q2079 qs77 q134 q2080) rfl rfl (by decide +kernel) ⟨Nat.le_of_ble_eq_true rfl, Nat.le_of_ble_eq_true rfl⟩ rfl rfl rfl (Nat.le_of_ble_eq_true rfl) dX8_when_64 (fun r13 g14 w => ?_)
      refine g_istore O dX8_when_67 (Nat.le_of_ble_eq_true rfl) rfl (lv' := [some (.ref mb), some (.int x1), some (.int x2), some (.int x3), some (.int x4), some (.int x5), some (.int x6), some (.int r13)]) rfl ?_
      refine g_iload O dX8_when_69 rfl ?_
      refine g_iload O dX8_when_71 rfl ?_
      refine g_icmp_gt (tgt := 79) O w dX8_when_73 (by decide) (fun w => ?_) (fun w => ?_)
      · refine g_iload O dX8_when_79 rfl ?_
        refine g_istore O dX8_when_81 (Nat.le_of_ble_eq_true rfl) rfl (lv' := [some (.ref mb), some (.int x1), some (.int x2), some (.int x3), some (.int x6), some (.int x5), some (.int x6), some (.int r13)]) rfl ?_
        refine g_iload O dX8_when_83 rfl ?_
        refine g_istore O dX8_when_85 (Nat.le_of_ble_eq_true rfl) rfl (lv' := [some (.ref mb), some (.int x1), some (.int x2), some (.int x3), some (.int x6), some (.int r13), some (.int x6), some (.int r13)]) rfl ?_
        refine g_drop [7] (lv' := [some (.ref mb), some (.int x1), some (.int x2), some (.int x3), some (.int x6), some (.int r13), some (.int x6), none]) rfl ?_
        exact vM_when_87 O hRm hM g14  x1 x2 x3 x6 r13 x6 post hQ (lM_when_48 x1 x2 x3 post ke_93 n) ih w
      · refine g_goto (tgt := 87) O dX8_when_76 (by decide) ?_
        refine g_drop [7] (lv' := [some (.ref mb), some (.int x1), some (.int x2), some (.int x3), some (.int x4), some (.int x5), some (.int x6), none]) rfl ?_
        exact vM_when_87 O hRm hM g14  x1 x2 x3 x4 x5 x6 post hQ (lM_when_48 x1 x2 x3 post ke_93 n) ih w
set_option maxHeartbeats 4000000 in
theorem cM_when (l : Launch) (hfl : l.flags = flags0) (E : w_E) (z : Nat) (T L : Nat → Nat) (V0 : w_V) (P : w_P) (mb : Nat) (hM : mOk E T L P mb) (sg : MS) (x1 : Int32) (x2 : Int32) (post : Int32 → MS → Prop) (w : wM_when sg x1 x2 post) : mMi l yX8_when cX8_when 8 (some .int) rM_when E z T L V0 P mb [.ref mb, .int x1, .int x2] sg post := by
  refine g_start (S := Unit) hfl (by decide +kernel) rfl [some (.ref mb), some (.int x1), some (.int x2), none, none, none, none, none] rfl (fun _ h => h) (Nat.le_of_ble_eq_true rfl) (fun X hl hRm hEe O hQ => ?_)
  subst hl
  subst hEe
  unfold wM_when at w
  refine g_aload_n O dX8_when_0 rfl ?_
  refine g_iconst (v := 0) O dX8_when_1 (by decide) ?_
  refine gm_putI (j := 2) (ty := .int) O hM.1 rfl (by decide) q1730 rfl rfl rfl rfl dX8_when_2 ?_
  refine g_aload_n O dX8_when_5 rfl ?_
  refine g_iload_n O dX8_when_6 rfl ?_
  refine gm_Vi0 (nA := 1) (As := [.int x1]) (rest := []) O hRm hM.1 (cM_isJudge _ O.2.2.2.2.2.2.2.2 _ _ _ _ _ _ _ hM (s2 sg 0 2 0) (x1) _ w) (lw_V q2171 q2173 qs96 q134 q2174) rfl rfl (by decide +kernel) ⟨Nat.le_of_ble_eq_true rfl, Nat.le_of_ble_eq_true rfl⟩ rfl rfl rfl (Nat.le_of_ble_eq_true rfl) dX8_when_7 (fun r1 w => ?_)
  refine g_if_eq (tgt := 22) O w dX8_when_10 (by decide) (fun w => ?_) (fun w => ?_)
  · refine g_drop [1, 2] (lv' := [some (.ref mb), none, none, none, none, none, none, none]) rfl ?_
    exact vM_when_22 O hRm hM (s2 sg 0 2 0)  post hQ w
  · refine g_iload_n O dX8_when_13 rfl ?_
    refine g_if_lt (tgt := 22) O w dX8_when_14 (by decide) (fun w => ?_) (fun w => ?_)
    · refine g_drop [1, 2] (lv' := [some (.ref mb), none, none, none, none, none, none, none]) rfl ?_
      exact vM_when_22 O hRm hM (s2 sg 0 2 0)  post hQ w
    · refine g_iload_n O dX8_when_17 rfl ?_
      refine g_iconst (v := 1) O dX8_when_18 (by decide) ?_
      refine g_icmp_le (tgt := 28) O w dX8_when_19 (by decide) (fun w => ?_) (fun w => ?_)
      · refine g_aload_n O dX8_when_28 rfl ?_
        refine gm_Vv (nA := 0) (As := []) (rest := []) O hRm hM.1 (cM_set _ O.2.2.2.2.2.2.2.2 _ _ _ _ _ _ _ hM (s2 sg 0 2 0) _ w) (lw_V q2073 q2075 qs76 q134 q2076) rfl rfl (by decide +kernel) ⟨Nat.le_of_ble_eq_true rfl, Nat.le_of_ble_eq_true rfl⟩ rfl rfl rfl (Nat.le_of_ble_eq_true rfl) dX8_when_29 (fun g6 w => ?_)
        refine g_aload_n O dX8_when_32 rfl ?_
        refine gm_getA (j := 6) O hM.1 rfl (by decide) q1734 dX8_when_33 ?_
        refine g_iload_n O dX8_when_36 rfl ?_
        obtain ⟨i7, hi8, e9, w⟩ := w
        refine gm_ald (j := 6) (len := 10) (nn := i7) O hM.1 rfl hi8 (by decide) e9 dX8_when_37 ?_
        refine g_istore_n O dX8_when_38 (Nat.le_of_ble_eq_true rfl) rfl (lv' := [some (.ref mb), some (.int x1), some (.int x2), some (.int (g6 7 i7)), none, none, none, none]) rfl ?_
        refine g_iconst (v := (-1)) O dX8_when_39 (by decide) ?_
        refine g_istore O dX8_when_40 (Nat.le_of_ble_eq_true rfl) rfl (lv' := [some (.ref mb), some (.int x1), some (.int x2), some (.int (g6 7 i7)), some (.int (-1)), none, none, none]) rfl ?_
        refine g_iconst (v := (-1)) O dX8_when_42 (by decide) ?_
        refine g_istore O dX8_when_43 (Nat.le_of_ble_eq_true rfl) rfl (lv' := [some (.ref mb), some (.int x1), some (.int x2), some (.int (g6 7 i7)), some (.int (-1)), some (.int (-1)), none, none]) rfl ?_
        refine g_iconst (v := 0) O dX8_when_45 (by decide) ?_
        refine g_istore O dX8_when_46 (Nat.le_of_ble_eq_true rfl) rfl (lv' := [some (.ref mb), some (.int x1), some (.int x2), some (.int (g6 7 i7)), some (.int (-1)), some (.int (-1)), some (.int 0), none]) rfl ?_
        obtain ⟨n21, w⟩ := w
        refine vM_when_48 O hRm hM x1 x2 (g6 7 i7) post hQ _ (fun y15 y16 g17 w => ?_) n21 (-1) (-1) 0 g6 w
        refine g_aload_n O dX8_when_93 rfl ?_
        refine gm_getA (j := 6) O hM.1 rfl (by decide) q1734 dX8_when_94 ?_
        refine g_iload_n O dX8_when_97 rfl ?_
        refine g_iload_n O dX8_when_98 rfl ?_
        obtain ⟨i18, hi19, e20, w⟩ := w
        refine gm_ast (j := 6) (len := 10) (nn := i18) O hM.1 rfl hi19 (by decide) e20 dX8_when_99 ?_
        refine g_iload_n O dX8_when_100 rfl ?_
        refine g_if_ne (tgt := 109) O w dX8_when_101 (by decide) (fun w => ?_) (fun w => ?_)
        · refine g_iload O dX8_when_109 rfl ?_
          exact gm_iret O hQ rfl w dX8_when_111
        · refine g_iload O dX8_when_104 rfl ?_
          refine g_goto (tgt := 111) O dX8_when_106 (by decide) ?_
          exact gm_iret O hQ rfl w dX8_when_111
      · refine g_drop [1, 2] (lv' := [some (.ref mb), none, none, none, none, none, none, none]) rfl ?_
        exact vM_when_22 O hRm hM (s2 sg 0 2 0)  post hQ w
-- round
abbrev rM_round : Room := { frames := 9, cells := 0, slots := 0, locals := 197 }
set_option maxHeartbeats 4000000 in
theorem cM_round (l : Launch) (hfl : l.flags = flags0) (E : w_E) (z : Nat) (T L : Nat → Nat) (V0 : w_V) (P : w_P) (mb : Nat) (hM : mOk E T L P mb) (sg : MS) (x1 : Int32) (post : Int32 → MS → Prop) (w : wM_round sg x1 post) : mMi l yX8_round cX8_round 3 (some .int) rM_round E z T L V0 P mb [.ref mb, .int x1] sg post := by
  refine g_start (S := Unit) hfl (by decide +kernel) rfl [some (.ref mb), some (.int x1), none] rfl (fun _ h => h) (Nat.le_of_ble_eq_true rfl) (fun X hl hRm hEe O hQ => ?_)
  subst hl
  subst hEe
  unfold wM_round at w
  refine g_aload_n O dX8_round_0 rfl ?_
  refine g_iconst (v := 0) O dX8_round_1 (by decide) ?_
  refine gm_putI (j := 2) (ty := .int) O hM.1 rfl (by decide) q1730 rfl rfl rfl rfl dX8_round_2 ?_
  refine g_aload_n O dX8_round_5 rfl ?_
  refine g_iload_n O dX8_round_6 rfl ?_
  refine gm_Vi0 (nA := 1) (As := [.int x1]) (rest := []) O hRm hM.1 (cM_isJudge _ O.2.2.2.2.2.2.2.2 _ _ _ _ _ _ _ hM (s2 sg 0 2 0) (x1) _ w) (lw_V q2171 q2173 qs96 q134 q2174) rfl rfl (by decide +kernel) ⟨Nat.le_of_ble_eq_true rfl, Nat.le_of_ble_eq_true rfl⟩ rfl rfl rfl (Nat.le_of_ble_eq_true rfl) dX8_round_7 (fun r1 w => ?_)
  refine g_if_ne (tgt := 19) O w dX8_round_10 (by decide) (fun w => ?_) (fun w => ?_)
  · refine g_aload_n O dX8_round_19 rfl ?_
    refine gm_Vi (nA := 0) (As := []) (rest := []) O hRm hM.1 (cM_tellNow _ O.2.2.2.2.2.2.2.2 _ _ _ _ _ _ _ hM (s2 sg 0 2 0) _ w) (lw_V q2069 q2071 qs75 q134 q2072) rfl rfl (by decide +kernel) ⟨Nat.le_of_ble_eq_true rfl, Nat.le_of_ble_eq_true rfl⟩ rfl rfl rfl (Nat.le_of_ble_eq_true rfl) dX8_round_20 (fun r3 g4 w => ?_)
    refine g_istore_n O dX8_round_23 (Nat.le_of_ble_eq_true rfl) rfl (lv' := [some (.ref mb), some (.int x1), some (.int r3)]) rfl ?_
    refine g_aload_n O dX8_round_24 rfl ?_
    refine g_iload_n O dX8_round_25 rfl ?_
    refine gm_putI (j := 40) (ty := .int) O hM.1 rfl (by decide) q1768 rfl rfl rfl rfl dX8_round_26 ?_
    refine g_aload_n O dX8_round_29 rfl ?_
    refine gm_Vi (nA := 0) (As := []) (rest := []) O hRm hM.1 (cM_tell _ O.2.2.2.2.2.2.2.2 _ _ _ _ _ _ _ hM (s2 g4 0 40 x1) _ w) (lw_V q2077 q2079 qs77 q134 q2080) rfl rfl (by decide +kernel) ⟨Nat.le_of_ble_eq_true rfl, Nat.le_of_ble_eq_true rfl⟩ rfl rfl rfl (Nat.le_of_ble_eq_true rfl) dX8_round_30 (fun r5 g6 w => ?_)
    refine g_iload_n O dX8_round_33 rfl ?_
    refine g_isub O dX8_round_34 ?_
    exact gm_iret O hQ rfl w dX8_round_35
  · refine g_aload_n O dX8_round_13 rfl ?_
    refine g_iconst (v := 1) O dX8_round_14 (by decide) ?_
    refine gm_Vi (nA := 1) (As := [.int 1]) (rest := []) O hRm hM.1 (cM_fail _ O.2.2.2.2.2.2.2.2 _ _ _ _ _ _ _ hM (s2 sg 0 2 0) (1) _ w) (lw_V q1930 q1932 qs49 q134 q1933) rfl rfl (by decide +kernel) ⟨Nat.le_of_ble_eq_true rfl, Nat.le_of_ble_eq_true rfl⟩ rfl rfl rfl (Nat.le_of_ble_eq_true rfl) dX8_round_15 (fun r7 g8 w => ?_)
    exact gm_iret O hQ rfl w dX8_round_18
-- free
abbrev rM_free : Room := { frames := 9, cells := 0, slots := 0, locals := 197 }
set_option maxHeartbeats 4000000 in
theorem vM_free_22 {X : Cx} {z : Nat} {T L : Nat → Nat} {V0 : w_V} {P : w_P} {mb : Nat} (O : Okc X cX8_free RX8 5 (some .int)) (hRm : cxR X = rM_free) (hM : mOk (cxE X) T L P mb) (sg : MS) (post : Int32 → MS → Prop) (hQ : cxMQ X (va_Qi post (fun u t => wdW (cxE X) (mW z T L V0 P mb u) t.heap) (w_A (cxE X))) 0 0) (w : jM_free_22 sg post) : gW X 0 0 z T L (up1 V0 mb sg) P 22 [some (.ref mb), none, none, none, none] [] := by
  unfold jM_free_22 at w
  refine g_aload_n O dX8_free_22 rfl ?_
  refine g_iconst (v := 1) O dX8_free_23 (by decide) ?_
  refine gm_Vi (nA := 1) (As := [.int 1]) (rest := []) O hRm hM.1 (cM_fail _ O.2.2.2.2.2.2.2.2 _ _ _ _ _ _ _ hM sg (1) _ w) (lw_V q1930 q1932 qs49 q134 q1933) rfl rfl (by decide +kernel) ⟨Nat.le_of_ble_eq_true rfl, Nat.le_of_ble_eq_true rfl⟩ rfl rfl rfl (Nat.le_of_ble_eq_true rfl) dX8_free_24 (fun r3 g4 w => ?_)
  exact gm_iret O hQ rfl w dX8_free_27
set_option maxHeartbeats 4000000 in
theorem vM_free_135 {X : Cx} {z : Nat} {T L : Nat → Nat} {V0 : w_V} {P : w_P} {mb : Nat} (O : Okc X cX8_free RX8 5 (some .int)) (hRm : cxR X = rM_free) (hM : mOk (cxE X) T L P mb) (sg : MS) (x1 : Int32) (x2 : Int32) (x4 : Int32) (t0 : Int32) (post : Int32 → MS → Prop) (hQ : cxMQ X (va_Qi post (fun u t => wdW (cxE X) (mW z T L V0 P mb u) t.heap) (w_A (cxE X))) 0 0) (kb : Int32 → Int32 → MS → Prop) (hkb : ∀ (y3 : Int32) (y4 : Int32) (sg : MS), kb y3 y4 sg → gW X 0 0 z T L (up1 V0 mb sg) P 62 [some (.ref mb), some (.int x1), some (.int x2), some (.int y3), some (.int y4)] []) (w : jM_free_135 sg x1 x2 x4 t0 post kb) : gW X 0 0 z T L (up1 V0 mb sg) P 135 [some (.ref mb), some (.int x1), some (.int x2), none, some (.int x4)] [.int t0] := by
  unfold jM_free_135 at w
  refine g_istore_n O dX8_free_135 (Nat.le_of_ble_eq_true rfl) rfl (lv' := [some (.ref mb), some (.int x1), some (.int x2), some (.int t0), some (.int x4)]) rfl ?_
  refine g_iinc (v := (x4 + 1)) O dX8_free_136 rfl rfl rfl (lv' := [some (.ref mb), some (.int x1), some (.int x2), some (.int t0), some (.int (x4 + 1))]) rfl ?_
  refine g_goto (tgt := 62) O dX8_free_139 (by decide) ?_
  exact hkb (t0) ((x4 + 1)) (sg) w
set_option maxHeartbeats 4000000 in
theorem vM_free_62 {X : Cx} {z : Nat} {T L : Nat → Nat} {V0 : w_V} {P : w_P} {mb : Nat} (O : Okc X cX8_free RX8 5 (some .int)) (hRm : cxR X = rM_free) (hM : mOk (cxE X) T L P mb) (x1 : Int32) (x2 : Int32) (post : Int32 → MS → Prop) (hQ : cxMQ X (va_Qi post (fun u t => wdW (cxE X) (mW z T L V0 P mb u) t.heap) (w_A (cxE X))) 0 0) (ke_142 : Int32 → MS → Prop) (hke_142 : ∀ (y3 : Int32) (sg : MS), ke_142 y3 sg → gW X 0 0 z T L (up1 V0 mb sg) P 142 [some (.ref mb), none, some (.int x2), some (.int y3), none] [])  : ∀ (n : Nat) (x3 : Int32) (x4 : Int32) (sg : MS), lM_free_62 x1 x2 post ke_142 n x3 x4 sg → gW X 0 0 z T L (up1 V0 mb sg) P 62 [some (.ref mb), some (.int x1), some (.int x2), some (.int x3), some (.int x4)] [] := by
  intro n
  induction n with
  | zero =>
    intro x3 x4 sg w
    exact w.elim
  | succ n ih =>
    intro x3 x4 sg w
    unfold lM_free_62 at w
    refine g_iload O dX8_free_62 rfl ?_
    refine g_aload_n O dX8_free_64 rfl ?_
    refine gm_getA (j := 3) O hM.1 rfl (by decide) q1731 dX8_free_65 ?_
    refine g_iconst (v := 0) O dX8_free_68 (by decide) ?_
    refine gm_ald (j := 3) (len := 14) (nn := 0) O hM.1 rfl (by decide) (by decide) rfl dX8_free_69 ?_
    refine g_bipush (v := 61) O dX8_free_70 (by decide) ?_
    refine g_imul O dX8_free_72 ?_
    refine g_icmp_ge (tgt := 142) O w dX8_free_73 (by decide) (fun w => ?_) (fun w => ?_)
    · refine g_drop [1, 4] (lv' := [some (.ref mb), none, some (.int x2), some (.int x3), none]) rfl ?_
      exact hke_142 (x3) (sg) w
    · refine g_iload_n O dX8_free_76 rfl ?_
      refine g_iconst (v := (-1)) O dX8_free_77 (by decide) ?_
      refine g_icmp_ne (tgt := 142) O w dX8_free_78 (by decide) (fun w => ?_) (fun w => ?_)
      · refine g_drop [1, 4] (lv' := [some (.ref mb), none, some (.int x2), some (.int x3), none]) rfl ?_
        exact hke_142 (x3) (sg) w
      · refine g_aload_n O dX8_free_81 rfl ?_
        refine gm_getA (j := 25) O hM.1 rfl (by decide) q1753 dX8_free_82 ?_
        refine g_aload_n O dX8_free_85 rfl ?_
        refine gm_getI (j := 30) O hM.1 rfl (by decide) q1758 dX8_free_86 ?_
        refine g_iconst (v := 1) O dX8_free_89 (by decide) ?_
        refine g_isub O dX8_free_90 ?_
        refine g_iload_n O dX8_free_91 rfl ?_
        refine g_iload O dX8_free_92 rfl ?_
        refine g_aload_n O dX8_free_94 rfl ?_
        refine gm_getA (j := 3) O hM.1 rfl (by decide) q1731 dX8_free_95 ?_
        refine g_iconst (v := 0) O dX8_free_98 (by decide) ?_
        refine gm_ald (j := 3) (len := 14) (nn := 0) O hM.1 rfl (by decide) (by decide) rfl dX8_free_99 ?_
        obtain ⟨hne, w⟩ := w
        refine g_irem O hne dX8_free_100 ?_
        refine g_iload O dX8_free_101 rfl ?_
        refine g_aload_n O dX8_free_103 rfl ?_
        refine gm_getA (j := 3) O hM.1 rfl (by decide) q1731 dX8_free_104 ?_
        refine g_iconst (v := 0) O dX8_free_107 (by decide) ?_
        refine gm_ald (j := 3) (len := 14) (nn := 0) O hM.1 rfl (by decide) (by decide) rfl dX8_free_108 ?_
        obtain ⟨hne, w⟩ := w
        refine g_idiv O hne dX8_free_109 ?_
        refine gm_Sv (nA := 5) (As := [.ref (mb + 15), .int ((sg 0 30) - 1), .int x1, .int (x4 - x4 / (sg 4 0) * (sg 4 0)), .int (x4 / (sg 4 0))]) (rest := []) O hRm (cM_putRow _ O.2.2.2.2.2.2.2.2 _ _ _ _ _ _ _ hM sg 25 15 15 ⟨rfl, by decide⟩ (((sg 0 30) - 1)) (x1) ((x4 - x4 / (sg 4 0) * (sg 4 0))) ((x4 / (sg 4 0))) _ w) (lw_S q2235 q2236 q134 q2237) rfl rfl (by decide +kernel) ⟨Nat.le_of_ble_eq_true rfl, Nat.le_of_ble_eq_true rfl⟩ rfl rfl rfl (Nat.le_of_ble_eq_true rfl) dX8_free_110 (fun g11 w => ?_)
        refine g_aload_n O dX8_free_113 rfl ?_
        refine g_iload_n O dX8_free_114 rfl ?_
        refine gm_Vv (nA := 1) (As := [.int x1]) (rest := []) O hRm hM.1 (cM_judgeCase _ O.2.2.2.2.2.2.2.2 _ _ _ _ _ _ _ hM g11 (x1) _ w) (lw_V q2124 q2126 qs88 q134 q2127) rfl rfl (by decide +kernel) ⟨Nat.le_of_ble_eq_true rfl, Nat.le_of_ble_eq_true rfl⟩ rfl rfl rfl (Nat.le_of_ble_eq_true rfl) dX8_free_115 (fun g13 w => ?_)
        refine g_aload_n O dX8_free_118 rfl ?_
        refine gm_getA (j := 48) O hM.1 rfl (by decide) q1776 dX8_free_119 ?_
        refine g_iload_n O dX8_free_122 rfl ?_
        obtain ⟨i14, hi15, e16, w⟩ := w
        refine gm_ald (j := 48) (len := 6) (nn := i14) O hM.1 rfl hi15 (by decide) e16 dX8_free_123 ?_
        refine g_ldc O q1948 dX8_free_124 ?_
        refine g_icmp_lt (tgt := 134) O w dX8_free_126 (by decide) (fun w => ?_) (fun w => ?_)
        · refine g_iconst (v := (-1)) O dX8_free_134 (by decide) ?_
          refine g_drop [3] (lv' := [some (.ref mb), some (.int x1), some (.int x2), none, some (.int x4)]) rfl ?_
          exact vM_free_135 O hRm hM g13  x1 x2 x4 (-1) post hQ (lM_free_62 x1 x2 post ke_142 n) ih w
        · refine g_iload O dX8_free_129 rfl ?_
          refine g_goto (tgt := 135) O dX8_free_131 (by decide) ?_
          refine g_drop [3] (lv' := [some (.ref mb), some (.int x1), some (.int x2), none, some (.int x4)]) rfl ?_
          exact vM_free_135 O hRm hM g13  x1 x2 x4 x4 post hQ (lM_free_62 x1 x2 post ke_142 n) ih w
set_option maxHeartbeats 4000000 in
theorem vM_free_142 {X : Cx} {z : Nat} {T L : Nat → Nat} {V0 : w_V} {P : w_P} {mb : Nat} (O : Okc X cX8_free RX8 5 (some .int)) (hRm : cxR X = rM_free) (hM : mOk (cxE X) T L P mb) (sg : MS) (x2 : Int32) (x3 : Int32) (post : Int32 → MS → Prop) (hQ : cxMQ X (va_Qi post (fun u t => wdW (cxE X) (mW z T L V0 P mb u) t.heap) (w_A (cxE X))) 0 0) (w : jM_free_142 sg x2 x3 post) : gW X 0 0 z T L (up1 V0 mb sg) P 142 [some (.ref mb), none, some (.int x2), some (.int x3), none] [] := by
  unfold jM_free_142 at w
  refine g_aload_n O dX8_free_142 rfl ?_
  refine g_dup O dX8_free_143 rfl ?_
  refine gm_getI (j := 30) O hM.1 rfl (by decide) q1758 dX8_free_144 ?_
  refine g_iconst (v := 1) O dX8_free_147 (by decide) ?_
  refine g_isub O dX8_free_148 ?_
  refine gm_putI (j := 30) (ty := .int) O hM.1 rfl (by decide) q1758 rfl rfl rfl rfl dX8_free_149 ?_
  refine g_iload_n O dX8_free_152 rfl ?_
  refine g_iconst (v := (-1)) O dX8_free_153 (by decide) ?_
  refine g_icmp_ne (tgt := 161) O w dX8_free_154 (by decide) (fun w => ?_) (fun w => ?_)
  · refine g_iload_n O dX8_free_161 rfl ?_
    refine g_if_ne (tgt := 176) O w dX8_free_162 (by decide) (fun w => ?_) (fun w => ?_)
    · refine g_iload_n O dX8_free_176 rfl ?_
      refine g_aload_n O dX8_free_177 rfl ?_
      refine gm_getA (j := 3) O hM.1 rfl (by decide) q1731 dX8_free_178 ?_
      refine g_iconst (v := 0) O dX8_free_181 (by decide) ?_
      refine gm_ald (j := 3) (len := 14) (nn := 0) O hM.1 rfl (by decide) (by decide) rfl dX8_free_182 ?_
      obtain ⟨hne, w⟩ := w
      refine g_irem O hne dX8_free_183 ?_
      exact gm_iret O hQ rfl w dX8_free_184
    · refine g_iload_n O dX8_free_165 rfl ?_
      refine g_aload_n O dX8_free_166 rfl ?_
      refine gm_getA (j := 3) O hM.1 rfl (by decide) q1731 dX8_free_167 ?_
      refine g_iconst (v := 0) O dX8_free_170 (by decide) ?_
      refine gm_ald (j := 3) (len := 14) (nn := 0) O hM.1 rfl (by decide) (by decide) rfl dX8_free_171 ?_
      obtain ⟨hne, w⟩ := w
      refine g_idiv O hne dX8_free_172 ?_
      refine g_goto (tgt := 184) O dX8_free_173 (by decide) ?_
      exact gm_iret O hQ rfl w dX8_free_184
  · refine g_iconst (v := (-1)) O dX8_free_157 (by decide) ?_
    refine g_goto (tgt := 184) O dX8_free_158 (by decide) ?_
    exact gm_iret O hQ rfl w dX8_free_184
set_option maxHeartbeats 4000000 in
theorem cM_free (l : Launch) (hfl : l.flags = flags0) (E : w_E) (z : Nat) (T L : Nat → Nat) (V0 : w_V) (P : w_P) (mb : Nat) (hM : mOk E T L P mb) (sg : MS) (x1 : Int32) (x2 : Int32) (post : Int32 → MS → Prop) (w : wM_free sg x1 x2 post) : mMi l yX8_free cX8_free 5 (some .int) rM_free E z T L V0 P mb [.ref mb, .int x1, .int x2] sg post := by
  refine g_start (S := Unit) hfl (by decide +kernel) rfl [some (.ref mb), some (.int x1), some (.int x2), none, none] rfl (fun _ h => h) (Nat.le_of_ble_eq_true rfl) (fun X hl hRm hEe O hQ => ?_)
  subst hl
  subst hEe
  unfold wM_free at w
  refine g_aload_n O dX8_free_0 rfl ?_
  refine g_iconst (v := 0) O dX8_free_1 (by decide) ?_
  refine gm_putI (j := 2) (ty := .int) O hM.1 rfl (by decide) q1730 rfl rfl rfl rfl dX8_free_2 ?_
  refine g_aload_n O dX8_free_5 rfl ?_
  refine g_iload_n O dX8_free_6 rfl ?_
  refine gm_Vi0 (nA := 1) (As := [.int x1]) (rest := []) O hRm hM.1 (cM_isCase _ O.2.2.2.2.2.2.2.2 _ _ _ _ _ _ _ hM (s2 sg 0 2 0) (x1) _ w) (lw_V q2188 q2190 qs97 q134 q2191) rfl rfl (by decide +kernel) ⟨Nat.le_of_ble_eq_true rfl, Nat.le_of_ble_eq_true rfl⟩ rfl rfl rfl (Nat.le_of_ble_eq_true rfl) dX8_free_7 (fun r1 w => ?_)
  refine g_if_eq (tgt := 22) O w dX8_free_10 (by decide) (fun w => ?_) (fun w => ?_)
  · refine g_drop [1, 2] (lv' := [some (.ref mb), none, none, none, none]) rfl ?_
    exact vM_free_22 O hRm hM (s2 sg 0 2 0)  post hQ w
  · refine g_iload_n O dX8_free_13 rfl ?_
    refine g_if_lt (tgt := 22) O w dX8_free_14 (by decide) (fun w => ?_) (fun w => ?_)
    · refine g_drop [1, 2] (lv' := [some (.ref mb), none, none, none, none]) rfl ?_
      exact vM_free_22 O hRm hM (s2 sg 0 2 0)  post hQ w
    · refine g_iload_n O dX8_free_17 rfl ?_
      refine g_iconst (v := 1) O dX8_free_18 (by decide) ?_
      refine g_icmp_le (tgt := 28) O w dX8_free_19 (by decide) (fun w => ?_) (fun w => ?_)
      · refine g_aload_n O dX8_free_28 rfl ?_
        refine gm_Vi (nA := 0) (As := []) (rest := []) O hRm hM.1 (cM_tellNow _ O.2.2.2.2.2.2.2.2 _ _ _ _ _ _ _ hM (s2 sg 0 2 0) _ w) (lw_V q2069 q2071 qs75 q134 q2072) rfl rfl (by decide +kernel) ⟨Nat.le_of_ble_eq_true rfl, Nat.le_of_ble_eq_true rfl⟩ rfl rfl rfl (Nat.le_of_ble_eq_true rfl) dX8_free_29 (fun r5 g6 w => ?_)
        refine g_pop O dX8_free_32 rfl ?_
        refine g_aload_n O dX8_free_33 rfl ?_
        refine gm_getA (j := 48) O hM.1 rfl (by decide) q1776 dX8_free_34 ?_
        refine g_iload_n O dX8_free_37 rfl ?_
        obtain ⟨i7, hi8, e9, w⟩ := w
        refine gm_ald (j := 48) (len := 6) (nn := i7) O hM.1 rfl hi8 (by decide) e9 dX8_free_38 ?_
        refine g_ldc O q1948 dX8_free_39 ?_
        refine g_icmp_lt (tgt := 47) O w dX8_free_41 (by decide) (fun w => ?_) (fun w => ?_)
        · refine g_aload_n O dX8_free_47 rfl ?_
          refine g_dup O dX8_free_48 rfl ?_
          refine gm_getI (j := 30) O hM.1 rfl (by decide) q1758 dX8_free_49 ?_
          refine g_iconst (v := 1) O dX8_free_52 (by decide) ?_
          refine g_iadd O dX8_free_53 ?_
          refine gm_putI (j := 30) (ty := .int) O hM.1 rfl (by decide) q1758 rfl rfl rfl rfl dX8_free_54 ?_
          refine g_iconst (v := (-1)) O dX8_free_57 (by decide) ?_
          refine g_istore_n O dX8_free_58 (Nat.le_of_ble_eq_true rfl) rfl (lv' := [some (.ref mb), some (.int x1), some (.int x2), some (.int (-1)), none]) rfl ?_
          refine g_iconst (v := 0) O dX8_free_59 (by decide) ?_
          refine g_istore O dX8_free_60 (Nat.le_of_ble_eq_true rfl) rfl (lv' := [some (.ref mb), some (.int x1), some (.int x2), some (.int (-1)), some (.int 0)]) rfl ?_
          obtain ⟨n19, w⟩ := w
          refine vM_free_62 O hRm hM x1 x2 post hQ _ (fun y17 g18 w => ?_) n19 (-1) 0 (s2 g6 0 30 ((g6 0 30) + 1)) w
          exact vM_free_142 O hRm hM g18  x2 y17 post hQ w
        · refine g_bipush (v := (-2)) O dX8_free_44 (by decide) ?_
          exact gm_iret O hQ rfl w dX8_free_46
      · refine g_drop [1, 2] (lv' := [some (.ref mb), none, none, none, none]) rfl ?_
        exact vM_free_22 O hRm hM (s2 sg 0 2 0)  post hQ w
-- bitsOf
abbrev rM_bitsOf : Room := { frames := 1, cells := 0, slots := 0, locals := 12 }
set_option maxHeartbeats 4000000 in
theorem vM_bitsOf_4 {X : Cx} {z : Nat} {T L : Nat → Nat} {V0 : w_V} {P : w_P} {mb : Nat} (O : Okc X cX8_bitsOf RX8 3 (some .int)) (hRm : cxR X = rM_bitsOf) (hM : mOk (cxE X) T L P mb) (sg : MS) (post : Int32 → Prop) (hQ : cxMQ X (va_Qi (fun x (_ : Unit) => post x) (fun (_ : Unit) t => wdW (cxE X) (mW z T L V0 P mb sg) t.heap) (w_A (cxE X))) 0 0)  : ∀ (n : Nat) (x1 : Int32) (x2 : Int32), lM_bitsOf_4 sg post n x1 x2 → gW X 0 0 z T L (up1 V0 mb sg) P 4 [none, some (.int x1), some (.int x2)] [] := by
  intro n
  induction n with
  | zero =>
    intro x1 x2 w
    exact w.elim
  | succ n ih =>
    intro x1 x2 w
    unfold lM_bitsOf_4 at w
    refine g_iload_n O dX8_bitsOf_4 rfl ?_
    refine g_if_eq (tgt := 20) O w dX8_bitsOf_5 (by decide) (fun w => ?_) (fun w => ?_)
    · refine g_iload_n O dX8_bitsOf_20 rfl ?_
      exact gm_iret0 O hQ rfl w dX8_bitsOf_21
    · refine g_iinc (v := (x1 + 1)) O dX8_bitsOf_8 rfl rfl rfl (lv' := [none, some (.int (x1 + 1)), some (.int x2)]) rfl ?_
      refine g_iload_n O dX8_bitsOf_11 rfl ?_
      refine g_iload_n O dX8_bitsOf_12 rfl ?_
      refine g_iconst (v := 1) O dX8_bitsOf_13 (by decide) ?_
      refine g_isub O dX8_bitsOf_14 ?_
      refine g_iand O dX8_bitsOf_15 ?_
      refine g_istore_n O dX8_bitsOf_16 (Nat.le_of_ble_eq_true rfl) rfl (lv' := [none, some (.int (x1 + 1)), some (.int (x2 &&& (x2 - 1)))]) rfl ?_
      refine g_goto (tgt := 4) O dX8_bitsOf_17 (by decide) ?_
      exact ih ((x1 + 1)) ((x2 &&& (x2 - 1))) w
set_option maxHeartbeats 4000000 in
theorem cM_bitsOf (l : Launch) (hfl : l.flags = flags0) (E : w_E) (z : Nat) (T L : Nat → Nat) (V0 : w_V) (P : w_P) (mb : Nat) (hM : mOk E T L P mb) (sg : MS) (x0 : Int32) (post : Int32 → Prop) (w : wM_bitsOf sg x0 post) : mMi0 l yX8_bitsOf cX8_bitsOf 3 (some .int) rM_bitsOf E z T L V0 P mb [.int x0] sg post := by
  refine g_start (S := Unit) hfl (by decide +kernel) rfl [some (.int x0), none, none] rfl (fun _ h => h) (Nat.le_of_ble_eq_true rfl) (fun X hl hRm hEe O hQ => ?_)
  subst hl
  subst hEe
  unfold wM_bitsOf at w
  refine g_iconst (v := 0) O dX8_bitsOf_0 (by decide) ?_
  refine g_istore_n O dX8_bitsOf_1 (Nat.le_of_ble_eq_true rfl) rfl (lv' := [some (.int x0), some (.int 0), none]) rfl ?_
  refine g_iload_n O dX8_bitsOf_2 rfl ?_
  refine g_istore_n O dX8_bitsOf_3 (Nat.le_of_ble_eq_true rfl) rfl (lv' := [some (.int x0), some (.int 0), some (.int x0)]) rfl ?_
  obtain ⟨n1, w⟩ := w
  refine g_drop [0] (lv' := [none, some (.int 0), some (.int x0)]) rfl ?_
  exact vM_bitsOf_4 O hRm hM sg post hQ n1 0 x0 w
-- mercy
abbrev rM_mercy : Room := { frames := 9, cells := 0, slots := 0, locals := 197 }
set_option maxHeartbeats 4000000 in
theorem vM_mercy_100 {X : Cx} {z : Nat} {T L : Nat → Nat} {V0 : w_V} {P : w_P} {mb : Nat} (O : Okc X cX8_mercy RX8 4 (some .int)) (hRm : cxR X = rM_mercy) (hM : mOk (cxE X) T L P mb) (sg : MS) (x1 : Int32) (x2 : Int32) (x3 : Int32) (post : Int32 → MS → Prop) (hQ : cxMQ X (va_Qi post (fun u t => wdW (cxE X) (mW z T L V0 P mb u) t.heap) (w_A (cxE X))) 0 0) (kb : Int32 → Int32 → MS → Prop) (hkb : ∀ (y2 : Int32) (y3 : Int32) (sg : MS), kb y2 y3 sg → gW X 0 0 z T L (up1 V0 mb sg) P 33 [some (.ref mb), some (.int x1), some (.int y2), some (.int y3)] []) (w : jM_mercy_100 sg x1 x2 x3 post kb) : gW X 0 0 z T L (up1 V0 mb sg) P 100 [some (.ref mb), some (.int x1), some (.int x2), some (.int x3)] [] := by
  unfold jM_mercy_100 at w
  refine g_iinc (v := (x3 + 1)) O dX8_mercy_100 rfl rfl rfl (lv' := [some (.ref mb), some (.int x1), some (.int x2), some (.int (x3 + 1))]) rfl ?_
  refine g_goto (tgt := 33) O dX8_mercy_103 (by decide) ?_
  exact hkb (x2) ((x3 + 1)) (sg) w
set_option maxHeartbeats 4000000 in
theorem vM_mercy_99 {X : Cx} {z : Nat} {T L : Nat → Nat} {V0 : w_V} {P : w_P} {mb : Nat} (O : Okc X cX8_mercy RX8 4 (some .int)) (hRm : cxR X = rM_mercy) (hM : mOk (cxE X) T L P mb) (sg : MS) (x1 : Int32) (x3 : Int32) (t0 : Int32) (post : Int32 → MS → Prop) (hQ : cxMQ X (va_Qi post (fun u t => wdW (cxE X) (mW z T L V0 P mb u) t.heap) (w_A (cxE X))) 0 0) (kb : Int32 → Int32 → MS → Prop) (hkb : ∀ (y2 : Int32) (y3 : Int32) (sg : MS), kb y2 y3 sg → gW X 0 0 z T L (up1 V0 mb sg) P 33 [some (.ref mb), some (.int x1), some (.int y2), some (.int y3)] []) (w : jM_mercy_99 sg x1 x3 t0 post kb) : gW X 0 0 z T L (up1 V0 mb sg) P 99 [some (.ref mb), some (.int x1), none, some (.int x3)] [.int t0] := by
  unfold jM_mercy_99 at w
  refine g_istore_n O dX8_mercy_99 (Nat.le_of_ble_eq_true rfl) rfl (lv' := [some (.ref mb), some (.int x1), some (.int t0), some (.int x3)]) rfl ?_
  exact vM_mercy_100 O hRm hM sg  x1 t0 x3 post hQ kb hkb w
set_option maxHeartbeats 4000000 in
theorem vM_mercy_73 {X : Cx} {z : Nat} {T L : Nat → Nat} {V0 : w_V} {P : w_P} {mb : Nat} (O : Okc X cX8_mercy RX8 4 (some .int)) (hRm : cxR X = rM_mercy) (hM : mOk (cxE X) T L P mb) (sg : MS) (x1 : Int32) (x2 : Int32) (x3 : Int32) (post : Int32 → MS → Prop) (hQ : cxMQ X (va_Qi post (fun u t => wdW (cxE X) (mW z T L V0 P mb u) t.heap) (w_A (cxE X))) 0 0) (kb : Int32 → Int32 → MS → Prop) (hkb : ∀ (y2 : Int32) (y3 : Int32) (sg : MS), kb y2 y3 sg → gW X 0 0 z T L (up1 V0 mb sg) P 33 [some (.ref mb), some (.int x1), some (.int y2), some (.int y3)] []) (w : jM_mercy_73 sg x1 x2 x3 post kb) : gW X 0 0 z T L (up1 V0 mb sg) P 73 [some (.ref mb), some (.int x1), some (.int x2), some (.int x3)] [] := by
  unfold jM_mercy_73 at w
  refine g_aload_n O dX8_mercy_73 rfl ?_
  refine g_iload_n O dX8_mercy_74 rfl ?_
  refine gm_putI (j := 42) (ty := .int) O hM.1 rfl (by decide) q1770 rfl rfl rfl rfl dX8_mercy_75 ?_
  refine g_aload_n O dX8_mercy_78 rfl ?_
  refine g_iload_n O dX8_mercy_79 rfl ?_
  refine gm_Vv (nA := 1) (As := [.int x1]) (rest := []) O hRm hM.1 (cM_judgeCase _ O.2.2.2.2.2.2.2.2 _ _ _ _ _ _ _ hM (s2 sg 0 42 x3) (x1) _ w) (lw_V q2124 q2126 qs88 q134 q2127) rfl rfl (by decide +kernel) ⟨Nat.le_of_ble_eq_true rfl, Nat.le_of_ble_eq_true rfl⟩ rfl rfl rfl (Nat.le_of_ble_eq_true rfl) dX8_mercy_80 (fun g6 w => ?_)
  refine g_aload_n O dX8_mercy_83 rfl ?_
  refine gm_getA (j := 48) O hM.1 rfl (by decide) q1776 dX8_mercy_84 ?_
  refine g_iload_n O dX8_mercy_87 rfl ?_
  obtain ⟨i7, hi8, e9, w⟩ := w
  refine gm_ald (j := 48) (len := 6) (nn := i7) O hM.1 rfl hi8 (by decide) e9 dX8_mercy_88 ?_
  refine g_ldc O q1948 dX8_mercy_89 ?_
  refine g_icmp_lt (tgt := 98) O w dX8_mercy_91 (by decide) (fun w => ?_) (fun w => ?_)
  · refine g_iload_n O dX8_mercy_98 rfl ?_
    refine g_drop [2] (lv' := [some (.ref mb), some (.int x1), none, some (.int x3)]) rfl ?_
    exact vM_mercy_99 O hRm hM g6  x1 x3 x2 post hQ kb hkb w
  · refine g_iload_n O dX8_mercy_94 rfl ?_
    refine g_goto (tgt := 99) O dX8_mercy_95 (by decide) ?_
    refine g_drop [2] (lv' := [some (.ref mb), some (.int x1), none, some (.int x3)]) rfl ?_
    exact vM_mercy_99 O hRm hM g6  x1 x3 x3 post hQ kb hkb w
set_option maxHeartbeats 4000000 in
theorem vM_mercy_33 {X : Cx} {z : Nat} {T L : Nat → Nat} {V0 : w_V} {P : w_P} {mb : Nat} (O : Okc X cX8_mercy RX8 4 (some .int)) (hRm : cxR X = rM_mercy) (hM : mOk (cxE X) T L P mb) (x1 : Int32) (post : Int32 → MS → Prop) (hQ : cxMQ X (va_Qi post (fun u t => wdW (cxE X) (mW z T L V0 P mb u) t.heap) (w_A (cxE X))) 0 0)  : ∀ (n : Nat) (x2 : Int32) (x3 : Int32) (sg : MS), lM_mercy_33 x1 post n x2 x3 sg → gW X 0 0 z T L (up1 V0 mb sg) P 33 [some (.ref mb), some (.int x1), some (.int x2), some (.int x3)] [] := by
  intro n
  induction n with
  | zero =>
    intro x2 x3 sg w
    exact w.elim
  | succ n ih =>
    intro x2 x3 sg w
    unfold lM_mercy_33 at w
    refine g_iload_n O dX8_mercy_33 rfl ?_
    refine g_iconst (v := 1) O dX8_mercy_34 (by decide) ?_
    refine g_aload_n O dX8_mercy_35 rfl ?_
    refine gm_getA (j := 3) O hM.1 rfl (by decide) q1731 dX8_mercy_36 ?_
    refine g_iconst (v := 4) O dX8_mercy_39 (by decide) ?_
    refine gm_ald (j := 3) (len := 14) (nn := 4) O hM.1 rfl (by decide) (by decide) rfl dX8_mercy_40 ?_
    refine g_ishl O dX8_mercy_41 ?_
    refine g_icmp_ge (tgt := 106) O w dX8_mercy_42 (by decide) (fun w => ?_) (fun w => ?_)
    · refine g_iload_n O dX8_mercy_106 rfl ?_
      exact gm_iret O hQ rfl w dX8_mercy_107
    · refine g_iload_n O dX8_mercy_45 rfl ?_
      refine g_aload_n O dX8_mercy_46 rfl ?_
      refine gm_getI (j := 41) O hM.1 rfl (by decide) q1769 dX8_mercy_47 ?_
      refine g_iand O dX8_mercy_50 ?_
      refine g_if_ne (tgt := 100) O w dX8_mercy_51 (by decide) (fun w => ?_) (fun w => ?_)
      · exact vM_mercy_100 O hRm hM sg  x1 x2 x3 post hQ (lM_mercy_33 x1 post n) ih w
      · refine g_iload_n O dX8_mercy_54 rfl ?_
        refine g_iconst (v := (-1)) O dX8_mercy_55 (by decide) ?_
        refine g_icmp_eq (tgt := 73) O w dX8_mercy_56 (by decide) (fun w => ?_) (fun w => ?_)
        · exact vM_mercy_73 O hRm hM sg  x1 x2 x3 post hQ (lM_mercy_33 x1 post n) ih w
        · refine g_iload_n O dX8_mercy_59 rfl ?_
          refine gm_Si0 (nA := 1) (As := [.int x3]) (rest := []) O hRm (cM_bitsOf _ O.2.2.2.2.2.2.2.2 _ _ _ _ _ _ _ hM sg (x3) _ w) (lw_S q2275 q2276 q134 q2277) rfl rfl (by decide +kernel) ⟨Nat.le_of_ble_eq_true rfl, Nat.le_of_ble_eq_true rfl⟩ rfl rfl rfl (Nat.le_of_ble_eq_true rfl) dX8_mercy_60 (fun r10 w => ?_)
          refine g_iload_n O dX8_mercy_63 rfl ?_
          refine gm_Si0 (nA := 1) (As := [.int x2]) (rest := [.int r10]) O hRm (cM_bitsOf _ O.2.2.2.2.2.2.2.2 _ _ _ _ _ _ _ hM sg (x2) _ w) (lw_S q2275 q2276 q134 q2277) rfl rfl (by decide +kernel) ⟨Nat.le_of_ble_eq_true rfl, Nat.le_of_ble_eq_true rfl⟩ rfl rfl rfl (Nat.le_of_ble_eq_true rfl) dX8_mercy_64 (fun r12 w => ?_)
          refine g_icmp_lt (tgt := 73) O w dX8_mercy_67 (by decide) (fun w => ?_) (fun w => ?_)
          · exact vM_mercy_73 O hRm hM sg  x1 x2 x3 post hQ (lM_mercy_33 x1 post n) ih w
          · refine g_goto (tgt := 100) O dX8_mercy_70 (by decide) ?_
            exact vM_mercy_100 O hRm hM sg  x1 x2 x3 post hQ (lM_mercy_33 x1 post n) ih w
set_option maxHeartbeats 4000000 in
theorem cM_mercy (l : Launch) (hfl : l.flags = flags0) (E : w_E) (z : Nat) (T L : Nat → Nat) (V0 : w_V) (P : w_P) (mb : Nat) (hM : mOk E T L P mb) (sg : MS) (x1 : Int32) (post : Int32 → MS → Prop) (w : wM_mercy sg x1 post) : mMi l yX8_mercy cX8_mercy 4 (some .int) rM_mercy E z T L V0 P mb [.ref mb, .int x1] sg post := by
  refine g_start (S := Unit) hfl (by decide +kernel) rfl [some (.ref mb), some (.int x1), none, none] rfl (fun _ h => h) (Nat.le_of_ble_eq_true rfl) (fun X hl hRm hEe O hQ => ?_)
  subst hl
  subst hEe
  unfold wM_mercy at w
  refine g_aload_n O dX8_mercy_0 rfl ?_
  refine g_iconst (v := 0) O dX8_mercy_1 (by decide) ?_
  refine gm_putI (j := 2) (ty := .int) O hM.1 rfl (by decide) q1730 rfl rfl rfl rfl dX8_mercy_2 ?_
  refine g_aload_n O dX8_mercy_5 rfl ?_
  refine g_iload_n O dX8_mercy_6 rfl ?_
  refine gm_Vi0 (nA := 1) (As := [.int x1]) (rest := []) O hRm hM.1 (cM_isCase _ O.2.2.2.2.2.2.2.2 _ _ _ _ _ _ _ hM (s2 sg 0 2 0) (x1) _ w) (lw_V q2188 q2190 qs97 q134 q2191) rfl rfl (by decide +kernel) ⟨Nat.le_of_ble_eq_true rfl, Nat.le_of_ble_eq_true rfl⟩ rfl rfl rfl (Nat.le_of_ble_eq_true rfl) dX8_mercy_7 (fun r1 w => ?_)
  refine g_if_ne (tgt := 19) O w dX8_mercy_10 (by decide) (fun w => ?_) (fun w => ?_)
  · refine g_aload_n O dX8_mercy_19 rfl ?_
    refine gm_Vi (nA := 0) (As := []) (rest := []) O hRm hM.1 (cM_tellNow _ O.2.2.2.2.2.2.2.2 _ _ _ _ _ _ _ hM (s2 sg 0 2 0) _ w) (lw_V q2069 q2071 qs75 q134 q2072) rfl rfl (by decide +kernel) ⟨Nat.le_of_ble_eq_true rfl, Nat.le_of_ble_eq_true rfl⟩ rfl rfl rfl (Nat.le_of_ble_eq_true rfl) dX8_mercy_20 (fun r3 g4 w => ?_)
    refine g_pop O dX8_mercy_23 rfl ?_
    refine g_aload_n O dX8_mercy_24 rfl ?_
    refine g_iload_n O dX8_mercy_25 rfl ?_
    refine gm_putI (j := 43) (ty := .int) O hM.1 rfl (by decide) q1771 rfl rfl rfl rfl dX8_mercy_26 ?_
    refine g_iconst (v := (-1)) O dX8_mercy_29 (by decide) ?_
    refine g_istore_n O dX8_mercy_30 (Nat.le_of_ble_eq_true rfl) rfl (lv' := [some (.ref mb), some (.int x1), some (.int (-1)), none]) rfl ?_
    refine g_iconst (v := 0) O dX8_mercy_31 (by decide) ?_
    refine g_istore_n O dX8_mercy_32 (Nat.le_of_ble_eq_true rfl) rfl (lv' := [some (.ref mb), some (.int x1), some (.int (-1)), some (.int 0)]) rfl ?_
    obtain ⟨n14, w⟩ := w
    exact vM_mercy_33 O hRm hM x1 post hQ n14 (-1) 0 (s2 g4 0 43 x1) w
  · refine g_aload_n O dX8_mercy_13 rfl ?_
    refine g_iconst (v := 1) O dX8_mercy_14 (by decide) ?_
    refine gm_Vi (nA := 1) (As := [.int 1]) (rest := []) O hRm hM.1 (cM_fail _ O.2.2.2.2.2.2.2.2 _ _ _ _ _ _ _ hM (s2 sg 0 2 0) (1) _ w) (lw_V q1930 q1932 qs49 q134 q1933) rfl rfl (by decide +kernel) ⟨Nat.le_of_ble_eq_true rfl, Nat.le_of_ble_eq_true rfl⟩ rfl rfl rfl (Nat.le_of_ble_eq_true rfl) dX8_mercy_15 (fun r15 g16 w => ?_)
    exact gm_iret O hQ rfl w dX8_mercy_18
-- deaf
abbrev rM_deaf : Room := { frames := 9, cells := 0, slots := 0, locals := 197 }
set_option maxHeartbeats 4000000 in
theorem cM_deaf (l : Launch) (hfl : l.flags = flags0) (E : w_E) (z : Nat) (T L : Nat → Nat) (V0 : w_V) (P : w_P) (mb : Nat) (hM : mOk E T L P mb) (sg : MS) (x1 : Int32) (post : Int32 → MS → Prop) (w : wM_deaf sg x1 post) : mMi l yX8_deaf cX8_deaf 2 (some .int) rM_deaf E z T L V0 P mb [.ref mb, .int x1] sg post := by
  refine g_start (S := Unit) hfl (by decide +kernel) rfl [some (.ref mb), some (.int x1)] rfl (fun _ h => h) (Nat.le_of_ble_eq_true rfl) (fun X hl hRm hEe O hQ => ?_)
  subst hl
  subst hEe
  unfold wM_deaf at w
  refine g_aload_n O dX8_deaf_0 rfl ?_
  refine g_iconst (v := 0) O dX8_deaf_1 (by decide) ?_
  refine gm_putI (j := 2) (ty := .int) O hM.1 rfl (by decide) q1730 rfl rfl rfl rfl dX8_deaf_2 ?_
  refine g_aload_n O dX8_deaf_5 rfl ?_
  refine g_iload_n O dX8_deaf_6 rfl ?_
  refine gm_Vi0 (nA := 1) (As := [.int x1]) (rest := []) O hRm hM.1 (cM_isJudge _ O.2.2.2.2.2.2.2.2 _ _ _ _ _ _ _ hM (s2 sg 0 2 0) (x1) _ w) (lw_V q2171 q2173 qs96 q134 q2174) rfl rfl (by decide +kernel) ⟨Nat.le_of_ble_eq_true rfl, Nat.le_of_ble_eq_true rfl⟩ rfl rfl rfl (Nat.le_of_ble_eq_true rfl) dX8_deaf_7 (fun r1 w => ?_)
  refine g_if_ne (tgt := 19) O w dX8_deaf_10 (by decide) (fun w => ?_) (fun w => ?_)
  · refine g_aload_n O dX8_deaf_19 rfl ?_
    refine gm_Vi (nA := 0) (As := []) (rest := []) O hRm hM.1 (cM_tellNow _ O.2.2.2.2.2.2.2.2 _ _ _ _ _ _ _ hM (s2 sg 0 2 0) _ w) (lw_V q2069 q2071 qs75 q134 q2072) rfl rfl (by decide +kernel) ⟨Nat.le_of_ble_eq_true rfl, Nat.le_of_ble_eq_true rfl⟩ rfl rfl rfl (Nat.le_of_ble_eq_true rfl) dX8_deaf_20 (fun r3 g4 w => ?_)
    refine g_pop O dX8_deaf_23 rfl ?_
    refine g_aload_n O dX8_deaf_24 rfl ?_
    refine g_dup O dX8_deaf_25 rfl ?_
    refine gm_getI (j := 41) O hM.1 rfl (by decide) q1769 dX8_deaf_26 ?_
    refine g_iconst (v := 1) O dX8_deaf_29 (by decide) ?_
    refine g_iload_n O dX8_deaf_30 rfl ?_
    refine g_ishl O dX8_deaf_31 ?_
    refine g_ixor O dX8_deaf_32 ?_
    refine gm_putI (j := 41) (ty := .int) O hM.1 rfl (by decide) q1769 rfl rfl rfl rfl dX8_deaf_33 ?_
    refine g_aload_n O dX8_deaf_36 rfl ?_
    refine gm_Vi (nA := 0) (As := []) (rest := []) O hRm hM.1 (cM_judgeAll _ O.2.2.2.2.2.2.2.2 _ _ _ _ _ _ _ hM (s2 g4 0 41 ((g4 0 41) ^^^ ((1 : Int32) <<< ((x1 : Int32) &&& 31)))) _ w) (lw_V q2120 q2122 qs87 q134 q2123) rfl rfl (by decide +kernel) ⟨Nat.le_of_ble_eq_true rfl, Nat.le_of_ble_eq_true rfl⟩ rfl rfl rfl (Nat.le_of_ble_eq_true rfl) dX8_deaf_37 (fun r5 g6 w => ?_)
    exact gm_iret O hQ rfl w dX8_deaf_40
  · refine g_aload_n O dX8_deaf_13 rfl ?_
    refine g_iconst (v := 1) O dX8_deaf_14 (by decide) ?_
    refine gm_Vi (nA := 1) (As := [.int 1]) (rest := []) O hRm hM.1 (cM_fail _ O.2.2.2.2.2.2.2.2 _ _ _ _ _ _ _ hM (s2 sg 0 2 0) (1) _ w) (lw_V q1930 q1932 qs49 q134 q1933) rfl rfl (by decide +kernel) ⟨Nat.le_of_ble_eq_true rfl, Nat.le_of_ble_eq_true rfl⟩ rfl rfl rfl (Nat.le_of_ble_eq_true rfl) dX8_deaf_15 (fun r7 g8 w => ?_)
    exact gm_iret O hQ rfl w dX8_deaf_18
-- soonest
abbrev rM_soonest : Room := { frames := 9, cells := 0, slots := 0, locals := 197 }
set_option maxHeartbeats 4000000 in
theorem vM_soonest_14 {X : Cx} {z : Nat} {T L : Nat → Nat} {V0 : w_V} {P : w_P} {mb : Nat} (O : Okc X cX8_soonest RX8 5 (some .int)) (hRm : cxR X = rM_soonest) (hM : mOk (cxE X) T L P mb) (sg : MS) (post : Int32 → MS → Prop) (hQ : cxMQ X (va_Qi post (fun u t => wdW (cxE X) (mW z T L V0 P mb u) t.heap) (w_A (cxE X))) 0 0) (w : jM_soonest_14 sg post) : gW X 0 0 z T L (up1 V0 mb sg) P 14 [some (.ref mb), none, none, none, none] [] := by
  unfold jM_soonest_14 at w
  refine g_aload_n O dX8_soonest_14 rfl ?_
  refine g_iconst (v := 1) O dX8_soonest_15 (by decide) ?_
  refine gm_Vi (nA := 1) (As := [.int 1]) (rest := []) O hRm hM.1 (cM_fail _ O.2.2.2.2.2.2.2.2 _ _ _ _ _ _ _ hM sg (1) _ w) (lw_V q1930 q1932 qs49 q134 q1933) rfl rfl (by decide +kernel) ⟨Nat.le_of_ble_eq_true rfl, Nat.le_of_ble_eq_true rfl⟩ rfl rfl rfl (Nat.le_of_ble_eq_true rfl) dX8_soonest_16 (fun r1 g2 w => ?_)
  exact gm_iret O hQ rfl w dX8_soonest_19
set_option maxHeartbeats 4000000 in
theorem vM_soonest_33 {X : Cx} {z : Nat} {T L : Nat → Nat} {V0 : w_V} {P : w_P} {mb : Nat} (O : Okc X cX8_soonest RX8 5 (some .int)) (hRm : cxR X = rM_soonest) (hM : mOk (cxE X) T L P mb) (x1 : Int32) (post : Int32 → MS → Prop) (hQ : cxMQ X (va_Qi post (fun u t => wdW (cxE X) (mW z T L V0 P mb u) t.heap) (w_A (cxE X))) 0 0) (ke_77 : Int32 → Int32 → MS → Prop) (hke_77 : ∀ (y2 : Int32) (y3 : Int32) (sg : MS), ke_77 y2 y3 sg → gW X 0 0 z T L (up1 V0 mb sg) P 77 [some (.ref mb), some (.int x1), some (.int y2), some (.int y3), none] [])  : ∀ (n : Nat) (x2 : Int32) (x3 : Int32) (x4 : Int32) (sg : MS), lM_soonest_33 x1 post ke_77 n x2 x3 x4 sg → gW X 0 0 z T L (up1 V0 mb sg) P 33 [some (.ref mb), some (.int x1), some (.int x2), some (.int x3), some (.int x4)] [] := by
  intro n
  induction n with
  | zero =>
    intro x2 x3 x4 sg w
    exact w.elim
  | succ n ih =>
    intro x2 x3 x4 sg w
    unfold lM_soonest_33 at w
    refine g_iload O dX8_soonest_33 rfl ?_
    refine g_aload_n O dX8_soonest_35 rfl ?_
    refine gm_getA (j := 3) O hM.1 rfl (by decide) q1731 dX8_soonest_36 ?_
    refine g_iconst (v := 5) O dX8_soonest_39 (by decide) ?_
    refine gm_ald (j := 3) (len := 14) (nn := 5) O hM.1 rfl (by decide) (by decide) rfl dX8_soonest_40 ?_
    refine g_icmp_ge (tgt := 77) O w dX8_soonest_41 (by decide) (fun w => ?_) (fun w => ?_)
    · refine g_drop [4] (lv' := [some (.ref mb), some (.int x1), some (.int x2), some (.int x3), none]) rfl ?_
      exact hke_77 (x2) (x3) (sg) w
    · refine g_iload_n O dX8_soonest_44 rfl ?_
      refine g_aload_n O dX8_soonest_45 rfl ?_
      refine gm_getA (j := 48) O hM.1 rfl (by decide) q1776 dX8_soonest_46 ?_
      refine g_iload O dX8_soonest_49 rfl ?_
      obtain ⟨i5, hi6, e7, w⟩ := w
      refine gm_ald (j := 48) (len := 6) (nn := i5) O hM.1 rfl hi6 (by decide) e7 dX8_soonest_51 ?_
      refine g_mmin O q1949 hRm (Nat.le_of_ble_eq_true rfl) (Nat.le_of_ble_eq_true rfl) ⟨Nat.le_of_ble_eq_true rfl, Nat.le_of_ble_eq_true rfl⟩ rfl dX8_soonest_52 ?_
      refine g_istore_n O dX8_soonest_55 (Nat.le_of_ble_eq_true rfl) rfl (lv' := [some (.ref mb), some (.int x1), some (.int (if (sg 49 i5) < x2 then (sg 49 i5) else x2)), some (.int x3), some (.int x4)]) rfl ?_
      refine g_iload_n O dX8_soonest_56 rfl ?_
      refine g_aload_n O dX8_soonest_57 rfl ?_
      refine gm_getA (j := 48) O hM.1 rfl (by decide) q1776 dX8_soonest_58 ?_
      refine g_iload O dX8_soonest_61 rfl ?_
      obtain ⟨i8, hi9, e10, w⟩ := w
      refine gm_ald (j := 48) (len := 6) (nn := i8) O hM.1 rfl hi9 (by decide) e10 dX8_soonest_63 ?_
      refine gm_Si0 (nA := 1) (As := [.int (sg 49 i8)]) (rest := [.int x3]) O hRm (cM_orNone _ O.2.2.2.2.2.2.2.2 _ _ _ _ _ _ _ hM sg ((sg 49 i8)) _ w) (lw_S q2164 q2165 q134 q2166) rfl rfl (by decide +kernel) ⟨Nat.le_of_ble_eq_true rfl, Nat.le_of_ble_eq_true rfl⟩ rfl rfl rfl (Nat.le_of_ble_eq_true rfl) dX8_soonest_64 (fun r11 w => ?_)
      refine g_mmax O q2152 hRm (Nat.le_of_ble_eq_true rfl) (Nat.le_of_ble_eq_true rfl) ⟨Nat.le_of_ble_eq_true rfl, Nat.le_of_ble_eq_true rfl⟩ rfl dX8_soonest_67 ?_
      refine g_istore_n O dX8_soonest_70 (Nat.le_of_ble_eq_true rfl) rfl (lv' := [some (.ref mb), some (.int x1), some (.int (if (sg 49 i5) < x2 then (sg 49 i5) else x2)), some (.int (if x3 < r11 then r11 else x3)), some (.int x4)]) rfl ?_
      refine g_iinc (v := (x4 + 1)) O dX8_soonest_71 rfl rfl rfl (lv' := [some (.ref mb), some (.int x1), some (.int (if (sg 49 i5) < x2 then (sg 49 i5) else x2)), some (.int (if x3 < r11 then r11 else x3)), some (.int (x4 + 1))]) rfl ?_
      refine g_goto (tgt := 33) O dX8_soonest_74 (by decide) ?_
      exact ih ((if (sg 49 i5) < x2 then (sg 49 i5) else x2)) ((if x3 < r11 then r11 else x3)) ((x4 + 1)) (sg) w
set_option maxHeartbeats 4000000 in
theorem cM_soonest (l : Launch) (hfl : l.flags = flags0) (E : w_E) (z : Nat) (T L : Nat → Nat) (V0 : w_V) (P : w_P) (mb : Nat) (hM : mOk E T L P mb) (sg : MS) (x1 : Int32) (post : Int32 → MS → Prop) (w : wM_soonest sg x1 post) : mMi l yX8_soonest cX8_soonest 5 (some .int) rM_soonest E z T L V0 P mb [.ref mb, .int x1] sg post := by
  refine g_start (S := Unit) hfl (by decide +kernel) rfl [some (.ref mb), some (.int x1), none, none, none] rfl (fun _ h => h) (Nat.le_of_ble_eq_true rfl) (fun X hl hRm hEe O hQ => ?_)
  subst hl
  subst hEe
  unfold wM_soonest at w
  refine g_aload_n O dX8_soonest_0 rfl ?_
  refine g_iconst (v := 0) O dX8_soonest_1 (by decide) ?_
  refine gm_putI (j := 2) (ty := .int) O hM.1 rfl (by decide) q1730 rfl rfl rfl rfl dX8_soonest_2 ?_
  refine g_iload_n O dX8_soonest_5 rfl ?_
  refine g_if_lt (tgt := 14) O w dX8_soonest_6 (by decide) (fun w => ?_) (fun w => ?_)
  · refine g_drop [1] (lv' := [some (.ref mb), none, none, none, none]) rfl ?_
    exact vM_soonest_14 O hRm hM (s2 sg 0 2 0)  post hQ w
  · refine g_iload_n O dX8_soonest_9 rfl ?_
    refine g_iconst (v := 1) O dX8_soonest_10 (by decide) ?_
    refine g_icmp_le (tgt := 20) O w dX8_soonest_11 (by decide) (fun w => ?_) (fun w => ?_)
    · refine g_aload_n O dX8_soonest_20 rfl ?_
      refine gm_Vi (nA := 0) (As := []) (rest := []) O hRm hM.1 (cM_tellNow _ O.2.2.2.2.2.2.2.2 _ _ _ _ _ _ _ hM (s2 sg 0 2 0) _ w) (lw_V q2069 q2071 qs75 q134 q2072) rfl rfl (by decide +kernel) ⟨Nat.le_of_ble_eq_true rfl, Nat.le_of_ble_eq_true rfl⟩ rfl rfl rfl (Nat.le_of_ble_eq_true rfl) dX8_soonest_21 (fun r3 g4 w => ?_)
      refine g_pop O dX8_soonest_24 rfl ?_
      refine g_ldc O q1948 dX8_soonest_25 ?_
      refine g_istore_n O dX8_soonest_27 (Nat.le_of_ble_eq_true rfl) rfl (lv' := [some (.ref mb), some (.int x1), some (.int 100000), none, none]) rfl ?_
      refine g_iconst (v := (-1)) O dX8_soonest_28 (by decide) ?_
      refine g_istore_n O dX8_soonest_29 (Nat.le_of_ble_eq_true rfl) rfl (lv' := [some (.ref mb), some (.int x1), some (.int 100000), some (.int (-1)), none]) rfl ?_
      refine g_iconst (v := 0) O dX8_soonest_30 (by decide) ?_
      refine g_istore O dX8_soonest_31 (Nat.le_of_ble_eq_true rfl) rfl (lv' := [some (.ref mb), some (.int x1), some (.int 100000), some (.int (-1)), some (.int 0)]) rfl ?_
      obtain ⟨n18, w⟩ := w
      refine vM_soonest_33 O hRm hM x1 post hQ _ (fun y13 y14 g15 w => ?_) n18 100000 (-1) 0 g4 w
      refine g_iload_n O dX8_soonest_77 rfl ?_
      refine g_if_ne (tgt := 88) O w dX8_soonest_78 (by decide) (fun w => ?_) (fun w => ?_)
      · refine g_iload_n O dX8_soonest_88 rfl ?_
        exact gm_iret O hQ rfl w dX8_soonest_89
      · refine g_iload_n O dX8_soonest_81 rfl ?_
        refine gm_Si0 (nA := 1) (As := [.int y13]) (rest := []) O hRm (cM_orNone _ O.2.2.2.2.2.2.2.2 _ _ _ _ _ _ _ hM g15 (y13) _ w) (lw_S q2164 q2165 q134 q2166) rfl rfl (by decide +kernel) ⟨Nat.le_of_ble_eq_true rfl, Nat.le_of_ble_eq_true rfl⟩ rfl rfl rfl (Nat.le_of_ble_eq_true rfl) dX8_soonest_82 (fun r16 w => ?_)
        refine g_goto (tgt := 89) O dX8_soonest_85 (by decide) ?_
        exact gm_iret O hQ rfl w dX8_soonest_89
    · refine g_drop [1] (lv' := [some (.ref mb), none, none, none, none]) rfl ?_
      exact vM_soonest_14 O hRm hM (s2 sg 0 2 0)  post hQ w
-- see
abbrev rM_see : Room := { frames := 3, cells := 0, slots := 0, locals := 58 }
set_option maxHeartbeats 4000000 in
theorem vM_see_21 {X : Cx} {z : Nat} {T L : Nat → Nat} {V0 : w_V} {P : w_P} {mb : Nat} (O : Okc X cX8_see RX8 4 (some .int)) (hRm : cxR X = rM_see) (hM : mOk (cxE X) T L P mb) (sg : MS) (post : Int32 → MS → Prop) (hQ : cxMQ X (va_Qi post (fun u t => wdW (cxE X) (mW z T L V0 P mb u) t.heap) (w_A (cxE X))) 0 0) (w : jM_see_21 sg post) : gW X 0 0 z T L (up1 V0 mb sg) P 21 [some (.ref mb), none, none, none] [] := by
  unfold jM_see_21 at w
  refine g_aload_n O dX8_see_21 rfl ?_
  refine g_iconst (v := 1) O dX8_see_22 (by decide) ?_
  refine gm_Vi (nA := 1) (As := [.int 1]) (rest := []) O hRm hM.1 (cM_fail _ O.2.2.2.2.2.2.2.2 _ _ _ _ _ _ _ hM sg (1) _ w) (lw_V q1930 q1932 qs49 q134 q1933) rfl rfl (by decide +kernel) ⟨Nat.le_of_ble_eq_true rfl, Nat.le_of_ble_eq_true rfl⟩ rfl rfl rfl (Nat.le_of_ble_eq_true rfl) dX8_see_23 (fun r3 g4 w => ?_)
  exact gm_iret O hQ rfl w dX8_see_26
set_option maxHeartbeats 4000000 in
theorem vM_see_79 {X : Cx} {z : Nat} {T L : Nat → Nat} {V0 : w_V} {P : w_P} {mb : Nat} (O : Okc X cX8_see RX8 4 (some .int)) (hRm : cxR X = rM_see) (hM : mOk (cxE X) T L P mb) (sg : MS) (t0 : Int32) (t1 : Int32) (post : Int32 → MS → Prop) (hQ : cxMQ X (va_Qi post (fun u t => wdW (cxE X) (mW z T L V0 P mb u) t.heap) (w_A (cxE X))) 0 0) (w : jM_see_79 sg t0 t1 post) : gW X 0 0 z T L (up1 V0 mb sg) P 79 [some (.ref mb), none, none, none] [.int t0, .int t1, .ref (mb + 32)] := by
  unfold jM_see_79 at w
  obtain ⟨i13, hi14, e15, w⟩ := w
  refine gm_ast (j := 52) (len := 8) (nn := i13) O hM.1 rfl hi14 (by decide) e15 dX8_see_79 ?_
  refine g_aload_n O dX8_see_80 rfl ?_
  refine g_dup O dX8_see_81 rfl ?_
  refine gm_getI (j := 34) O hM.1 rfl (by decide) q1762 dX8_see_82 ?_
  refine g_iconst (v := 1) O dX8_see_85 (by decide) ?_
  refine g_iadd O dX8_see_86 ?_
  refine gm_putI (j := 34) (ty := .int) O hM.1 rfl (by decide) q1762 rfl rfl rfl rfl dX8_see_87 ?_
  refine g_aload_n O dX8_see_90 rfl ?_
  refine gm_getI (j := 34) O hM.1 rfl (by decide) q1762 dX8_see_91 ?_
  exact gm_iret O hQ rfl w dX8_see_94
set_option maxHeartbeats 4000000 in
theorem cM_see (l : Launch) (hfl : l.flags = flags0) (E : w_E) (z : Nat) (T L : Nat → Nat) (V0 : w_V) (P : w_P) (mb : Nat) (hM : mOk E T L P mb) (sg : MS) (x1 : Int32) (x2 : Int32) (x3 : Int32) (post : Int32 → MS → Prop) (w : wM_see sg x1 x2 x3 post) : mMi l yX8_see cX8_see 4 (some .int) rM_see E z T L V0 P mb [.ref mb, .int x1, .int x2, .int x3] sg post := by
  refine g_start (S := Unit) hfl (by decide +kernel) rfl [some (.ref mb), some (.int x1), some (.int x2), some (.int x3)] rfl (fun _ h => h) (Nat.le_of_ble_eq_true rfl) (fun X hl hRm hEe O hQ => ?_)
  subst hl
  subst hEe
  unfold wM_see at w
  refine g_aload_n O dX8_see_0 rfl ?_
  refine g_iconst (v := 0) O dX8_see_1 (by decide) ?_
  refine gm_putI (j := 2) (ty := .int) O hM.1 rfl (by decide) q1730 rfl rfl rfl rfl dX8_see_2 ?_
  refine g_aload_n O dX8_see_5 rfl ?_
  refine g_iload_n O dX8_see_6 rfl ?_
  refine gm_Vi0 (nA := 1) (As := [.int x1]) (rest := []) O hRm hM.1 (cM_isCase _ O.2.2.2.2.2.2.2.2 _ _ _ _ _ _ _ hM (s2 sg 0 2 0) (x1) _ w) (lw_V q2188 q2190 qs97 q134 q2191) rfl rfl (by decide +kernel) ⟨Nat.le_of_ble_eq_true rfl, Nat.le_of_ble_eq_true rfl⟩ rfl rfl rfl (Nat.le_of_ble_eq_true rfl) dX8_see_7 (fun r1 w => ?_)
  refine g_if_eq (tgt := 21) O w dX8_see_10 (by decide) (fun w => ?_) (fun w => ?_)
  · refine g_drop [1, 2, 3] (lv' := [some (.ref mb), none, none, none]) rfl ?_
    exact vM_see_21 O hRm hM (s2 sg 0 2 0)  post hQ w
  · refine g_aload_n O dX8_see_13 rfl ?_
    refine g_iload_n O dX8_see_14 rfl ?_
    refine gm_Vi0 (nA := 1) (As := [.int x2]) (rest := []) O hRm hM.1 (cM_isJudge _ O.2.2.2.2.2.2.2.2 _ _ _ _ _ _ _ hM (s2 sg 0 2 0) (x2) _ w) (lw_V q2171 q2173 qs96 q134 q2174) rfl rfl (by decide +kernel) ⟨Nat.le_of_ble_eq_true rfl, Nat.le_of_ble_eq_true rfl⟩ rfl rfl rfl (Nat.le_of_ble_eq_true rfl) dX8_see_15 (fun r5 w => ?_)
    refine g_if_ne (tgt := 27) O w dX8_see_18 (by decide) (fun w => ?_) (fun w => ?_)
    · refine g_aload_n O dX8_see_27 rfl ?_
      refine gm_getI (j := 34) O hM.1 rfl (by decide) q1762 dX8_see_28 ?_
      refine g_bipush (v := 8) O dX8_see_31 (by decide) ?_
      refine g_icmp_ne (tgt := 42) O w dX8_see_33 (by decide) (fun w => ?_) (fun w => ?_)
      · refine g_aload_n O dX8_see_42 rfl ?_
        refine gm_getA (j := 50) O hM.1 rfl (by decide) q1778 dX8_see_43 ?_
        refine g_aload_n O dX8_see_46 rfl ?_
        refine gm_getI (j := 34) O hM.1 rfl (by decide) q1762 dX8_see_47 ?_
        refine g_iload_n O dX8_see_50 rfl ?_
        obtain ⟨i7, hi8, e9, w⟩ := w
        refine gm_ast (j := 50) (len := 8) (nn := i7) O hM.1 rfl hi8 (by decide) e9 dX8_see_51 ?_
        refine g_aload_n O dX8_see_52 rfl ?_
        refine gm_getA (j := 51) O hM.1 rfl (by decide) q1779 dX8_see_53 ?_
        refine g_aload_n O dX8_see_56 rfl ?_
        refine gm_getI (j := 34) O hM.1 rfl (by decide) q1762 dX8_see_57 ?_
        refine g_iload_n O dX8_see_60 rfl ?_
        obtain ⟨i10, hi11, e12, w⟩ := w
        refine gm_ast (j := 51) (len := 8) (nn := i10) O hM.1 rfl hi11 (by decide) e12 dX8_see_61 ?_
        refine g_aload_n O dX8_see_62 rfl ?_
        refine gm_getA (j := 52) O hM.1 rfl (by decide) q1780 dX8_see_63 ?_
        refine g_aload_n O dX8_see_66 rfl ?_
        refine gm_getI (j := 34) O hM.1 rfl (by decide) q1762 dX8_see_67 ?_
        refine g_iload_n O dX8_see_70 rfl ?_
        refine g_if_eq (tgt := 78) O w dX8_see_71 (by decide) (fun w => ?_) (fun w => ?_)
        · refine g_iconst (v := 0) O dX8_see_78 (by decide) ?_
          refine g_drop [1, 2, 3] (lv' := [some (.ref mb), none, none, none]) rfl ?_
          exact vM_see_79 O hRm hM (s2 (s2 (s2 sg 0 2 0) 51 i7 x1) 52 i10 x2)  0 ((s2 (s2 (s2 sg 0 2 0) 51 i7 x1) 52 i10 x2) 0 34) post hQ w
        · refine g_iconst (v := 1) O dX8_see_74 (by decide) ?_
          refine g_goto (tgt := 79) O dX8_see_75 (by decide) ?_
          refine g_drop [1, 2, 3] (lv' := [some (.ref mb), none, none, none]) rfl ?_
          exact vM_see_79 O hRm hM (s2 (s2 (s2 sg 0 2 0) 51 i7 x1) 52 i10 x2)  1 ((s2 (s2 (s2 sg 0 2 0) 51 i7 x1) 52 i10 x2) 0 34) post hQ w
      · refine g_aload_n O dX8_see_36 rfl ?_
        refine g_iconst (v := 2) O dX8_see_37 (by decide) ?_
        refine gm_Vi (nA := 1) (As := [.int 2]) (rest := []) O hRm hM.1 (cM_refuse _ O.2.2.2.2.2.2.2.2 _ _ _ _ _ _ _ hM (s2 sg 0 2 0) (2) _ w) (lw_V q2214 q2216 qs98 q134 q2217) rfl rfl (by decide +kernel) ⟨Nat.le_of_ble_eq_true rfl, Nat.le_of_ble_eq_true rfl⟩ rfl rfl rfl (Nat.le_of_ble_eq_true rfl) dX8_see_38 (fun r16 g17 w => ?_)
        exact gm_iret O hQ rfl w dX8_see_41
    · refine g_drop [1, 2, 3] (lv' := [some (.ref mb), none, none, none]) rfl ?_
      exact vM_see_21 O hRm hM (s2 sg 0 2 0)  post hQ w
-- forget
abbrev rM_forget : Room := { frames := 1, cells := 0, slots := 0, locals := 12 }
set_option maxHeartbeats 4000000 in
theorem cM_forget (l : Launch) (hfl : l.flags = flags0) (E : w_E) (z : Nat) (T L : Nat → Nat) (V0 : w_V) (P : w_P) (mb : Nat) (hM : mOk E T L P mb) (sg : MS) (post : Int32 → MS → Prop) (w : wM_forget sg post) : mMi l yX8_forget cX8_forget 1 (some .int) rM_forget E z T L V0 P mb [.ref mb] sg post := by
  refine g_start (S := Unit) hfl (by decide +kernel) rfl [some (.ref mb)] rfl (fun _ h => h) (Nat.le_of_ble_eq_true rfl) (fun X hl hRm hEe O hQ => ?_)
  subst hl
  subst hEe
  unfold wM_forget at w
  refine g_aload_n O dX8_forget_0 rfl ?_
  refine g_iconst (v := 0) O dX8_forget_1 (by decide) ?_
  refine gm_putI (j := 2) (ty := .int) O hM.1 rfl (by decide) q1730 rfl rfl rfl rfl dX8_forget_2 ?_
  refine g_aload_n O dX8_forget_5 rfl ?_
  refine gm_getI (j := 34) O hM.1 rfl (by decide) q1762 dX8_forget_6 ?_
  refine g_if_ne (tgt := 14) O w dX8_forget_9 (by decide) (fun w => ?_) (fun w => ?_)
  · refine g_aload_n O dX8_forget_14 rfl ?_
    refine g_dup O dX8_forget_15 rfl ?_
    refine gm_getI (j := 34) O hM.1 rfl (by decide) q1762 dX8_forget_16 ?_
    refine g_iconst (v := 1) O dX8_forget_19 (by decide) ?_
    refine g_isub O dX8_forget_20 ?_
    refine gm_putI (j := 34) (ty := .int) O hM.1 rfl (by decide) q1762 rfl rfl rfl rfl dX8_forget_21 ?_
    refine g_aload_n O dX8_forget_24 rfl ?_
    refine gm_getI (j := 34) O hM.1 rfl (by decide) q1762 dX8_forget_25 ?_
    exact gm_iret O hQ rfl w dX8_forget_28
  · refine g_iconst (v := (-1)) O dX8_forget_12 (by decide) ?_
    exact gm_iret O hQ rfl w dX8_forget_13
-- isAsSeen
abbrev rM_isAsSeen : Room := { frames := 5, cells := 0, slots := 0, locals := 107 }
set_option maxHeartbeats 4000000 in
theorem vM_isAsSeen_34 {X : Cx} {z : Nat} {T L : Nat → Nat} {V0 : w_V} {P : w_P} {mb : Nat} (O : Okc X cX8_isAsSeen RX8 2 (some .boolean)) (hRm : cxR X = rM_isAsSeen) (hM : mOk (cxE X) T L P mb) (sg : MS) (x1 : Int32) (t0 : Int32) (post : Int32 → Prop) (hQ : cxMQ X (va_Qi (fun x (_ : Unit) => post x) (fun (_ : Unit) t => wdW (cxE X) (mW z T L V0 P mb sg) t.heap) (w_A (cxE X))) 0 0) (kb : Int32 → Prop) (hkb : ∀ (y1 : Int32), kb y1 → gW X 0 0 z T L (up1 V0 mb sg) P 2 [some (.ref mb), some (.int y1)] []) (w : jM_isAsSeen_34 sg x1 t0 post kb) : gW X 0 0 z T L (up1 V0 mb sg) P 34 [some (.ref mb), some (.int x1)] [.int t0] := by
  unfold jM_isAsSeen_34 at w
  refine g_aload_n O dX8_isAsSeen_34 rfl ?_
  refine gm_getA (j := 52) O hM.1 rfl (by decide) q1780 dX8_isAsSeen_35 ?_
  refine g_iload_n O dX8_isAsSeen_38 rfl ?_
  obtain ⟨i9, hi10, e11, w⟩ := w
  refine gm_ald (j := 52) (len := 8) (nn := i9) O hM.1 rfl hi10 (by decide) e11 dX8_isAsSeen_39 ?_
  refine g_icmp_eq (tgt := 45) O w dX8_isAsSeen_40 (by decide) (fun w => ?_) (fun w => ?_)
  · refine g_iinc (v := (x1 + 1)) O dX8_isAsSeen_45 rfl rfl rfl (lv' := [some (.ref mb), some (.int (x1 + 1))]) rfl ?_
    refine g_goto (tgt := 2) O dX8_isAsSeen_48 (by decide) ?_
    exact hkb ((x1 + 1)) w
  · refine g_iconst (v := 0) O dX8_isAsSeen_43 (by decide) ?_
    exact gm_iret0 O hQ rfl w dX8_isAsSeen_44
set_option maxHeartbeats 4000000 in
theorem vM_isAsSeen_2 {X : Cx} {z : Nat} {T L : Nat → Nat} {V0 : w_V} {P : w_P} {mb : Nat} (O : Okc X cX8_isAsSeen RX8 2 (some .boolean)) (hRm : cxR X = rM_isAsSeen) (hM : mOk (cxE X) T L P mb) (sg : MS) (post : Int32 → Prop) (hQ : cxMQ X (va_Qi (fun x (_ : Unit) => post x) (fun (_ : Unit) t => wdW (cxE X) (mW z T L V0 P mb sg) t.heap) (w_A (cxE X))) 0 0)  : ∀ (n : Nat) (x1 : Int32), lM_isAsSeen_2 sg post n x1 → gW X 0 0 z T L (up1 V0 mb sg) P 2 [some (.ref mb), some (.int x1)] [] := by
  intro n
  induction n with
  | zero =>
    intro x1 w
    exact w.elim
  | succ n ih =>
    intro x1 w
    unfold lM_isAsSeen_2 at w
    refine g_iload_n O dX8_isAsSeen_2 rfl ?_
    refine g_aload_n O dX8_isAsSeen_3 rfl ?_
    refine gm_getI (j := 34) O hM.1 rfl (by decide) q1762 dX8_isAsSeen_4 ?_
    refine g_icmp_ge (tgt := 51) O w dX8_isAsSeen_7 (by decide) (fun w => ?_) (fun w => ?_)
    · refine g_iconst (v := 1) O dX8_isAsSeen_51 (by decide) ?_
      exact gm_iret0 O hQ rfl w dX8_isAsSeen_52
    · refine g_aload_n O dX8_isAsSeen_10 rfl ?_
      refine g_aload_n O dX8_isAsSeen_11 rfl ?_
      refine gm_getA (j := 50) O hM.1 rfl (by decide) q1778 dX8_isAsSeen_12 ?_
      refine g_iload_n O dX8_isAsSeen_15 rfl ?_
      obtain ⟨i1, hi2, e3, w⟩ := w
      refine gm_ald (j := 50) (len := 8) (nn := i1) O hM.1 rfl hi2 (by decide) e3 dX8_isAsSeen_16 ?_
      refine g_aload_n O dX8_isAsSeen_17 rfl ?_
      refine gm_getA (j := 51) O hM.1 rfl (by decide) q1779 dX8_isAsSeen_18 ?_
      refine g_iload_n O dX8_isAsSeen_21 rfl ?_
      obtain ⟨i4, hi5, e6, w⟩ := w
      refine gm_ald (j := 51) (len := 8) (nn := i4) O hM.1 rfl hi5 (by decide) e6 dX8_isAsSeen_22 ?_
      refine gm_Vi0 (nA := 2) (As := [.int (sg 51 i1), .int (sg 52 i4)]) (rest := []) O hRm hM.1 (cM_isVoided _ O.2.2.2.2.2.2.2.2 _ _ _ _ _ _ _ hM sg ((sg 51 i1)) ((sg 52 i4)) _ w) (lw_V q2128 q2130 qs89 q134 q2131) rfl rfl (by decide +kernel) ⟨Nat.le_of_ble_eq_true rfl, Nat.le_of_ble_eq_true rfl⟩ rfl rfl rfl (Nat.le_of_ble_eq_true rfl) dX8_isAsSeen_23 (fun r7 w => ?_)
      refine g_if_eq (tgt := 33) O w dX8_isAsSeen_26 (by decide) (fun w => ?_) (fun w => ?_)
      · refine g_iconst (v := 0) O dX8_isAsSeen_33 (by decide) ?_
        exact vM_isAsSeen_34 O hRm hM sg  x1 0 post hQ (lM_isAsSeen_2 sg post n) ih w
      · refine g_iconst (v := 1) O dX8_isAsSeen_29 (by decide) ?_
        refine g_goto (tgt := 34) O dX8_isAsSeen_30 (by decide) ?_
        exact vM_isAsSeen_34 O hRm hM sg  x1 1 post hQ (lM_isAsSeen_2 sg post n) ih w
set_option maxHeartbeats 4000000 in
theorem cM_isAsSeen (l : Launch) (hfl : l.flags = flags0) (E : w_E) (z : Nat) (T L : Nat → Nat) (V0 : w_V) (P : w_P) (mb : Nat) (hM : mOk E T L P mb) (sg : MS) (post : Int32 → Prop) (w : wM_isAsSeen sg post) : mMi0 l yX8_isAsSeen cX8_isAsSeen 2 (some .boolean) rM_isAsSeen E z T L V0 P mb [.ref mb] sg post := by
  refine g_start (S := Unit) hfl (by decide +kernel) rfl [some (.ref mb), none] rfl (fun _ h => h) (Nat.le_of_ble_eq_true rfl) (fun X hl hRm hEe O hQ => ?_)
  subst hl
  subst hEe
  unfold wM_isAsSeen at w
  refine g_iconst (v := 0) O dX8_isAsSeen_0 (by decide) ?_
  refine g_istore_n O dX8_isAsSeen_1 (Nat.le_of_ble_eq_true rfl) rfl (lv' := [some (.ref mb), some (.int 0)]) rfl ?_
  obtain ⟨n12, w⟩ := w
  exact vM_isAsSeen_2 O hRm hM sg post hQ n12 0 w
-- sent
abbrev rM_sent : Room := { frames := 9, cells := 0, slots := 0, locals := 197 }
set_option maxHeartbeats 4000000 in
theorem vM_sent_25 {X : Cx} {z : Nat} {T L : Nat → Nat} {V0 : w_V} {P : w_P} {mb : Nat} (O : Okc X cX8_sent RX8 6 (some .int)) (hRm : cxR X = rM_sent) (hM : mOk (cxE X) T L P mb) (sg : MS) (post : Int32 → MS → Prop) (hQ : cxMQ X (va_Qi post (fun u t => wdW (cxE X) (mW z T L V0 P mb u) t.heap) (w_A (cxE X))) 0 0) (w : jM_sent_25 sg post) : gW X 0 0 z T L (up1 V0 mb sg) P 25 [some (.ref mb), none, none, none, none, none] [] := by
  unfold jM_sent_25 at w
  refine g_aload_n O dX8_sent_25 rfl ?_
  refine g_iconst (v := 1) O dX8_sent_26 (by decide) ?_
  refine gm_Vi (nA := 1) (As := [.int 1]) (rest := []) O hRm hM.1 (cM_fail _ O.2.2.2.2.2.2.2.2 _ _ _ _ _ _ _ hM sg (1) _ w) (lw_V q1930 q1932 qs49 q134 q1933) rfl rfl (by decide +kernel) ⟨Nat.le_of_ble_eq_true rfl, Nat.le_of_ble_eq_true rfl⟩ rfl rfl rfl (Nat.le_of_ble_eq_true rfl) dX8_sent_27 (fun r3 g4 w => ?_)
  exact gm_iret O hQ rfl w dX8_sent_30
set_option maxHeartbeats 4000000 in
theorem vM_sent_166 {X : Cx} {z : Nat} {T L : Nat → Nat} {V0 : w_V} {P : w_P} {mb : Nat} (O : Okc X cX8_sent RX8 6 (some .int)) (hRm : cxR X = rM_sent) (hM : mOk (cxE X) T L P mb) (sg : MS) (x1 : Int32) (x2 : Int32) (x3 : Int32) (x4 : Int32) (x5 : Int32) (post : Int32 → MS → Prop) (hQ : cxMQ X (va_Qi post (fun u t => wdW (cxE X) (mW z T L V0 P mb u) t.heap) (w_A (cxE X))) 0 0) (kb : Int32 → Int32 → Int32 → MS → Prop) (hkb : ∀ (y3 : Int32) (y4 : Int32) (y5 : Int32) (sg : MS), kb y3 y4 y5 sg → gW X 0 0 z T L (up1 V0 mb sg) P 72 [some (.ref mb), some (.int x1), some (.int x2), some (.int y3), some (.int y4), some (.int y5)] []) (w : jM_sent_166 sg x1 x2 x3 x4 x5 post kb) : gW X 0 0 z T L (up1 V0 mb sg) P 166 [some (.ref mb), some (.int x1), some (.int x2), some (.int x3), some (.int x4), some (.int x5)] [] := by
  unfold jM_sent_166 at w
  refine g_iinc (v := (x5 + 1)) O dX8_sent_166 rfl rfl rfl (lv' := [some (.ref mb), some (.int x1), some (.int x2), some (.int x3), some (.int x4), some (.int (x5 + 1))]) rfl ?_
  refine g_goto (tgt := 72) O dX8_sent_169 (by decide) ?_
  exact hkb (x3) (x4) ((x5 + 1)) (sg) w
set_option maxHeartbeats 4000000 in
theorem vM_sent_164 {X : Cx} {z : Nat} {T L : Nat → Nat} {V0 : w_V} {P : w_P} {mb : Nat} (O : Okc X cX8_sent RX8 6 (some .int)) (hRm : cxR X = rM_sent) (hM : mOk (cxE X) T L P mb) (sg : MS) (x1 : Int32) (x2 : Int32) (x3 : Int32) (x5 : Int32) (t0 : Int32) (post : Int32 → MS → Prop) (hQ : cxMQ X (va_Qi post (fun u t => wdW (cxE X) (mW z T L V0 P mb u) t.heap) (w_A (cxE X))) 0 0) (kb : Int32 → Int32 → Int32 → MS → Prop) (hkb : ∀ (y3 : Int32) (y4 : Int32) (y5 : Int32) (sg : MS), kb y3 y4 y5 sg → gW X 0 0 z T L (up1 V0 mb sg) P 72 [some (.ref mb), some (.int x1), some (.int x2), some (.int y3), some (.int y4), some (.int y5)] []) (w : jM_sent_164 sg x1 x2 x3 x5 t0 post kb) : gW X 0 0 z T L (up1 V0 mb sg) P 164 [some (.ref mb), some (.int x1), some (.int x2), some (.int x3), none, some (.int x5)] [.int t0] := by
  unfold jM_sent_164 at w
  refine g_istore O dX8_sent_164 (Nat.le_of_ble_eq_true rfl) rfl (lv' := [some (.ref mb), some (.int x1), some (.int x2), some (.int x3), some (.int t0), some (.int x5)]) rfl ?_
  exact vM_sent_166 O hRm hM sg  x1 x2 x3 t0 x5 post hQ kb hkb w
set_option maxHeartbeats 4000000 in
theorem vM_sent_72 {X : Cx} {z : Nat} {T L : Nat → Nat} {V0 : w_V} {P : w_P} {mb : Nat} (O : Okc X cX8_sent RX8 6 (some .int)) (hRm : cxR X = rM_sent) (hM : mOk (cxE X) T L P mb) (x1 : Int32) (x2 : Int32) (post : Int32 → MS → Prop) (hQ : cxMQ X (va_Qi post (fun u t => wdW (cxE X) (mW z T L V0 P mb u) t.heap) (w_A (cxE X))) 0 0) (ke_172 : Int32 → Int32 → MS → Prop) (hke_172 : ∀ (y3 : Int32) (y4 : Int32) (sg : MS), ke_172 y3 y4 sg → gW X 0 0 z T L (up1 V0 mb sg) P 172 [some (.ref mb), none, some (.int x2), some (.int y3), some (.int y4), none] [])  : ∀ (n : Nat) (x3 : Int32) (x4 : Int32) (x5 : Int32) (sg : MS), lM_sent_72 x1 x2 post ke_172 n x3 x4 x5 sg → gW X 0 0 z T L (up1 V0 mb sg) P 72 [some (.ref mb), some (.int x1), some (.int x2), some (.int x3), some (.int x4), some (.int x5)] [] := by
  intro n
  induction n with
  | zero =>
    intro x3 x4 x5 sg w
    exact w.elim
  | succ n ih =>
    intro x3 x4 x5 sg w
    unfold lM_sent_72 at w
    refine g_iload O dX8_sent_72 rfl ?_
    refine g_aload_n O dX8_sent_74 rfl ?_
    refine gm_getA (j := 3) O hM.1 rfl (by decide) q1731 dX8_sent_75 ?_
    refine g_iconst (v := 0) O dX8_sent_78 (by decide) ?_
    refine gm_ald (j := 3) (len := 14) (nn := 0) O hM.1 rfl (by decide) (by decide) rfl dX8_sent_79 ?_
    refine g_bipush (v := 61) O dX8_sent_80 (by decide) ?_
    refine g_imul O dX8_sent_82 ?_
    refine g_icmp_ge (tgt := 172) O w dX8_sent_83 (by decide) (fun w => ?_) (fun w => ?_)
    · refine g_drop [1, 5] (lv' := [some (.ref mb), none, some (.int x2), some (.int x3), some (.int x4), none]) rfl ?_
      exact hke_172 (x3) (x4) (sg) w
    · refine g_aload_n O dX8_sent_86 rfl ?_
      refine gm_getA (j := 25) O hM.1 rfl (by decide) q1753 dX8_sent_87 ?_
      refine g_aload_n O dX8_sent_90 rfl ?_
      refine gm_getI (j := 30) O hM.1 rfl (by decide) q1758 dX8_sent_91 ?_
      refine g_iconst (v := 1) O dX8_sent_94 (by decide) ?_
      refine g_isub O dX8_sent_95 ?_
      refine g_iload_n O dX8_sent_96 rfl ?_
      refine g_iload O dX8_sent_97 rfl ?_
      refine g_aload_n O dX8_sent_99 rfl ?_
      refine gm_getA (j := 3) O hM.1 rfl (by decide) q1731 dX8_sent_100 ?_
      refine g_iconst (v := 0) O dX8_sent_103 (by decide) ?_
      refine gm_ald (j := 3) (len := 14) (nn := 0) O hM.1 rfl (by decide) (by decide) rfl dX8_sent_104 ?_
      obtain ⟨hne, w⟩ := w
      refine g_irem O hne dX8_sent_105 ?_
      refine g_iload O dX8_sent_106 rfl ?_
      refine g_aload_n O dX8_sent_108 rfl ?_
      refine gm_getA (j := 3) O hM.1 rfl (by decide) q1731 dX8_sent_109 ?_
      refine g_iconst (v := 0) O dX8_sent_112 (by decide) ?_
      refine gm_ald (j := 3) (len := 14) (nn := 0) O hM.1 rfl (by decide) (by decide) rfl dX8_sent_113 ?_
      obtain ⟨hne, w⟩ := w
      refine g_idiv O hne dX8_sent_114 ?_
      refine gm_Sv (nA := 5) (As := [.ref (mb + 15), .int ((sg 0 30) - 1), .int x1, .int (x5 - x5 / (sg 4 0) * (sg 4 0)), .int (x5 / (sg 4 0))]) (rest := []) O hRm (cM_putRow _ O.2.2.2.2.2.2.2.2 _ _ _ _ _ _ _ hM sg 25 15 15 ⟨rfl, by decide⟩ (((sg 0 30) - 1)) (x1) ((x5 - x5 / (sg 4 0) * (sg 4 0))) ((x5 / (sg 4 0))) _ w) (lw_S q2235 q2236 q134 q2237) rfl rfl (by decide +kernel) ⟨Nat.le_of_ble_eq_true rfl, Nat.le_of_ble_eq_true rfl⟩ rfl rfl rfl (Nat.le_of_ble_eq_true rfl) dX8_sent_115 (fun g10 w => ?_)
      refine g_aload_n O dX8_sent_118 rfl ?_
      refine gm_Vi0 (nA := 0) (As := []) (rest := []) O hRm hM.1 (cM_isAsSeen _ O.2.2.2.2.2.2.2.2 _ _ _ _ _ _ _ hM g10 _ w) (lw_V q2299 q2301 qs102 q134 q2302) rfl rfl (by decide +kernel) ⟨Nat.le_of_ble_eq_true rfl, Nat.le_of_ble_eq_true rfl⟩ rfl rfl rfl (Nat.le_of_ble_eq_true rfl) dX8_sent_119 (fun r11 w => ?_)
      refine g_if_ne (tgt := 128) O w dX8_sent_122 (by decide) (fun w => ?_) (fun w => ?_)
      · refine g_iinc (v := (x3 + 1)) O dX8_sent_128 rfl rfl rfl (lv' := [some (.ref mb), some (.int x1), some (.int x2), some (.int (x3 + 1)), some (.int x4), some (.int x5)]) rfl ?_
        refine g_iload O dX8_sent_131 rfl ?_
        refine g_iconst (v := (-1)) O dX8_sent_133 (by decide) ?_
        refine g_icmp_ne (tgt := 162) O w dX8_sent_134 (by decide) (fun w => ?_) (fun w => ?_)
        · refine g_iload O dX8_sent_162 rfl ?_
          refine g_drop [4] (lv' := [some (.ref mb), some (.int x1), some (.int x2), some (.int (x3 + 1)), none, some (.int x5)]) rfl ?_
          exact vM_sent_164 O hRm hM g10  x1 x2 (x3 + 1) x5 x4 post hQ (lM_sent_72 x1 x2 post ke_172 n) ih w
        · refine g_bipush (v := 100) O dX8_sent_137 (by decide) ?_
          refine g_iload O dX8_sent_139 rfl ?_
          refine g_aload_n O dX8_sent_141 rfl ?_
          refine gm_getA (j := 3) O hM.1 rfl (by decide) q1731 dX8_sent_142 ?_
          refine g_iconst (v := 0) O dX8_sent_145 (by decide) ?_
          refine gm_ald (j := 3) (len := 14) (nn := 0) O hM.1 rfl (by decide) (by decide) rfl dX8_sent_146 ?_
          obtain ⟨hne, w⟩ := w
          refine g_idiv O hne dX8_sent_147 ?_
          refine g_imul O dX8_sent_148 ?_
          refine g_iload O dX8_sent_149 rfl ?_
          refine g_aload_n O dX8_sent_151 rfl ?_
          refine gm_getA (j := 3) O hM.1 rfl (by decide) q1731 dX8_sent_152 ?_
          refine g_iconst (v := 0) O dX8_sent_155 (by decide) ?_
          refine gm_ald (j := 3) (len := 14) (nn := 0) O hM.1 rfl (by decide) (by decide) rfl dX8_sent_156 ?_
          obtain ⟨hne, w⟩ := w
          refine g_irem O hne dX8_sent_157 ?_
          refine g_iadd O dX8_sent_158 ?_
          refine g_goto (tgt := 164) O dX8_sent_159 (by decide) ?_
          refine g_drop [4] (lv' := [some (.ref mb), some (.int x1), some (.int x2), some (.int (x3 + 1)), none, some (.int x5)]) rfl ?_
          exact vM_sent_164 O hRm hM g10  x1 x2 (x3 + 1) x5 ((100 * (x5 / (g10 4 0))) + (x5 - x5 / (g10 4 0) * (g10 4 0))) post hQ (lM_sent_72 x1 x2 post ke_172 n) ih w
      · refine g_goto (tgt := 166) O dX8_sent_125 (by decide) ?_
        exact vM_sent_166 O hRm hM g10  x1 x2 x3 x4 x5 post hQ (lM_sent_72 x1 x2 post ke_172 n) ih w
set_option maxHeartbeats 4000000 in
theorem cM_sent (l : Launch) (hfl : l.flags = flags0) (E : w_E) (z : Nat) (T L : Nat → Nat) (V0 : w_V) (P : w_P) (mb : Nat) (hM : mOk E T L P mb) (sg : MS) (x1 : Int32) (x2 : Int32) (post : Int32 → MS → Prop) (w : wM_sent sg x1 x2 post) : mMi l yX8_sent cX8_sent 6 (some .int) rM_sent E z T L V0 P mb [.ref mb, .int x1, .int x2] sg post := by
  refine g_start (S := Unit) hfl (by decide +kernel) rfl [some (.ref mb), some (.int x1), some (.int x2), none, none, none] rfl (fun _ h => h) (Nat.le_of_ble_eq_true rfl) (fun X hl hRm hEe O hQ => ?_)
  subst hl
  subst hEe
  unfold wM_sent at w
  refine g_aload_n O dX8_sent_0 rfl ?_
  refine g_iconst (v := 0) O dX8_sent_1 (by decide) ?_
  refine gm_putI (j := 2) (ty := .int) O hM.1 rfl (by decide) q1730 rfl rfl rfl rfl dX8_sent_2 ?_
  refine g_aload_n O dX8_sent_5 rfl ?_
  refine g_iload_n O dX8_sent_6 rfl ?_
  refine gm_Vi0 (nA := 1) (As := [.int x1]) (rest := []) O hRm hM.1 (cM_isCase _ O.2.2.2.2.2.2.2.2 _ _ _ _ _ _ _ hM (s2 sg 0 2 0) (x1) _ w) (lw_V q2188 q2190 qs97 q134 q2191) rfl rfl (by decide +kernel) ⟨Nat.le_of_ble_eq_true rfl, Nat.le_of_ble_eq_true rfl⟩ rfl rfl rfl (Nat.le_of_ble_eq_true rfl) dX8_sent_7 (fun r1 w => ?_)
  refine g_if_eq (tgt := 25) O w dX8_sent_10 (by decide) (fun w => ?_) (fun w => ?_)
  · refine g_drop [1, 2] (lv' := [some (.ref mb), none, none, none, none, none]) rfl ?_
    exact vM_sent_25 O hRm hM (s2 sg 0 2 0)  post hQ w
  · refine g_iload_n O dX8_sent_13 rfl ?_
    refine g_i2l O dX8_sent_14 ?_
    refine g_lconst (v := 0) O dX8_sent_15 (by decide) ?_
    refine g_ldc2 O q2298 dX8_sent_16 ?_
    refine gm_Si0 (nA := 3) (As := [.long x2.toInt64, .long 0, .long 2]) (rest := []) O hRm (cM_isIn _ O.2.2.2.2.2.2.2.2 _ _ _ _ _ _ _ hM (s2 sg 0 2 0) (x2.toInt64) (0) (2) _ w) (lw_S q2161 q2162 q134 q2163) rfl rfl (by decide +kernel) ⟨Nat.le_of_ble_eq_true rfl, Nat.le_of_ble_eq_true rfl⟩ rfl rfl rfl (Nat.le_of_ble_eq_true rfl) dX8_sent_19 (fun r5 w => ?_)
    refine g_if_ne (tgt := 31) O w dX8_sent_22 (by decide) (fun w => ?_) (fun w => ?_)
    · refine g_aload_n O dX8_sent_31 rfl ?_
      refine gm_Vi (nA := 0) (As := []) (rest := []) O hRm hM.1 (cM_tellNow _ O.2.2.2.2.2.2.2.2 _ _ _ _ _ _ _ hM (s2 sg 0 2 0) _ w) (lw_V q2069 q2071 qs75 q134 q2072) rfl rfl (by decide +kernel) ⟨Nat.le_of_ble_eq_true rfl, Nat.le_of_ble_eq_true rfl⟩ rfl rfl rfl (Nat.le_of_ble_eq_true rfl) dX8_sent_32 (fun r7 g8 w => ?_)
      refine g_pop O dX8_sent_35 rfl ?_
      refine g_iload_n O dX8_sent_36 rfl ?_
      refine g_iconst (v := 2) O dX8_sent_37 (by decide) ?_
      refine g_icmp_ne (tgt := 54) O w dX8_sent_38 (by decide) (fun w => ?_) (fun w => ?_)
      · refine g_aload_n O dX8_sent_54 rfl ?_
        refine g_dup O dX8_sent_55 rfl ?_
        refine gm_getI (j := 30) O hM.1 rfl (by decide) q1758 dX8_sent_56 ?_
        refine g_iconst (v := 1) O dX8_sent_59 (by decide) ?_
        refine g_iadd O dX8_sent_60 ?_
        refine gm_putI (j := 30) (ty := .int) O hM.1 rfl (by decide) q1758 rfl rfl rfl rfl dX8_sent_61 ?_
        refine g_iconst (v := 0) O dX8_sent_64 (by decide) ?_
        refine g_istore_n O dX8_sent_65 (Nat.le_of_ble_eq_true rfl) rfl (lv' := [some (.ref mb), some (.int x1), some (.int x2), some (.int 0), none, none]) rfl ?_
        refine g_iconst (v := (-1)) O dX8_sent_66 (by decide) ?_
        refine g_istore O dX8_sent_67 (Nat.le_of_ble_eq_true rfl) rfl (lv' := [some (.ref mb), some (.int x1), some (.int x2), some (.int 0), some (.int (-1)), none]) rfl ?_
        refine g_iconst (v := 0) O dX8_sent_69 (by decide) ?_
        refine g_istore O dX8_sent_70 (Nat.le_of_ble_eq_true rfl) rfl (lv' := [some (.ref mb), some (.int x1), some (.int x2), some (.int 0), some (.int (-1)), some (.int 0)]) rfl ?_
        obtain ⟨n16, w⟩ := w
        refine vM_sent_72 O hRm hM x1 x2 post hQ _ (fun y13 y14 g15 w => ?_) n16 0 (-1) 0 (s2 g8 0 30 ((g8 0 30) + 1)) w
        refine g_aload_n O dX8_sent_172 rfl ?_
        refine g_dup O dX8_sent_173 rfl ?_
        refine gm_getI (j := 30) O hM.1 rfl (by decide) q1758 dX8_sent_174 ?_
        refine g_iconst (v := 1) O dX8_sent_177 (by decide) ?_
        refine g_isub O dX8_sent_178 ?_
        refine gm_putI (j := 30) (ty := .int) O hM.1 rfl (by decide) q1758 rfl rfl rfl rfl dX8_sent_179 ?_
        refine g_iload_n O dX8_sent_182 rfl ?_
        refine g_if_ne (tgt := 190) O w dX8_sent_183 (by decide) (fun w => ?_) (fun w => ?_)
        · refine g_iload O dX8_sent_190 rfl ?_
          exact gm_iret O hQ rfl w dX8_sent_192
        · refine g_iload_n O dX8_sent_186 rfl ?_
          refine g_goto (tgt := 192) O dX8_sent_187 (by decide) ?_
          exact gm_iret O hQ rfl w dX8_sent_192
      · refine g_aload_n O dX8_sent_41 rfl ?_
        refine gm_Vi0 (nA := 0) (As := []) (rest := []) O hRm hM.1 (cM_isAsSeen _ O.2.2.2.2.2.2.2.2 _ _ _ _ _ _ _ hM g8 _ w) (lw_V q2299 q2301 qs102 q134 q2302) rfl rfl (by decide +kernel) ⟨Nat.le_of_ble_eq_true rfl, Nat.le_of_ble_eq_true rfl⟩ rfl rfl rfl (Nat.le_of_ble_eq_true rfl) dX8_sent_42 (fun r17 w => ?_)
        refine g_if_eq (tgt := 52) O w dX8_sent_45 (by decide) (fun w => ?_) (fun w => ?_)
        · refine g_iconst (v := 0) O dX8_sent_52 (by decide) ?_
          exact gm_iret O hQ rfl w dX8_sent_53
        · refine g_iconst (v := 1) O dX8_sent_48 (by decide) ?_
          refine g_goto (tgt := 53) O dX8_sent_49 (by decide) ?_
          exact gm_iret O hQ rfl w dX8_sent_53
    · refine g_drop [1, 2] (lv' := [some (.ref mb), none, none, none, none, none]) rfl ?_
      exact vM_sent_25 O hRm hM (s2 sg 0 2 0)  post hQ w
-- isGuiltyBy
abbrev rM_isGuiltyBy : Room := { frames := 6, cells := 0, slots := 0, locals := 132 }
set_option maxHeartbeats 4000000 in
theorem cM_isGuiltyBy (l : Launch) (hfl : l.flags = flags0) (E : w_E) (z : Nat) (T L : Nat → Nat) (V0 : w_V) (P : w_P) (mb : Nat) (hM : mOk E T L P mb) (sg : MS) (x1 : Int32) (x2 : Int32) (x3 : Int32) (post : Int32 → MS → Prop) (w : wM_isGuiltyBy sg x1 x2 x3 post) : mMi l yX8_isGuiltyBy cX8_isGuiltyBy 5 (some .boolean) rM_isGuiltyBy E z T L V0 P mb [.ref mb, .int x1, .int x2, .int x3] sg post := by
  refine g_start (S := Unit) hfl (by decide +kernel) rfl [some (.ref mb), some (.int x1), some (.int x2), some (.int x3), none] rfl (fun _ h => h) (Nat.le_of_ble_eq_true rfl) (fun X hl hRm hEe O hQ => ?_)
  subst hl
  subst hEe
  unfold wM_isGuiltyBy at w
  refine g_aload_n O dX8_isGuiltyBy_0 rfl ?_
  refine gm_getI (j := 41) O hM.1 rfl (by decide) q1769 dX8_isGuiltyBy_1 ?_
  refine g_istore O dX8_isGuiltyBy_4 (Nat.le_of_ble_eq_true rfl) rfl (lv' := [some (.ref mb), some (.int x1), some (.int x2), some (.int x3), some (.int (sg 0 41))]) rfl ?_
  refine g_aload_n O dX8_isGuiltyBy_6 rfl ?_
  refine g_dup O dX8_isGuiltyBy_7 rfl ?_
  refine gm_getI (j := 41) O hM.1 rfl (by decide) q1769 dX8_isGuiltyBy_8 ?_
  refine g_iconst (v := 1) O dX8_isGuiltyBy_11 (by decide) ?_
  refine g_iload_n O dX8_isGuiltyBy_12 rfl ?_
  refine g_ishl O dX8_isGuiltyBy_13 ?_
  refine g_ior O dX8_isGuiltyBy_14 ?_
  refine gm_putI (j := 41) (ty := .int) O hM.1 rfl (by decide) q1769 rfl rfl rfl rfl dX8_isGuiltyBy_15 ?_
  refine g_aload_n O dX8_isGuiltyBy_18 rfl ?_
  refine g_iload_n O dX8_isGuiltyBy_19 rfl ?_
  refine gm_putI (j := 43) (ty := .int) O hM.1 rfl (by decide) q1771 rfl rfl rfl rfl dX8_isGuiltyBy_20 ?_
  refine g_aload_n O dX8_isGuiltyBy_23 rfl ?_
  refine g_iconst (v := 1) O dX8_isGuiltyBy_24 (by decide) ?_
  refine g_iload_n O dX8_isGuiltyBy_25 rfl ?_
  refine g_ishl O dX8_isGuiltyBy_26 ?_
  refine gm_putI (j := 42) (ty := .int) O hM.1 rfl (by decide) q1770 rfl rfl rfl rfl dX8_isGuiltyBy_27 ?_
  refine g_aload_n O dX8_isGuiltyBy_30 rfl ?_
  refine g_iload_n O dX8_isGuiltyBy_31 rfl ?_
  refine gm_Vv (nA := 1) (As := [.int x1]) (rest := []) O hRm hM.1 (cM_judgeCase _ O.2.2.2.2.2.2.2.2 _ _ _ _ _ _ _ hM (s2 (s2 (s2 sg 0 41 ((sg 0 41) ||| ((1 : Int32) <<< ((x2 : Int32) &&& 31)))) 0 43 x1) 0 42 ((1 : Int32) <<< ((x3 : Int32) &&& 31))) (x1) _ w) (lw_V q2124 q2126 qs88 q134 q2127) rfl rfl (by decide +kernel) ⟨Nat.le_of_ble_eq_true rfl, Nat.le_of_ble_eq_true rfl⟩ rfl rfl rfl (Nat.le_of_ble_eq_true rfl) dX8_isGuiltyBy_32 (fun g2 w => ?_)
  refine g_aload_n O dX8_isGuiltyBy_35 rfl ?_
  refine g_iload O dX8_isGuiltyBy_36 rfl ?_
  refine gm_putI (j := 41) (ty := .int) O hM.1 rfl (by decide) q1769 rfl rfl rfl rfl dX8_isGuiltyBy_38 ?_
  refine g_aload_n O dX8_isGuiltyBy_41 rfl ?_
  refine gm_getA (j := 48) O hM.1 rfl (by decide) q1776 dX8_isGuiltyBy_42 ?_
  refine g_iload_n O dX8_isGuiltyBy_45 rfl ?_
  obtain ⟨i3, hi4, e5, w⟩ := w
  refine gm_ald (j := 48) (len := 6) (nn := i3) O hM.1 rfl hi4 (by decide) e5 dX8_isGuiltyBy_46 ?_
  refine g_ldc O q1948 dX8_isGuiltyBy_47 ?_
  refine g_icmp_ge (tgt := 56) O w dX8_isGuiltyBy_49 (by decide) (fun w => ?_) (fun w => ?_)
  · refine g_iconst (v := 0) O dX8_isGuiltyBy_56 (by decide) ?_
    exact gm_iret O hQ rfl w dX8_isGuiltyBy_57
  · refine g_iconst (v := 1) O dX8_isGuiltyBy_52 (by decide) ?_
    refine g_goto (tgt := 57) O dX8_isGuiltyBy_53 (by decide) ?_
    exact gm_iret O hQ rfl w dX8_isGuiltyBy_57
-- game
abbrev rM_game : Room := { frames := 9, cells := 0, slots := 0, locals := 197 }
set_option maxHeartbeats 4000000 in
theorem vM_game_22 {X : Cx} {z : Nat} {T L : Nat → Nat} {V0 : w_V} {P : w_P} {mb : Nat} (O : Okc X cX8_game RX8 10 (some .int)) (hRm : cxR X = rM_game) (hM : mOk (cxE X) T L P mb) (sg : MS) (post : Int32 → MS → Prop) (hQ : cxMQ X (va_Qi post (fun u t => wdW (cxE X) (mW z T L V0 P mb u) t.heap) (w_A (cxE X))) 0 0) (w : jM_game_22 sg post) : gW X 0 0 z T L (up1 V0 mb sg) P 22 [some (.ref mb), none, none, none, none, none, none, none, none, none] [] := by
  unfold jM_game_22 at w
  refine g_aload_n O dX8_game_22 rfl ?_
  refine g_iconst (v := 1) O dX8_game_23 (by decide) ?_
  refine gm_Vi (nA := 1) (As := [.int 1]) (rest := []) O hRm hM.1 (cM_fail _ O.2.2.2.2.2.2.2.2 _ _ _ _ _ _ _ hM sg (1) _ w) (lw_V q1930 q1932 qs49 q134 q1933) rfl rfl (by decide +kernel) ⟨Nat.le_of_ble_eq_true rfl, Nat.le_of_ble_eq_true rfl⟩ rfl rfl rfl (Nat.le_of_ble_eq_true rfl) dX8_game_24 (fun r3 g4 w => ?_)
  exact gm_iret O hQ rfl w dX8_game_27
set_option maxHeartbeats 4000000 in
theorem vM_game_133 {X : Cx} {z : Nat} {T L : Nat → Nat} {V0 : w_V} {P : w_P} {mb : Nat} (O : Okc X cX8_game RX8 10 (some .int)) (hRm : cxR X = rM_game) (hM : mOk (cxE X) T L P mb) (sg : MS) (x1 : Int32) (x2 : Int32) (x3 : Int32) (x4 : Int32) (x5 : Int32) (x6 : Int32) (x7 : Int32) (x9 : Int32) (t0 : Int32) (post : Int32 → MS → Prop) (hQ : cxMQ X (va_Qi post (fun u t => wdW (cxE X) (mW z T L V0 P mb u) t.heap) (w_A (cxE X))) 0 0) (kb : Int32 → Int32 → MS → Prop) (hkb : ∀ (y8 : Int32) (y9 : Int32) (sg : MS), kb y8 y9 sg → gW X 0 0 z T L (up1 V0 mb sg) P 83 [some (.ref mb), some (.int x1), some (.int x2), some (.int x3), some (.int x4), some (.int x5), some (.int x6), some (.int x7), some (.int y8), some (.int y9)] []) (w : jM_game_133 sg x1 x2 x3 x4 x5 x6 x7 x9 t0 post kb) : gW X 0 0 z T L (up1 V0 mb sg) P 133 [some (.ref mb), some (.int x1), some (.int x2), some (.int x3), some (.int x4), some (.int x5), some (.int x6), some (.int x7), none, some (.int x9)] [.int t0] := by
  unfold jM_game_133 at w
  refine g_istore O dX8_game_133 (Nat.le_of_ble_eq_true rfl) rfl (lv' := [some (.ref mb), some (.int x1), some (.int x2), some (.int x3), some (.int x4), some (.int x5), some (.int x6), some (.int x7), some (.int t0), some (.int x9)]) rfl ?_
  refine g_iinc (v := (x9 + 1)) O dX8_game_135 rfl rfl rfl (lv' := [some (.ref mb), some (.int x1), some (.int x2), some (.int x3), some (.int x4), some (.int x5), some (.int x6), some (.int x7), some (.int t0), some (.int (x9 + 1))]) rfl ?_
  refine g_goto (tgt := 83) O dX8_game_138 (by decide) ?_
  exact hkb (t0) ((x9 + 1)) (sg) w
set_option maxHeartbeats 4000000 in
theorem vM_game_83 {X : Cx} {z : Nat} {T L : Nat → Nat} {V0 : w_V} {P : w_P} {mb : Nat} (O : Okc X cX8_game RX8 10 (some .int)) (hRm : cxR X = rM_game) (hM : mOk (cxE X) T L P mb) (x1 : Int32) (x2 : Int32) (x3 : Int32) (x4 : Int32) (x5 : Int32) (x6 : Int32) (x7 : Int32) (post : Int32 → MS → Prop) (hQ : cxMQ X (va_Qi post (fun u t => wdW (cxE X) (mW z T L V0 P mb u) t.heap) (w_A (cxE X))) 0 0) (ke_141 : Int32 → MS → Prop) (hke_141 : ∀ (y8 : Int32) (sg : MS), ke_141 y8 sg → gW X 0 0 z T L (up1 V0 mb sg) P 141 [some (.ref mb), some (.int x1), some (.int x2), some (.int x3), some (.int x4), some (.int x5), some (.int x6), none, some (.int y8), none] [])  : ∀ (n : Nat) (x8 : Int32) (x9 : Int32) (sg : MS), lM_game_83 x1 x2 x3 x4 x5 x6 x7 post ke_141 n x8 x9 sg → gW X 0 0 z T L (up1 V0 mb sg) P 83 [some (.ref mb), some (.int x1), some (.int x2), some (.int x3), some (.int x4), some (.int x5), some (.int x6), some (.int x7), some (.int x8), some (.int x9)] [] := by
  intro n
  induction n with
  | zero =>
    intro x8 x9 sg w
    exact w.elim
  | succ n ih =>
    intro x8 x9 sg w
    unfold lM_game_83 at w
    refine g_iload O dX8_game_83 rfl ?_
    refine g_aload_n O dX8_game_85 rfl ?_
    refine gm_getA (j := 3) O hM.1 rfl (by decide) q1731 dX8_game_86 ?_
    refine g_iconst (v := 4) O dX8_game_89 (by decide) ?_
    refine gm_ald (j := 3) (len := 14) (nn := 4) O hM.1 rfl (by decide) (by decide) rfl dX8_game_90 ?_
    refine g_icmp_ge (tgt := 141) O w dX8_game_91 (by decide) (fun w => ?_) (fun w => ?_)
    · refine g_drop [7, 9] (lv' := [some (.ref mb), some (.int x1), some (.int x2), some (.int x3), some (.int x4), some (.int x5), some (.int x6), none, some (.int x8), none]) rfl ?_
      exact hke_141 (x8) (sg) w
    · refine g_iload O dX8_game_94 rfl ?_
      refine g_if_eq (tgt := 141) O w dX8_game_96 (by decide) (fun w => ?_) (fun w => ?_)
      · refine g_drop [7, 9] (lv' := [some (.ref mb), some (.int x1), some (.int x2), some (.int x3), some (.int x4), some (.int x5), some (.int x6), none, some (.int x8), none]) rfl ?_
        exact hke_141 (x8) (sg) w
      · refine g_iload O dX8_game_99 rfl ?_
        refine g_if_eq (tgt := 116) O w dX8_game_101 (by decide) (fun w => ?_) (fun w => ?_)
        · refine g_aload_n O dX8_game_116 rfl ?_
          refine g_iload_n O dX8_game_117 rfl ?_
          refine g_iload O dX8_game_118 rfl ?_
          refine g_iload O dX8_game_120 rfl ?_
          refine gm_Vi (nA := 3) (As := [.int x1, .int x9, .int x6]) (rest := []) O hRm hM.1 (cM_isGuiltyBy _ O.2.2.2.2.2.2.2.2 _ _ _ _ _ _ _ hM sg (x1) (x9) (x6) _ w) (lw_V q2307 q2309 qs103 q134 q2310) rfl rfl (by decide +kernel) ⟨Nat.le_of_ble_eq_true rfl, Nat.le_of_ble_eq_true rfl⟩ rfl rfl rfl (Nat.le_of_ble_eq_true rfl) dX8_game_122 (fun r9 g10 w => ?_)
          refine g_if_ne (tgt := 132) O w dX8_game_125 (by decide) (fun w => ?_) (fun w => ?_)
          · refine g_iconst (v := 0) O dX8_game_132 (by decide) ?_
            refine g_drop [8] (lv' := [some (.ref mb), some (.int x1), some (.int x2), some (.int x3), some (.int x4), some (.int x5), some (.int x6), some (.int x7), none, some (.int x9)]) rfl ?_
            exact vM_game_133 O hRm hM g10  x1 x2 x3 x4 x5 x6 x7 x9 0 post hQ (lM_game_83 x1 x2 x3 x4 x5 x6 x7 post ke_141 n) ih w
          · refine g_iconst (v := 1) O dX8_game_128 (by decide) ?_
            refine g_goto (tgt := 133) O dX8_game_129 (by decide) ?_
            refine g_drop [8] (lv' := [some (.ref mb), some (.int x1), some (.int x2), some (.int x3), some (.int x4), some (.int x5), some (.int x6), some (.int x7), none, some (.int x9)]) rfl ?_
            exact vM_game_133 O hRm hM g10  x1 x2 x3 x4 x5 x6 x7 x9 1 post hQ (lM_game_83 x1 x2 x3 x4 x5 x6 x7 post ke_141 n) ih w
        · refine g_aload_n O dX8_game_104 rfl ?_
          refine g_iload_n O dX8_game_105 rfl ?_
          refine g_iload O dX8_game_106 rfl ?_
          refine g_iload O dX8_game_108 rfl ?_
          refine gm_Vi (nA := 3) (As := [.int x1, .int x5, .int x9]) (rest := []) O hRm hM.1 (cM_isGuiltyBy _ O.2.2.2.2.2.2.2.2 _ _ _ _ _ _ _ hM sg (x1) (x5) (x9) _ w) (lw_V q2307 q2309 qs103 q134 q2310) rfl rfl (by decide +kernel) ⟨Nat.le_of_ble_eq_true rfl, Nat.le_of_ble_eq_true rfl⟩ rfl rfl rfl (Nat.le_of_ble_eq_true rfl) dX8_game_110 (fun r11 g12 w => ?_)
          refine g_goto (tgt := 133) O dX8_game_113 (by decide) ?_
          refine g_drop [8] (lv' := [some (.ref mb), some (.int x1), some (.int x2), some (.int x3), some (.int x4), some (.int x5), some (.int x6), some (.int x7), none, some (.int x9)]) rfl ?_
          exact vM_game_133 O hRm hM g12  x1 x2 x3 x4 x5 x6 x7 x9 r11 post hQ (lM_game_83 x1 x2 x3 x4 x5 x6 x7 post ke_141 n) ih w
set_option maxHeartbeats 4000000 in
theorem vM_game_173 {X : Cx} {z : Nat} {T L : Nat → Nat} {V0 : w_V} {P : w_P} {mb : Nat} (O : Okc X cX8_game RX8 10 (some .int)) (hRm : cxR X = rM_game) (hM : mOk (cxE X) T L P mb) (sg : MS) (x1 : Int32) (x2 : Int32) (x3 : Int32) (x4 : Int32) (x5 : Int32) (x6 : Int32) (post : Int32 → MS → Prop) (hQ : cxMQ X (va_Qi post (fun u t => wdW (cxE X) (mW z T L V0 P mb u) t.heap) (w_A (cxE X))) 0 0) (kb : Int32 → Int32 → Int32 → MS → Prop) (hkb : ∀ (y3 : Int32) (y4 : Int32) (y6 : Int32) (sg : MS), kb y3 y4 y6 sg → gW X 0 0 z T L (up1 V0 mb sg) P 55 [some (.ref mb), some (.int x1), some (.int x2), some (.int y3), some (.int y4), some (.int x5), some (.int y6), none, none, none] []) (w : jM_game_173 sg x1 x2 x3 x4 x5 x6 post kb) : gW X 0 0 z T L (up1 V0 mb sg) P 173 [some (.ref mb), some (.int x1), some (.int x2), some (.int x3), some (.int x4), some (.int x5), some (.int x6), none, none, none] [] := by
  unfold jM_game_173 at w
  refine g_iinc (v := (x6 + 1)) O dX8_game_173 rfl rfl rfl (lv' := [some (.ref mb), some (.int x1), some (.int x2), some (.int x3), some (.int x4), some (.int x5), some (.int (x6 + 1)), none, none, none]) rfl ?_
  refine g_goto (tgt := 55) O dX8_game_176 (by decide) ?_
  exact hkb (x3) (x4) ((x6 + 1)) (sg) w
set_option maxHeartbeats 4000000 in
theorem vM_game_171 {X : Cx} {z : Nat} {T L : Nat → Nat} {V0 : w_V} {P : w_P} {mb : Nat} (O : Okc X cX8_game RX8 10 (some .int)) (hRm : cxR X = rM_game) (hM : mOk (cxE X) T L P mb) (sg : MS) (x1 : Int32) (x2 : Int32) (x3 : Int32) (x5 : Int32) (x6 : Int32) (t0 : Int32) (post : Int32 → MS → Prop) (hQ : cxMQ X (va_Qi post (fun u t => wdW (cxE X) (mW z T L V0 P mb u) t.heap) (w_A (cxE X))) 0 0) (kb : Int32 → Int32 → Int32 → MS → Prop) (hkb : ∀ (y3 : Int32) (y4 : Int32) (y6 : Int32) (sg : MS), kb y3 y4 y6 sg → gW X 0 0 z T L (up1 V0 mb sg) P 55 [some (.ref mb), some (.int x1), some (.int x2), some (.int y3), some (.int y4), some (.int x5), some (.int y6), none, none, none] []) (w : jM_game_171 sg x1 x2 x3 x5 x6 t0 post kb) : gW X 0 0 z T L (up1 V0 mb sg) P 171 [some (.ref mb), some (.int x1), some (.int x2), some (.int x3), none, some (.int x5), some (.int x6), none, none, none] [.int t0] := by
  unfold jM_game_171 at w
  refine g_istore O dX8_game_171 (Nat.le_of_ble_eq_true rfl) rfl (lv' := [some (.ref mb), some (.int x1), some (.int x2), some (.int x3), some (.int t0), some (.int x5), some (.int x6), none, none, none]) rfl ?_
  exact vM_game_173 O hRm hM sg  x1 x2 x3 t0 x5 x6 post hQ kb hkb w
set_option maxHeartbeats 4000000 in
theorem vM_game_141 {X : Cx} {z : Nat} {T L : Nat → Nat} {V0 : w_V} {P : w_P} {mb : Nat} (O : Okc X cX8_game RX8 10 (some .int)) (hRm : cxR X = rM_game) (hM : mOk (cxE X) T L P mb) (sg : MS) (x1 : Int32) (x2 : Int32) (x3 : Int32) (x4 : Int32) (x5 : Int32) (x6 : Int32) (x8 : Int32) (post : Int32 → MS → Prop) (hQ : cxMQ X (va_Qi post (fun u t => wdW (cxE X) (mW z T L V0 P mb u) t.heap) (w_A (cxE X))) 0 0) (kb : Int32 → Int32 → Int32 → MS → Prop) (hkb : ∀ (y3 : Int32) (y4 : Int32) (y6 : Int32) (sg : MS), kb y3 y4 y6 sg → gW X 0 0 z T L (up1 V0 mb sg) P 55 [some (.ref mb), some (.int x1), some (.int x2), some (.int y3), some (.int y4), some (.int x5), some (.int y6), none, none, none] []) (w : jM_game_141 sg x1 x2 x3 x4 x5 x6 x8 post kb) : gW X 0 0 z T L (up1 V0 mb sg) P 141 [some (.ref mb), some (.int x1), some (.int x2), some (.int x3), some (.int x4), some (.int x5), some (.int x6), none, some (.int x8), none] [] := by
  unfold jM_game_141 at w
  refine g_iload O dX8_game_141 rfl ?_
  refine g_if_ne (tgt := 149) O w dX8_game_143 (by decide) (fun w => ?_) (fun w => ?_)
  · refine g_iinc (v := (x3 + 1)) O dX8_game_149 rfl rfl rfl (lv' := [some (.ref mb), some (.int x1), some (.int x2), some (.int (x3 + 1)), some (.int x4), some (.int x5), some (.int x6), none, some (.int x8), none]) rfl ?_
    refine g_iload O dX8_game_152 rfl ?_
    refine g_iconst (v := (-1)) O dX8_game_154 (by decide) ?_
    refine g_icmp_ne (tgt := 169) O w dX8_game_155 (by decide) (fun w => ?_) (fun w => ?_)
    · refine g_iload O dX8_game_169 rfl ?_
      refine g_drop [4, 8] (lv' := [some (.ref mb), some (.int x1), some (.int x2), some (.int (x3 + 1)), none, some (.int x5), some (.int x6), none, none, none]) rfl ?_
      exact vM_game_171 O hRm hM sg  x1 x2 (x3 + 1) x5 x6 x4 post hQ kb hkb w
    · refine g_bipush (v := 10) O dX8_game_158 (by decide) ?_
      refine g_iload O dX8_game_160 rfl ?_
      refine g_imul O dX8_game_162 ?_
      refine g_iload O dX8_game_163 rfl ?_
      refine g_iadd O dX8_game_165 ?_
      refine g_goto (tgt := 171) O dX8_game_166 (by decide) ?_
      refine g_drop [4, 8] (lv' := [some (.ref mb), some (.int x1), some (.int x2), some (.int (x3 + 1)), none, some (.int x5), some (.int x6), none, none, none]) rfl ?_
      exact vM_game_171 O hRm hM sg  x1 x2 (x3 + 1) x5 x6 ((10 * x5) + x6) post hQ kb hkb w
  · refine g_goto (tgt := 173) O dX8_game_146 (by decide) ?_
    refine g_drop [8] (lv' := [some (.ref mb), some (.int x1), some (.int x2), some (.int x3), some (.int x4), some (.int x5), some (.int x6), none, none, none]) rfl ?_
    exact vM_game_173 O hRm hM sg  x1 x2 x3 x4 x5 x6 post hQ kb hkb w
set_option maxHeartbeats 4000000 in
theorem vM_game_55 {X : Cx} {z : Nat} {T L : Nat → Nat} {V0 : w_V} {P : w_P} {mb : Nat} (O : Okc X cX8_game RX8 10 (some .int)) (hRm : cxR X = rM_game) (hM : mOk (cxE X) T L P mb) (x1 : Int32) (x2 : Int32) (x5 : Int32) (post : Int32 → MS → Prop) (hQ : cxMQ X (va_Qi post (fun u t => wdW (cxE X) (mW z T L V0 P mb u) t.heap) (w_A (cxE X))) 0 0) (ke_179 : Int32 → Int32 → MS → Prop) (hke_179 : ∀ (y3 : Int32) (y4 : Int32) (sg : MS), ke_179 y3 y4 sg → gW X 0 0 z T L (up1 V0 mb sg) P 179 [some (.ref mb), some (.int x1), some (.int x2), some (.int y3), some (.int y4), some (.int x5), none, none, none, none] [])  : ∀ (n : Nat) (x3 : Int32) (x4 : Int32) (x6 : Int32) (sg : MS), lM_game_55 x1 x2 x5 post ke_179 n x3 x4 x6 sg → gW X 0 0 z T L (up1 V0 mb sg) P 55 [some (.ref mb), some (.int x1), some (.int x2), some (.int x3), some (.int x4), some (.int x5), some (.int x6), none, none, none] [] := by
  intro n
  induction n with
  | zero =>
    intro x3 x4 x6 sg w
    exact w.elim
  | succ n ih =>
    intro x3 x4 x6 sg w
    unfold lM_game_55 at w
    refine g_iload O dX8_game_55 rfl ?_
    refine g_aload_n O dX8_game_57 rfl ?_
    refine gm_getA (j := 3) O hM.1 rfl (by decide) q1731 dX8_game_58 ?_
    refine g_iconst (v := 4) O dX8_game_61 (by decide) ?_
    refine gm_ald (j := 3) (len := 14) (nn := 4) O hM.1 rfl (by decide) (by decide) rfl dX8_game_62 ?_
    refine g_icmp_ge (tgt := 179) O w dX8_game_63 (by decide) (fun w => ?_) (fun w => ?_)
    · refine g_drop [6] (lv' := [some (.ref mb), some (.int x1), some (.int x2), some (.int x3), some (.int x4), some (.int x5), none, none, none, none]) rfl ?_
      exact hke_179 (x3) (x4) (sg) w
    · refine g_aload_n O dX8_game_66 rfl ?_
      refine g_iload_n O dX8_game_67 rfl ?_
      refine g_iload O dX8_game_68 rfl ?_
      refine g_iload O dX8_game_70 rfl ?_
      refine gm_Vi (nA := 3) (As := [.int x1, .int x5, .int x6]) (rest := []) O hRm hM.1 (cM_isGuiltyBy _ O.2.2.2.2.2.2.2.2 _ _ _ _ _ _ _ hM sg (x1) (x5) (x6) _ w) (lw_V q2307 q2309 qs103 q134 q2310) rfl rfl (by decide +kernel) ⟨Nat.le_of_ble_eq_true rfl, Nat.le_of_ble_eq_true rfl⟩ rfl rfl rfl (Nat.le_of_ble_eq_true rfl) dX8_game_72 (fun r7 g8 w => ?_)
      refine g_istore O dX8_game_75 (Nat.le_of_ble_eq_true rfl) rfl (lv' := [some (.ref mb), some (.int x1), some (.int x2), some (.int x3), some (.int x4), some (.int x5), some (.int x6), some (.int r7), none, none]) rfl ?_
      refine g_iconst (v := 1) O dX8_game_77 (by decide) ?_
      refine g_istore O dX8_game_78 (Nat.le_of_ble_eq_true rfl) rfl (lv' := [some (.ref mb), some (.int x1), some (.int x2), some (.int x3), some (.int x4), some (.int x5), some (.int x6), some (.int r7), some (.int 1), none]) rfl ?_
      refine g_iconst (v := 0) O dX8_game_80 (by decide) ?_
      refine g_istore O dX8_game_81 (Nat.le_of_ble_eq_true rfl) rfl (lv' := [some (.ref mb), some (.int x1), some (.int x2), some (.int x3), some (.int x4), some (.int x5), some (.int x6), some (.int r7), some (.int 1), some (.int 0)]) rfl ?_
      obtain ⟨n15, w⟩ := w
      refine vM_game_83 O hRm hM x1 x2 x3 x4 x5 x6 r7 post hQ _ (fun y13 g14 w => ?_) n15 1 0 g8 w
      exact vM_game_141 O hRm hM g14  x1 x2 x3 x4 x5 x6 y13 post hQ (lM_game_55 x1 x2 x5 post ke_179 n) ih w
set_option maxHeartbeats 4000000 in
theorem vM_game_41 {X : Cx} {z : Nat} {T L : Nat → Nat} {V0 : w_V} {P : w_P} {mb : Nat} (O : Okc X cX8_game RX8 10 (some .int)) (hRm : cxR X = rM_game) (hM : mOk (cxE X) T L P mb) (x1 : Int32) (x2 : Int32) (post : Int32 → MS → Prop) (hQ : cxMQ X (va_Qi post (fun u t => wdW (cxE X) (mW z T L V0 P mb u) t.heap) (w_A (cxE X))) 0 0) (ke_185 : Int32 → Int32 → MS → Prop) (hke_185 : ∀ (y3 : Int32) (y4 : Int32) (sg : MS), ke_185 y3 y4 sg → gW X 0 0 z T L (up1 V0 mb sg) P 185 [some (.ref mb), none, some (.int x2), some (.int y3), some (.int y4), none, none, none, none, none] [])  : ∀ (n : Nat) (x3 : Int32) (x4 : Int32) (x5 : Int32) (sg : MS), lM_game_41 x1 x2 post ke_185 n x3 x4 x5 sg → gW X 0 0 z T L (up1 V0 mb sg) P 41 [some (.ref mb), some (.int x1), some (.int x2), some (.int x3), some (.int x4), some (.int x5), none, none, none, none] [] := by
  intro n
  induction n with
  | zero =>
    intro x3 x4 x5 sg w
    exact w.elim
  | succ n ih =>
    intro x3 x4 x5 sg w
    unfold lM_game_41 at w
    refine g_iload O dX8_game_41 rfl ?_
    refine g_aload_n O dX8_game_43 rfl ?_
    refine gm_getA (j := 3) O hM.1 rfl (by decide) q1731 dX8_game_44 ?_
    refine g_iconst (v := 4) O dX8_game_47 (by decide) ?_
    refine gm_ald (j := 3) (len := 14) (nn := 4) O hM.1 rfl (by decide) (by decide) rfl dX8_game_48 ?_
    refine g_icmp_ge (tgt := 185) O w dX8_game_49 (by decide) (fun w => ?_) (fun w => ?_)
    · refine g_drop [1, 5] (lv' := [some (.ref mb), none, some (.int x2), some (.int x3), some (.int x4), none, none, none, none, none]) rfl ?_
      exact hke_185 (x3) (x4) (sg) w
    · refine g_iconst (v := 0) O dX8_game_52 (by decide) ?_
      refine g_istore O dX8_game_53 (Nat.le_of_ble_eq_true rfl) rfl (lv' := [some (.ref mb), some (.int x1), some (.int x2), some (.int x3), some (.int x4), some (.int x5), some (.int 0), none, none, none]) rfl ?_
      obtain ⟨n19, w⟩ := w
      refine vM_game_55 O hRm hM x1 x2 x5 post hQ _ (fun y16 y17 g18 w => ?_) n19 x3 x4 0 sg w
      refine g_iinc (v := (x5 + 1)) O dX8_game_179 rfl rfl rfl (lv' := [some (.ref mb), some (.int x1), some (.int x2), some (.int y16), some (.int y17), some (.int (x5 + 1)), none, none, none, none]) rfl ?_
      refine g_goto (tgt := 41) O dX8_game_182 (by decide) ?_
      exact ih (y16) (y17) ((x5 + 1)) (g18) w
set_option maxHeartbeats 4000000 in
theorem cM_game (l : Launch) (hfl : l.flags = flags0) (E : w_E) (z : Nat) (T L : Nat → Nat) (V0 : w_V) (P : w_P) (mb : Nat) (hM : mOk E T L P mb) (sg : MS) (x1 : Int32) (x2 : Int32) (post : Int32 → MS → Prop) (w : wM_game sg x1 x2 post) : mMi l yX8_game cX8_game 10 (some .int) rM_game E z T L V0 P mb [.ref mb, .int x1, .int x2] sg post := by
  refine g_start (S := Unit) hfl (by decide +kernel) rfl [some (.ref mb), some (.int x1), some (.int x2), none, none, none, none, none, none, none] rfl (fun _ h => h) (Nat.le_of_ble_eq_true rfl) (fun X hl hRm hEe O hQ => ?_)
  subst hl
  subst hEe
  unfold wM_game at w
  refine g_aload_n O dX8_game_0 rfl ?_
  refine g_iconst (v := 0) O dX8_game_1 (by decide) ?_
  refine gm_putI (j := 2) (ty := .int) O hM.1 rfl (by decide) q1730 rfl rfl rfl rfl dX8_game_2 ?_
  refine g_aload_n O dX8_game_5 rfl ?_
  refine g_iload_n O dX8_game_6 rfl ?_
  refine gm_Vi0 (nA := 1) (As := [.int x1]) (rest := []) O hRm hM.1 (cM_isCase _ O.2.2.2.2.2.2.2.2 _ _ _ _ _ _ _ hM (s2 sg 0 2 0) (x1) _ w) (lw_V q2188 q2190 qs97 q134 q2191) rfl rfl (by decide +kernel) ⟨Nat.le_of_ble_eq_true rfl, Nat.le_of_ble_eq_true rfl⟩ rfl rfl rfl (Nat.le_of_ble_eq_true rfl) dX8_game_7 (fun r1 w => ?_)
  refine g_if_eq (tgt := 22) O w dX8_game_10 (by decide) (fun w => ?_) (fun w => ?_)
  · refine g_drop [1, 2] (lv' := [some (.ref mb), none, none, none, none, none, none, none, none, none]) rfl ?_
    exact vM_game_22 O hRm hM (s2 sg 0 2 0)  post hQ w
  · refine g_iload_n O dX8_game_13 rfl ?_
    refine g_if_lt (tgt := 22) O w dX8_game_14 (by decide) (fun w => ?_) (fun w => ?_)
    · refine g_drop [1, 2] (lv' := [some (.ref mb), none, none, none, none, none, none, none, none, none]) rfl ?_
      exact vM_game_22 O hRm hM (s2 sg 0 2 0)  post hQ w
    · refine g_iload_n O dX8_game_17 rfl ?_
      refine g_iconst (v := 1) O dX8_game_18 (by decide) ?_
      refine g_icmp_le (tgt := 28) O w dX8_game_19 (by decide) (fun w => ?_) (fun w => ?_)
      · refine g_aload_n O dX8_game_28 rfl ?_
        refine gm_Vi (nA := 0) (As := []) (rest := []) O hRm hM.1 (cM_tellNow _ O.2.2.2.2.2.2.2.2 _ _ _ _ _ _ _ hM (s2 sg 0 2 0) _ w) (lw_V q2069 q2071 qs75 q134 q2072) rfl rfl (by decide +kernel) ⟨Nat.le_of_ble_eq_true rfl, Nat.le_of_ble_eq_true rfl⟩ rfl rfl rfl (Nat.le_of_ble_eq_true rfl) dX8_game_29 (fun r5 g6 w => ?_)
        refine g_pop O dX8_game_32 rfl ?_
        refine g_iconst (v := 0) O dX8_game_33 (by decide) ?_
        refine g_istore_n O dX8_game_34 (Nat.le_of_ble_eq_true rfl) rfl (lv' := [some (.ref mb), some (.int x1), some (.int x2), some (.int 0), none, none, none, none, none, none]) rfl ?_
        refine g_iconst (v := (-1)) O dX8_game_35 (by decide) ?_
        refine g_istore O dX8_game_36 (Nat.le_of_ble_eq_true rfl) rfl (lv' := [some (.ref mb), some (.int x1), some (.int x2), some (.int 0), some (.int (-1)), none, none, none, none, none]) rfl ?_
        refine g_iconst (v := 0) O dX8_game_38 (by decide) ?_
        refine g_istore O dX8_game_39 (Nat.le_of_ble_eq_true rfl) rfl (lv' := [some (.ref mb), some (.int x1), some (.int x2), some (.int 0), some (.int (-1)), some (.int 0), none, none, none, none]) rfl ?_
        obtain ⟨n23, w⟩ := w
        refine vM_game_41 O hRm hM x1 x2 post hQ _ (fun y20 y21 g22 w => ?_) n23 0 (-1) 0 g6 w
        refine g_iload_n O dX8_game_185 rfl ?_
        refine g_if_ne (tgt := 193) O w dX8_game_186 (by decide) (fun w => ?_) (fun w => ?_)
        · refine g_iload O dX8_game_193 rfl ?_
          exact gm_iret O hQ rfl w dX8_game_195
        · refine g_iload_n O dX8_game_189 rfl ?_
          refine g_goto (tgt := 195) O dX8_game_190 (by decide) ?_
          exact gm_iret O hQ rfl w dX8_game_195
      · refine g_drop [1, 2] (lv' := [some (.ref mb), none, none, none, none, none, none, none, none, none]) rfl ?_
        exact vM_game_22 O hRm hM (s2 sg 0 2 0)  post hQ w
-- drawOf
abbrev rM_drawOf : Room := { frames := 1, cells := 0, slots := 0, locals := 12 }
set_option maxHeartbeats 4000000 in
theorem cM_drawOf (l : Launch) (hfl : l.flags = flags0) (E : w_E) (z : Nat) (T L : Nat → Nat) (V0 : w_V) (P : w_P) (mb : Nat) (hM : mOk E T L P mb) (sg : MS) (x1 : Int32) (post : Int32 → MS → Prop) (w : wM_drawOf sg x1 post) : mMi l yX8_drawOf cX8_drawOf 2 (some .int) rM_drawOf E z T L V0 P mb [.ref mb, .int x1] sg post := by
  refine g_start (S := Unit) hfl (by decide +kernel) rfl [some (.ref mb), some (.int x1)] rfl (fun _ h => h) (Nat.le_of_ble_eq_true rfl) (fun X hl hRm hEe O hQ => ?_)
  subst hl
  subst hEe
  unfold wM_drawOf at w
  refine g_aload_n O dX8_drawOf_0 rfl ?_
  refine g_aload_n O dX8_drawOf_1 rfl ?_
  refine gm_getI (j := 53) O hM.1 rfl (by decide) q1781 dX8_drawOf_2 ?_
  refine g_ldcw O q2320 dX8_drawOf_5 ?_
  refine g_imul O dX8_drawOf_8 ?_
  refine g_sipush (v := 12345) O dX8_drawOf_9 (by decide) ?_
  refine g_iadd O dX8_drawOf_12 ?_
  refine gm_putI (j := 53) (ty := .int) O hM.1 rfl (by decide) q1781 rfl rfl rfl rfl dX8_drawOf_13 ?_
  refine g_aload_n O dX8_drawOf_16 rfl ?_
  refine gm_getI (j := 53) O hM.1 rfl (by decide) q1781 dX8_drawOf_17 ?_
  refine g_bipush (v := 16) O dX8_drawOf_20 (by decide) ?_
  refine g_ishr O dX8_drawOf_22 ?_
  refine g_sipush (v := 32767) O dX8_drawOf_23 (by decide) ?_
  refine g_iand O dX8_drawOf_26 ?_
  refine g_iload_n O dX8_drawOf_27 rfl ?_
  obtain ⟨hne, w⟩ := w
  refine g_irem O hne dX8_drawOf_28 ?_
  exact gm_iret O hQ rfl w dX8_drawOf_29
-- season
abbrev rM_season : Room := { frames := 8, cells := 0, slots := 0, locals := 177 }
set_option maxHeartbeats 4000000 in
theorem vM_season_77 {X : Cx} {z : Nat} {T L : Nat → Nat} {V0 : w_V} {P : w_P} {mb : Nat} (O : Okc X cX8_season RX8 12 (some .int)) (hRm : cxR X = rM_season) (hM : mOk (cxE X) T L P mb) (x2 : Int32) (x3 : Int32) (x4 : Int32) (x5 : Int32) (x6 : Int32) (x7 : Int32) (x8 : Int32) (post : Int32 → MS → Prop) (hQ : cxMQ X (va_Qi post (fun u t => wdW (cxE X) (mW z T L V0 P mb u) t.heap) (w_A (cxE X))) 0 0) (ke_149 : MS → Prop) (hke_149 : ∀ (sg : MS), ke_149 sg → gW X 0 0 z T L (up1 V0 mb sg) P 149 [some (.ref mb), none, some (.int x2), some (.int x3), some (.int x4), some (.int x5), some (.int x6), some (.int x7), some (.int x8), none, none, none] [])  : ∀ (n : Nat) (x9 : Int32) (sg : MS), lM_season_77 x2 x3 x4 x5 x6 x7 x8 post ke_149 n x9 sg → gW X 0 0 z T L (up1 V0 mb sg) P 77 [some (.ref mb), none, some (.int x2), some (.int x3), some (.int x4), some (.int x5), some (.int x6), some (.int x7), some (.int x8), some (.int x9), none, none] [] := by
  intro n
  induction n with
  | zero =>
    intro x9 sg w
    exact w.elim
  | succ n ih =>
    intro x9 sg w
    unfold lM_season_77 at w
    refine g_iload O dX8_season_77 rfl ?_
    refine g_iconst (v := 2) O dX8_season_79 (by decide) ?_
    refine g_icmp_ge (tgt := 149) O w dX8_season_80 (by decide) (fun w => ?_) (fun w => ?_)
    · refine g_drop [9] (lv' := [some (.ref mb), none, some (.int x2), some (.int x3), some (.int x4), some (.int x5), some (.int x6), some (.int x7), some (.int x8), none, none, none]) rfl ?_
      exact hke_149  (sg) w
    · refine g_aload_n O dX8_season_83 rfl ?_
      refine gm_getA (j := 3) O hM.1 rfl (by decide) q1731 dX8_season_84 ?_
      refine g_iconst (v := 0) O dX8_season_87 (by decide) ?_
      refine gm_ald (j := 3) (len := 14) (nn := 0) O hM.1 rfl (by decide) (by decide) rfl dX8_season_88 ?_
      refine g_if_le (tgt := 149) O w dX8_season_89 (by decide) (fun w => ?_) (fun w => ?_)
      · refine g_drop [9] (lv' := [some (.ref mb), none, some (.int x2), some (.int x3), some (.int x4), some (.int x5), some (.int x6), some (.int x7), some (.int x8), none, none, none]) rfl ?_
        exact hke_149  (sg) w
      · refine g_aload_n O dX8_season_92 rfl ?_
        refine g_aload_n O dX8_season_93 rfl ?_
        refine gm_getA (j := 3) O hM.1 rfl (by decide) q1731 dX8_season_94 ?_
        refine g_iconst (v := 0) O dX8_season_97 (by decide) ?_
        refine gm_ald (j := 3) (len := 14) (nn := 0) O hM.1 rfl (by decide) (by decide) rfl dX8_season_98 ?_
        refine gm_Vi (nA := 1) (As := [.int (sg 4 0)]) (rest := []) O hRm hM.1 (cM_drawOf _ O.2.2.2.2.2.2.2.2 _ _ _ _ _ _ _ hM sg ((sg 4 0)) _ w) (lw_V q2316 q2318 qs104 q134 q2319) rfl rfl (by decide +kernel) ⟨Nat.le_of_ble_eq_true rfl, Nat.le_of_ble_eq_true rfl⟩ rfl rfl rfl (Nat.le_of_ble_eq_true rfl) dX8_season_99 (fun r7 g8 w => ?_)
        refine g_istore O dX8_season_102 (Nat.le_of_ble_eq_true rfl) rfl (lv' := [some (.ref mb), none, some (.int x2), some (.int x3), some (.int x4), some (.int x5), some (.int x6), some (.int x7), some (.int x8), some (.int x9), some (.int r7), none]) rfl ?_
        refine g_aload_n O dX8_season_104 rfl ?_
        refine g_bipush (v := 30) O dX8_season_105 (by decide) ?_
        refine gm_Vi (nA := 1) (As := [.int 30]) (rest := []) O hRm hM.1 (cM_drawOf _ O.2.2.2.2.2.2.2.2 _ _ _ _ _ _ _ hM g8 (30) _ w) (lw_V q2316 q2318 qs104 q134 q2319) rfl rfl (by decide +kernel) ⟨Nat.le_of_ble_eq_true rfl, Nat.le_of_ble_eq_true rfl⟩ rfl rfl rfl (Nat.le_of_ble_eq_true rfl) dX8_season_107 (fun r9 g10 w => ?_)
        refine g_istore O dX8_season_110 (Nat.le_of_ble_eq_true rfl) rfl (lv' := [some (.ref mb), none, some (.int x2), some (.int x3), some (.int x4), some (.int x5), some (.int x6), some (.int x7), some (.int x8), some (.int x9), some (.int r7), some (.int r9)]) rfl ?_
        refine g_aload_n O dX8_season_112 rfl ?_
        refine gm_getA (j := 27) O hM.1 rfl (by decide) q1755 dX8_season_113 ?_
        refine g_aload_n O dX8_season_116 rfl ?_
        refine gm_getI (j := 32) O hM.1 rfl (by decide) q1760 dX8_season_117 ?_
        refine g_iload O dX8_season_120 rfl ?_
        refine g_iload O dX8_season_122 rfl ?_
        refine g_aload_n O dX8_season_124 rfl ?_
        refine g_bipush (v := 6) O dX8_season_125 (by decide) ?_
        refine gm_Vi (nA := 1) (As := [.int 6]) (rest := [.int r9, .int r7, .int (g10 0 32), .ref (mb + 17)]) O hRm hM.1 (cM_drawOf _ O.2.2.2.2.2.2.2.2 _ _ _ _ _ _ _ hM g10 (6) _ w) (lw_V q2316 q2318 qs104 q134 q2319) rfl rfl (by decide +kernel) ⟨Nat.le_of_ble_eq_true rfl, Nat.le_of_ble_eq_true rfl⟩ rfl rfl rfl (Nat.le_of_ble_eq_true rfl) dX8_season_127 (fun r11 g12 w => ?_)
        refine gm_Sv (nA := 5) (As := [.ref (mb + 17), .int (g10 0 32), .int r7, .int r9, .int r11]) (rest := []) O hRm (cM_putRow _ O.2.2.2.2.2.2.2.2 _ _ _ _ _ _ _ hM g12 27 17 18 ⟨rfl, by decide⟩ ((g10 0 32)) (r7) (r9) (r11) _ w) (lw_S q2235 q2236 q134 q2237) rfl rfl (by decide +kernel) ⟨Nat.le_of_ble_eq_true rfl, Nat.le_of_ble_eq_true rfl⟩ rfl rfl rfl (Nat.le_of_ble_eq_true rfl) dX8_season_130 (fun g14 w => ?_)
        refine g_aload_n O dX8_season_133 rfl ?_
        refine g_dup O dX8_season_134 rfl ?_
        refine gm_getI (j := 32) O hM.1 rfl (by decide) q1760 dX8_season_135 ?_
        refine g_iconst (v := 1) O dX8_season_138 (by decide) ?_
        refine g_iadd O dX8_season_139 ?_
        refine gm_putI (j := 32) (ty := .int) O hM.1 rfl (by decide) q1760 rfl rfl rfl rfl dX8_season_140 ?_
        refine g_iinc (v := (x9 + 1)) O dX8_season_143 rfl rfl rfl (lv' := [some (.ref mb), none, some (.int x2), some (.int x3), some (.int x4), some (.int x5), some (.int x6), some (.int x7), some (.int x8), some (.int (x9 + 1)), some (.int r7), some (.int r9)]) rfl ?_
        refine g_goto (tgt := 77) O dX8_season_146 (by decide) ?_
        refine g_drop [10, 11] (lv' := [some (.ref mb), none, some (.int x2), some (.int x3), some (.int x4), some (.int x5), some (.int x6), some (.int x7), some (.int x8), some (.int (x9 + 1)), none, none]) rfl ?_
        exact ih ((x9 + 1)) ((s2 g14 0 32 ((g14 0 32) + 1))) w
set_option maxHeartbeats 4000000 in
theorem vM_season_205 {X : Cx} {z : Nat} {T L : Nat → Nat} {V0 : w_V} {P : w_P} {mb : Nat} (O : Okc X cX8_season RX8 12 (some .int)) (hRm : cxR X = rM_season) (hM : mOk (cxE X) T L P mb) (sg : MS) (x2 : Int32) (x3 : Int32) (x4 : Int32) (x5 : Int32) (x7 : Int32) (x8 : Int32) (t0 : Int32) (t1 : Int32) (post : Int32 → MS → Prop) (hQ : cxMQ X (va_Qi post (fun u t => wdW (cxE X) (mW z T L V0 P mb u) t.heap) (w_A (cxE X))) 0 0) (kb : Int32 → Int32 → Int32 → Int32 → MS → Prop) (hkb : ∀ (y4 : Int32) (y5 : Int32) (y6 : Int32) (y8 : Int32) (sg : MS), kb y4 y5 y6 y8 sg → gW X 0 0 z T L (up1 V0 mb sg) P 68 [some (.ref mb), none, some (.int x2), some (.int x3), some (.int y4), some (.int y5), some (.int y6), some (.int x7), some (.int y8), none, none, none] []) (w : jM_season_205 sg x2 x3 x4 x5 x7 x8 t0 t1 post kb) : gW X 0 0 z T L (up1 V0 mb sg) P 205 [some (.ref mb), none, some (.int x2), some (.int x3), some (.int x4), some (.int x5), none, some (.int x7), some (.int x8), none, none, none] [.int t0, .int t1] := by
  unfold jM_season_205 at w
  refine g_iadd O dX8_season_205 ?_
  refine g_istore O dX8_season_206 (Nat.le_of_ble_eq_true rfl) rfl (lv' := [some (.ref mb), none, some (.int x2), some (.int x3), some (.int x4), some (.int x5), some (.int (t1 + t0)), some (.int x7), some (.int x8), none, none, none]) rfl ?_
  refine g_iinc (v := (x8 + 1)) O dX8_season_208 rfl rfl rfl (lv' := [some (.ref mb), none, some (.int x2), some (.int x3), some (.int x4), some (.int x5), some (.int (t1 + t0)), some (.int x7), some (.int (x8 + 1)), none, none, none]) rfl ?_
  refine g_goto (tgt := 68) O dX8_season_211 (by decide) ?_
  exact hkb (x4) (x5) ((t1 + t0)) ((x8 + 1)) (sg) w
set_option maxHeartbeats 4000000 in
theorem vM_season_185 {X : Cx} {z : Nat} {T L : Nat → Nat} {V0 : w_V} {P : w_P} {mb : Nat} (O : Okc X cX8_season RX8 12 (some .int)) (hRm : cxR X = rM_season) (hM : mOk (cxE X) T L P mb) (sg : MS) (x2 : Int32) (x3 : Int32) (x4 : Int32) (x6 : Int32) (x7 : Int32) (x8 : Int32) (x9 : Int32) (t0 : Int32) (post : Int32 → MS → Prop) (hQ : cxMQ X (va_Qi post (fun u t => wdW (cxE X) (mW z T L V0 P mb u) t.heap) (w_A (cxE X))) 0 0) (kb : Int32 → Int32 → Int32 → Int32 → MS → Prop) (hkb : ∀ (y4 : Int32) (y5 : Int32) (y6 : Int32) (y8 : Int32) (sg : MS), kb y4 y5 y6 y8 sg → gW X 0 0 z T L (up1 V0 mb sg) P 68 [some (.ref mb), none, some (.int x2), some (.int x3), some (.int y4), some (.int y5), some (.int y6), some (.int x7), some (.int y8), none, none, none] []) (w : jM_season_185 sg x2 x3 x4 x6 x7 x8 x9 t0 post kb) : gW X 0 0 z T L (up1 V0 mb sg) P 185 [some (.ref mb), none, some (.int x2), some (.int x3), some (.int x4), none, some (.int x6), some (.int x7), some (.int x8), some (.int x9), none, none] [.int t0] := by
  unfold jM_season_185 at w
  refine g_istore O dX8_season_185 (Nat.le_of_ble_eq_true rfl) rfl (lv' := [some (.ref mb), none, some (.int x2), some (.int x3), some (.int x4), some (.int t0), some (.int x6), some (.int x7), some (.int x8), some (.int x9), none, none]) rfl ?_
  refine g_iload O dX8_season_187 rfl ?_
  refine g_iload O dX8_season_189 rfl ?_
  refine g_aload_n O dX8_season_191 rfl ?_
  refine gm_getA (j := 3) O hM.1 rfl (by decide) q1731 dX8_season_192 ?_
  refine g_iconst (v := 5) O dX8_season_195 (by decide) ?_
  refine gm_ald (j := 3) (len := 14) (nn := 5) O hM.1 rfl (by decide) (by decide) rfl dX8_season_196 ?_
  refine g_icmp_ne (tgt := 204) O w dX8_season_197 (by decide) (fun w => ?_) (fun w => ?_)
  · refine g_iconst (v := 0) O dX8_season_204 (by decide) ?_
    refine g_drop [6, 9] (lv' := [some (.ref mb), none, some (.int x2), some (.int x3), some (.int x4), some (.int t0), none, some (.int x7), some (.int x8), none, none, none]) rfl ?_
    exact vM_season_205 O hRm hM sg  x2 x3 x4 t0 x7 x8 0 x6 post hQ kb hkb w
  · refine g_iconst (v := 1) O dX8_season_200 (by decide) ?_
    refine g_goto (tgt := 205) O dX8_season_201 (by decide) ?_
    refine g_drop [6, 9] (lv' := [some (.ref mb), none, some (.int x2), some (.int x3), some (.int x4), some (.int t0), none, some (.int x7), some (.int x8), none, none, none]) rfl ?_
    exact vM_season_205 O hRm hM sg  x2 x3 x4 t0 x7 x8 1 x6 post hQ kb hkb w
set_option maxHeartbeats 4000000 in
theorem vM_season_149 {X : Cx} {z : Nat} {T L : Nat → Nat} {V0 : w_V} {P : w_P} {mb : Nat} (O : Okc X cX8_season RX8 12 (some .int)) (hRm : cxR X = rM_season) (hM : mOk (cxE X) T L P mb) (sg : MS) (x2 : Int32) (x3 : Int32) (x4 : Int32) (x5 : Int32) (x6 : Int32) (x7 : Int32) (x8 : Int32) (post : Int32 → MS → Prop) (hQ : cxMQ X (va_Qi post (fun u t => wdW (cxE X) (mW z T L V0 P mb u) t.heap) (w_A (cxE X))) 0 0) (kb : Int32 → Int32 → Int32 → Int32 → MS → Prop) (hkb : ∀ (y4 : Int32) (y5 : Int32) (y6 : Int32) (y8 : Int32) (sg : MS), kb y4 y5 y6 y8 sg → gW X 0 0 z T L (up1 V0 mb sg) P 68 [some (.ref mb), none, some (.int x2), some (.int x3), some (.int y4), some (.int y5), some (.int y6), some (.int x7), some (.int y8), none, none, none] []) (w : jM_season_149 sg x2 x3 x4 x5 x6 x7 x8 post kb) : gW X 0 0 z T L (up1 V0 mb sg) P 149 [some (.ref mb), none, some (.int x2), some (.int x3), some (.int x4), some (.int x5), some (.int x6), some (.int x7), some (.int x8), none, none, none] [] := by
  unfold jM_season_149 at w
  refine g_aload_n O dX8_season_149 rfl ?_
  refine gm_Vi (nA := 0) (As := []) (rest := []) O hRm hM.1 (cM_tell _ O.2.2.2.2.2.2.2.2 _ _ _ _ _ _ _ hM sg _ w) (lw_V q2077 q2079 qs77 q134 q2080) rfl rfl (by decide +kernel) ⟨Nat.le_of_ble_eq_true rfl, Nat.le_of_ble_eq_true rfl⟩ rfl rfl rfl (Nat.le_of_ble_eq_true rfl) dX8_season_150 (fun r16 g17 w => ?_)
  refine g_istore O dX8_season_153 (Nat.le_of_ble_eq_true rfl) rfl (lv' := [some (.ref mb), none, some (.int x2), some (.int x3), some (.int x4), some (.int x5), some (.int x6), some (.int x7), some (.int x8), some (.int r16), none, none]) rfl ?_
  refine g_aload_n O dX8_season_155 rfl ?_
  refine g_iload O dX8_season_156 rfl ?_
  refine gm_putI (j := 32) (ty := .int) O hM.1 rfl (by decide) q1760 rfl rfl rfl rfl dX8_season_158 ?_
  refine g_iload O dX8_season_161 rfl ?_
  refine g_iload O dX8_season_163 rfl ?_
  refine g_iadd O dX8_season_165 ?_
  refine g_istore O dX8_season_166 (Nat.le_of_ble_eq_true rfl) rfl (lv' := [some (.ref mb), none, some (.int x2), some (.int x3), some (.int (x4 + r16)), some (.int x5), some (.int x6), some (.int x7), some (.int x8), some (.int r16), none, none]) rfl ?_
  refine g_iload O dX8_season_168 rfl ?_
  refine g_if_ne (tgt := 178) O w dX8_season_170 (by decide) (fun w => ?_) (fun w => ?_)
  · refine g_iload O dX8_season_178 rfl ?_
    refine g_iload O dX8_season_180 rfl ?_
    refine g_mmin O q1949 hRm (Nat.le_of_ble_eq_true rfl) (Nat.le_of_ble_eq_true rfl) ⟨Nat.le_of_ble_eq_true rfl, Nat.le_of_ble_eq_true rfl⟩ rfl dX8_season_182 ?_
    refine g_drop [5] (lv' := [some (.ref mb), none, some (.int x2), some (.int x3), some (.int (x4 + r16)), none, some (.int x6), some (.int x7), some (.int x8), some (.int r16), none, none]) rfl ?_
    exact vM_season_185 O hRm hM (s2 g17 0 32 x7)  x2 x3 (x4 + r16) x6 x7 x8 r16 (if r16 < x5 then r16 else x5) post hQ kb hkb w
  · refine g_iload O dX8_season_173 rfl ?_
    refine g_goto (tgt := 185) O dX8_season_175 (by decide) ?_
    refine g_drop [5] (lv' := [some (.ref mb), none, some (.int x2), some (.int x3), some (.int (x4 + r16)), none, some (.int x6), some (.int x7), some (.int x8), some (.int r16), none, none]) rfl ?_
    exact vM_season_185 O hRm hM (s2 g17 0 32 x7)  x2 x3 (x4 + r16) x6 x7 x8 r16 r16 post hQ kb hkb w
set_option maxHeartbeats 4000000 in
theorem vM_season_68 {X : Cx} {z : Nat} {T L : Nat → Nat} {V0 : w_V} {P : w_P} {mb : Nat} (O : Okc X cX8_season RX8 12 (some .int)) (hRm : cxR X = rM_season) (hM : mOk (cxE X) T L P mb) (x2 : Int32) (x3 : Int32) (x7 : Int32) (post : Int32 → MS → Prop) (hQ : cxMQ X (va_Qi post (fun u t => wdW (cxE X) (mW z T L V0 P mb u) t.heap) (w_A (cxE X))) 0 0) (ke_214 : Int32 → Int32 → Int32 → MS → Prop) (hke_214 : ∀ (y4 : Int32) (y5 : Int32) (y6 : Int32) (sg : MS), ke_214 y4 y5 y6 sg → gW X 0 0 z T L (up1 V0 mb sg) P 214 [some (.ref mb), none, none, some (.int x3), some (.int y4), some (.int y5), some (.int y6), none, none, none, none, none] [])  : ∀ (n : Nat) (x4 : Int32) (x5 : Int32) (x6 : Int32) (x8 : Int32) (sg : MS), lM_season_68 x2 x3 x7 post ke_214 n x4 x5 x6 x8 sg → gW X 0 0 z T L (up1 V0 mb sg) P 68 [some (.ref mb), none, some (.int x2), some (.int x3), some (.int x4), some (.int x5), some (.int x6), some (.int x7), some (.int x8), none, none, none] [] := by
  intro n
  induction n with
  | zero =>
    intro x4 x5 x6 x8 sg w
    exact w.elim
  | succ n ih =>
    intro x4 x5 x6 x8 sg w
    unfold lM_season_68 at w
    refine g_iload O dX8_season_68 rfl ?_
    refine g_iload_n O dX8_season_70 rfl ?_
    refine g_icmp_ge (tgt := 214) O w dX8_season_71 (by decide) (fun w => ?_) (fun w => ?_)
    · refine g_drop [2, 7, 8] (lv' := [some (.ref mb), none, none, some (.int x3), some (.int x4), some (.int x5), some (.int x6), none, none, none, none, none]) rfl ?_
      exact hke_214 (x4) (x5) (x6) (sg) w
    · refine g_iconst (v := 0) O dX8_season_74 (by decide) ?_
      refine g_istore O dX8_season_75 (Nat.le_of_ble_eq_true rfl) rfl (lv' := [some (.ref mb), none, some (.int x2), some (.int x3), some (.int x4), some (.int x5), some (.int x6), some (.int x7), some (.int x8), some (.int 0), none, none]) rfl ?_
      obtain ⟨n18, w⟩ := w
      refine vM_season_77 O hRm hM x2 x3 x4 x5 x6 x7 x8 post hQ _ (fun g15 w => ?_) n18 0 sg w
      exact vM_season_149 O hRm hM g15  x2 x3 x4 x5 x6 x7 x8 post hQ (lM_season_68 x2 x3 x7 post ke_214 n) ih w
set_option maxHeartbeats 4000000 in
theorem cM_season (l : Launch) (hfl : l.flags = flags0) (E : w_E) (z : Nat) (T L : Nat → Nat) (V0 : w_V) (P : w_P) (mb : Nat) (hM : mOk E T L P mb) (sg : MS) (x1 : Int32) (x2 : Int32) (x3 : Int32) (post : Int32 → MS → Prop) (w : wM_season sg x1 x2 x3 post) : mMi l yX8_season cX8_season 12 (some .int) rM_season E z T L V0 P mb [.ref mb, .int x1, .int x2, .int x3] sg post := by
  refine g_start (S := Unit) hfl (by decide +kernel) rfl [some (.ref mb), some (.int x1), some (.int x2), some (.int x3), none, none, none, none, none, none, none, none] rfl (fun _ h => h) (Nat.le_of_ble_eq_true rfl) (fun X hl hRm hEe O hQ => ?_)
  subst hl
  subst hEe
  unfold wM_season at w
  refine g_aload_n O dX8_season_0 rfl ?_
  refine g_iconst (v := 0) O dX8_season_1 (by decide) ?_
  refine gm_putI (j := 2) (ty := .int) O hM.1 rfl (by decide) q1730 rfl rfl rfl rfl dX8_season_2 ?_
  refine g_iload_n O dX8_season_5 rfl ?_
  refine g_i2l O dX8_season_6 ?_
  refine g_lconst (v := 0) O dX8_season_7 (by decide) ?_
  refine g_ldc2 O q2298 dX8_season_8 ?_
  refine gm_Si0 (nA := 3) (As := [.long x3.toInt64, .long 0, .long 2]) (rest := []) O hRm (cM_isIn _ O.2.2.2.2.2.2.2.2 _ _ _ _ _ _ _ hM (s2 sg 0 2 0) (x3.toInt64) (0) (2) _ w) (lw_S q2161 q2162 q134 q2163) rfl rfl (by decide +kernel) ⟨Nat.le_of_ble_eq_true rfl, Nat.le_of_ble_eq_true rfl⟩ rfl rfl rfl (Nat.le_of_ble_eq_true rfl) dX8_season_11 (fun r1 w => ?_)
  refine g_if_ne (tgt := 23) O w dX8_season_14 (by decide) (fun w => ?_) (fun w => ?_)
  · refine g_iload_n O dX8_season_23 rfl ?_
    refine g_i2l O dX8_season_24 ?_
    refine g_lconst (v := 0) O dX8_season_25 (by decide) ?_
    refine g_ldc2 O q2315 dX8_season_26 ?_
    refine gm_Si0 (nA := 3) (As := [.long x2.toInt64, .long 0, .long 40]) (rest := []) O hRm (cM_isIn _ O.2.2.2.2.2.2.2.2 _ _ _ _ _ _ _ hM (s2 sg 0 2 0) (x2.toInt64) (0) (40) _ w) (lw_S q2161 q2162 q134 q2163) rfl rfl (by decide +kernel) ⟨Nat.le_of_ble_eq_true rfl, Nat.le_of_ble_eq_true rfl⟩ rfl rfl rfl (Nat.le_of_ble_eq_true rfl) dX8_season_29 (fun r3 w => ?_)
    refine g_if_ne (tgt := 41) O w dX8_season_32 (by decide) (fun w => ?_) (fun w => ?_)
    · refine g_aload_n O dX8_season_41 rfl ?_
      refine gm_Vv (nA := 0) (As := []) (rest := []) O hRm hM.1 (cM_set _ O.2.2.2.2.2.2.2.2 _ _ _ _ _ _ _ hM (s2 sg 0 2 0) _ w) (lw_V q2073 q2075 qs76 q134 q2076) rfl rfl (by decide +kernel) ⟨Nat.le_of_ble_eq_true rfl, Nat.le_of_ble_eq_true rfl⟩ rfl rfl rfl (Nat.le_of_ble_eq_true rfl) dX8_season_42 (fun g6 w => ?_)
      refine g_aload_n O dX8_season_45 rfl ?_
      refine g_iload_n O dX8_season_46 rfl ?_
      refine gm_putI (j := 53) (ty := .int) O hM.1 rfl (by decide) q1781 rfl rfl rfl rfl dX8_season_47 ?_
      refine g_iconst (v := 0) O dX8_season_50 (by decide) ?_
      refine g_istore O dX8_season_51 (Nat.le_of_ble_eq_true rfl) rfl (lv' := [some (.ref mb), some (.int x1), some (.int x2), some (.int x3), some (.int 0), none, none, none, none, none, none, none]) rfl ?_
      refine g_iconst (v := 0) O dX8_season_53 (by decide) ?_
      refine g_istore O dX8_season_54 (Nat.le_of_ble_eq_true rfl) rfl (lv' := [some (.ref mb), some (.int x1), some (.int x2), some (.int x3), some (.int 0), some (.int 0), none, none, none, none, none, none]) rfl ?_
      refine g_iconst (v := 0) O dX8_season_56 (by decide) ?_
      refine g_istore O dX8_season_57 (Nat.le_of_ble_eq_true rfl) rfl (lv' := [some (.ref mb), some (.int x1), some (.int x2), some (.int x3), some (.int 0), some (.int 0), some (.int 0), none, none, none, none, none]) rfl ?_
      refine g_aload_n O dX8_season_59 rfl ?_
      refine gm_getI (j := 32) O hM.1 rfl (by decide) q1760 dX8_season_60 ?_
      refine g_istore O dX8_season_63 (Nat.le_of_ble_eq_true rfl) rfl (lv' := [some (.ref mb), some (.int x1), some (.int x2), some (.int x3), some (.int 0), some (.int 0), some (.int 0), some (.int ((s2 g6 0 53 x1) 0 32)), none, none, none, none]) rfl ?_
      refine g_iconst (v := 0) O dX8_season_65 (by decide) ?_
      refine g_istore O dX8_season_66 (Nat.le_of_ble_eq_true rfl) rfl (lv' := [some (.ref mb), some (.int x1), some (.int x2), some (.int x3), some (.int 0), some (.int 0), some (.int 0), some (.int ((s2 g6 0 53 x1) 0 32)), some (.int 0), none, none, none]) rfl ?_
      obtain ⟨n23, w⟩ := w
      refine g_drop [1] (lv' := [some (.ref mb), none, some (.int x2), some (.int x3), some (.int 0), some (.int 0), some (.int 0), some (.int ((s2 g6 0 53 x1) 0 32)), some (.int 0), none, none, none]) rfl ?_
      refine vM_season_68 O hRm hM x2 x3 ((s2 g6 0 53 x1) 0 32) post hQ _ (fun y19 y20 y21 g22 w => ?_) n23 0 0 0 0 (s2 g6 0 53 x1) w
      refine g_iload_n O dX8_season_214 rfl ?_
      refine g_if_ne (tgt := 223) O w dX8_season_215 (by decide) (fun w => ?_) (fun w => ?_)
      · refine g_iload_n O dX8_season_223 rfl ?_
        refine g_iconst (v := 1) O dX8_season_224 (by decide) ?_
        refine g_icmp_ne (tgt := 233) O w dX8_season_225 (by decide) (fun w => ?_) (fun w => ?_)
        · refine g_iload O dX8_season_233 rfl ?_
          exact gm_iret O hQ rfl w dX8_season_235
        · refine g_iload O dX8_season_228 rfl ?_
          refine g_goto (tgt := 235) O dX8_season_230 (by decide) ?_
          exact gm_iret O hQ rfl w dX8_season_235
      · refine g_iload O dX8_season_218 rfl ?_
        refine g_goto (tgt := 235) O dX8_season_220 (by decide) ?_
        exact gm_iret O hQ rfl w dX8_season_235
    · refine g_aload_n O dX8_season_35 rfl ?_
      refine g_iconst (v := 2) O dX8_season_36 (by decide) ?_
      refine gm_Vi (nA := 1) (As := [.int 2]) (rest := []) O hRm hM.1 (cM_fail _ O.2.2.2.2.2.2.2.2 _ _ _ _ _ _ _ hM (s2 sg 0 2 0) (2) _ w) (lw_V q1930 q1932 qs49 q134 q1933) rfl rfl (by decide +kernel) ⟨Nat.le_of_ble_eq_true rfl, Nat.le_of_ble_eq_true rfl⟩ rfl rfl rfl (Nat.le_of_ble_eq_true rfl) dX8_season_37 (fun r24 g25 w => ?_)
      exact gm_iret O hQ rfl w dX8_season_40
  · refine g_aload_n O dX8_season_17 rfl ?_
    refine g_iconst (v := 1) O dX8_season_18 (by decide) ?_
    refine gm_Vi (nA := 1) (As := [.int 1]) (rest := []) O hRm hM.1 (cM_fail _ O.2.2.2.2.2.2.2.2 _ _ _ _ _ _ _ hM (s2 sg 0 2 0) (1) _ w) (lw_V q1930 q1932 qs49 q134 q1933) rfl rfl (by decide +kernel) ⟨Nat.le_of_ble_eq_true rfl, Nat.le_of_ble_eq_true rfl⟩ rfl rfl rfl (Nat.le_of_ble_eq_true rfl) dX8_season_19 (fun r26 g27 w => ?_)
    exact gm_iret O hQ rfl w dX8_season_22
-- be
abbrev rM_be : Room := { frames := 1, cells := 0, slots := 0, locals := 12 }
set_option maxHeartbeats 4000000 in
theorem vM_be_2 {X : Cx} {z : Nat} {T L : Nat → Nat} {V0 : w_V} {P : w_P} {mb : Nat} (O : Okc X cX8_be RX8 3 none) (hRm : cxR X = rM_be) (hM : mOk (cxE X) T L P mb) (a0 o0 n0 : Nat) (h0 : aOk a0 o0 n0) (a1 o1 n1 : Nat) (h1 : aOk a1 o1 n1) (post : MS → Prop) (hQ : cxMQ X (va_Qv post (fun u t => wdW (cxE X) (mW z T L V0 P mb u) t.heap) (w_A (cxE X))) 0 0)  : ∀ (n : Nat) (x2 : Int32) (sg : MS), lM_be_2 a0 n0 a1 n1 post n x2 sg → gW X 0 0 z T L (up1 V0 mb sg) P 2 [some (.ref (mb + o0)), some (.ref (mb + o1)), some (.int x2)] [] := by
  intro n
  induction n with
  | zero =>
    intro x2 sg w
    exact w.elim
  | succ n ih =>
    intro x2 sg w
    unfold lM_be_2 at w
    refine g_iload_n O dX8_be_2 rfl ?_
    refine g_aload_n O dX8_be_3 rfl ?_
    refine gm_alen (j := a0) (len := n0) O hM.1 h0.1 dX8_be_4 ?_
    refine g_icmp_ge (tgt := 20) O w dX8_be_5 (by decide) (fun w => ?_) (fun w => ?_)
    · exact gm_vret O hQ w dX8_be_20
    · refine g_aload_n O dX8_be_8 rfl ?_
      refine g_iload_n O dX8_be_9 rfl ?_
      refine g_aload_n O dX8_be_10 rfl ?_
      refine g_iload_n O dX8_be_11 rfl ?_
      obtain ⟨i1, hi2, e3, w⟩ := w
      refine gm_ald (j := a1) (len := n1) (nn := i1) O hM.1 h1.1 hi2 h1.2 e3 dX8_be_12 ?_
      obtain ⟨i4, hi5, e6, w⟩ := w
      refine gm_ast (j := a0) (len := n0) (nn := i4) O hM.1 h0.1 hi5 h0.2 e6 dX8_be_13 ?_
      refine g_iinc (v := (x2 + 1)) O dX8_be_14 rfl rfl rfl (lv' := [some (.ref (mb + o0)), some (.ref (mb + o1)), some (.int (x2 + 1))]) rfl ?_
      refine g_goto (tgt := 2) O dX8_be_17 (by decide) ?_
      exact ih ((x2 + 1)) ((s2 sg (a0 + 1) i4 (sg (a1 + 1) i1))) w
set_option maxHeartbeats 4000000 in
theorem cM_be (l : Launch) (hfl : l.flags = flags0) (E : w_E) (z : Nat) (T L : Nat → Nat) (V0 : w_V) (P : w_P) (mb : Nat) (hM : mOk E T L P mb) (sg : MS) (a0 o0 n0 : Nat) (h0 : aOk a0 o0 n0) (a1 o1 n1 : Nat) (h1 : aOk a1 o1 n1) (post : MS → Prop) (w : wM_be sg a0 n0 a1 n1 post) : mMv l yX8_be cX8_be 3 none rM_be E z T L V0 P mb [.ref (mb + o0), .ref (mb + o1)] sg post := by
  refine g_start (S := Unit) hfl (by decide +kernel) rfl [some (.ref (mb + o0)), some (.ref (mb + o1)), none] rfl (fun _ h => h) (Nat.le_of_ble_eq_true rfl) (fun X hl hRm hEe O hQ => ?_)
  subst hl
  subst hEe
  unfold wM_be at w
  refine g_iconst (v := 0) O dX8_be_0 (by decide) ?_
  refine g_istore_n O dX8_be_1 (Nat.le_of_ble_eq_true rfl) rfl (lv' := [some (.ref (mb + o0)), some (.ref (mb + o1)), some (.int 0)]) rfl ?_
  obtain ⟨n7, w⟩ := w
  exact vM_be_2 O hRm hM a0 o0 n0 h0 a1 o1 n1 h1 post hQ n7 0 sg w
-- image
abbrev rM_image : Room := { frames := 2, cells := 0, slots := 0, locals := 36 }
set_option maxHeartbeats 4000000 in
theorem cM_image (l : Launch) (hfl : l.flags = flags0) (E : w_E) (z : Nat) (T L : Nat → Nat) (V0 : w_V) (P : w_P) (mb : Nat) (hM : mOk E T L P mb) (sg : MS) (post : MS → Prop) (w : wM_image sg post) : mMv l yX8_image cX8_image 1 none rM_image E z T L V0 P mb [.ref mb] sg post := by
  refine g_start (S := Unit) hfl (by decide +kernel) rfl [some (.ref mb)] rfl (fun _ h => h) (Nat.le_of_ble_eq_true rfl) (fun X hl hRm hEe O hQ => ?_)
  subst hl
  subst hEe
  unfold wM_image at w
  refine g_aload_n O dX8_image_0 rfl ?_
  refine g_iconst (v := 0) O dX8_image_1 (by decide) ?_
  refine gm_putI (j := 2) (ty := .int) O hM.1 rfl (by decide) q1730 rfl rfl rfl rfl dX8_image_2 ?_
  refine g_aload_n O dX8_image_5 rfl ?_
  refine g_iconst (v := 1) O dX8_image_6 (by decide) ?_
  refine gm_putI (j := 54) (ty := .boolean) O hM.1 rfl (by decide) q1782 rfl rfl rfl rfl dX8_image_7 ?_
  refine g_aload_n O dX8_image_10 rfl ?_
  refine g_aload_n O dX8_image_11 rfl ?_
  refine gm_getI (j := 33) O hM.1 rfl (by decide) q1761 dX8_image_12 ?_
  refine gm_putI (j := 55) (ty := .int) O hM.1 rfl (by decide) q1783 rfl rfl rfl rfl dX8_image_15 ?_
  refine g_aload_n O dX8_image_18 rfl ?_
  refine g_aload_n O dX8_image_19 rfl ?_
  refine gm_getI (j := 34) O hM.1 rfl (by decide) q1762 dX8_image_20 ?_
  refine gm_putI (j := 56) (ty := .int) O hM.1 rfl (by decide) q1784 rfl rfl rfl rfl dX8_image_23 ?_
  refine g_aload_n O dX8_image_26 rfl ?_
  refine g_aload_n O dX8_image_27 rfl ?_
  refine gm_getA (j := 57) O hM.1 rfl (by decide) q1785 dX8_image_28 ?_
  refine g_iconst (v := 0) O dX8_image_31 (by decide) ?_
  refine gm_Vv (nA := 2) (As := [.ref (mb + 33), .int 0]) (rest := []) O hRm hM.1 (cM_pack _ O.2.2.2.2.2.2.2.2 _ _ _ _ _ _ _ hM (s2 (s2 (s2 (s2 sg 0 2 0) 0 54 1) 0 55 ((s2 (s2 sg 0 2 0) 0 54 1) 0 33)) 0 56 ((s2 (s2 (s2 sg 0 2 0) 0 54 1) 0 55 ((s2 (s2 sg 0 2 0) 0 54 1) 0 33)) 0 34)) 57 33 45 ⟨rfl, by decide⟩ (0) _ w) (lw_V q2222 q2224 qs100 q134 q2225) rfl rfl (by decide +kernel) ⟨Nat.le_of_ble_eq_true rfl, Nat.le_of_ble_eq_true rfl⟩ rfl rfl rfl (Nat.le_of_ble_eq_true rfl) dX8_image_32 (fun g2 w => ?_)
  refine g_aload_n O dX8_image_35 rfl ?_
  refine gm_getA (j := 58) O hM.1 rfl (by decide) q1786 dX8_image_36 ?_
  refine g_aload_n O dX8_image_39 rfl ?_
  refine gm_getA (j := 28) O hM.1 rfl (by decide) q1756 dX8_image_40 ?_
  refine gm_Sv (nA := 2) (As := [.ref (mb + 34), .ref (mb + 18)]) (rest := []) O hRm (cM_be _ O.2.2.2.2.2.2.2.2 _ _ _ _ _ _ _ hM g2 58 34 1800 ⟨rfl, by decide⟩ 28 18 1800 ⟨rfl, by decide⟩ _ w) (lw_S q2325 q2326 q134 q2327) rfl rfl (by decide +kernel) ⟨Nat.le_of_ble_eq_true rfl, Nat.le_of_ble_eq_true rfl⟩ rfl rfl rfl (Nat.le_of_ble_eq_true rfl) dX8_image_43 (fun g4 w => ?_)
  refine g_aload_n O dX8_image_46 rfl ?_
  refine gm_getA (j := 59) O hM.1 rfl (by decide) q1787 dX8_image_47 ?_
  refine g_aload_n O dX8_image_50 rfl ?_
  refine gm_getA (j := 50) O hM.1 rfl (by decide) q1778 dX8_image_51 ?_
  refine gm_Sv (nA := 2) (As := [.ref (mb + 35), .ref (mb + 30)]) (rest := []) O hRm (cM_be _ O.2.2.2.2.2.2.2.2 _ _ _ _ _ _ _ hM g4 59 35 8 ⟨rfl, by decide⟩ 50 30 8 ⟨rfl, by decide⟩ _ w) (lw_S q2325 q2326 q134 q2327) rfl rfl (by decide +kernel) ⟨Nat.le_of_ble_eq_true rfl, Nat.le_of_ble_eq_true rfl⟩ rfl rfl rfl (Nat.le_of_ble_eq_true rfl) dX8_image_54 (fun g6 w => ?_)
  refine g_aload_n O dX8_image_57 rfl ?_
  refine gm_getA (j := 60) O hM.1 rfl (by decide) q1788 dX8_image_58 ?_
  refine g_aload_n O dX8_image_61 rfl ?_
  refine gm_getA (j := 51) O hM.1 rfl (by decide) q1779 dX8_image_62 ?_
  refine gm_Sv (nA := 2) (As := [.ref (mb + 36), .ref (mb + 31)]) (rest := []) O hRm (cM_be _ O.2.2.2.2.2.2.2.2 _ _ _ _ _ _ _ hM g6 60 36 8 ⟨rfl, by decide⟩ 51 31 8 ⟨rfl, by decide⟩ _ w) (lw_S q2325 q2326 q134 q2327) rfl rfl (by decide +kernel) ⟨Nat.le_of_ble_eq_true rfl, Nat.le_of_ble_eq_true rfl⟩ rfl rfl rfl (Nat.le_of_ble_eq_true rfl) dX8_image_65 (fun g8 w => ?_)
  refine g_aload_n O dX8_image_68 rfl ?_
  refine gm_getA (j := 61) O hM.1 rfl (by decide) q1789 dX8_image_69 ?_
  refine g_aload_n O dX8_image_72 rfl ?_
  refine gm_getA (j := 52) O hM.1 rfl (by decide) q1780 dX8_image_73 ?_
  refine gm_Sv (nA := 2) (As := [.ref (mb + 37), .ref (mb + 32)]) (rest := []) O hRm (cM_be _ O.2.2.2.2.2.2.2.2 _ _ _ _ _ _ _ hM g8 61 37 8 ⟨rfl, by decide⟩ 52 32 8 ⟨rfl, by decide⟩ _ w) (lw_S q2325 q2326 q134 q2327) rfl rfl (by decide +kernel) ⟨Nat.le_of_ble_eq_true rfl, Nat.le_of_ble_eq_true rfl⟩ rfl rfl rfl (Nat.le_of_ble_eq_true rfl) dX8_image_76 (fun g10 w => ?_)
  refine g_aload_n O dX8_image_79 rfl ?_
  refine gm_getA (j := 62) O hM.1 rfl (by decide) q1790 dX8_image_80 ?_
  refine g_aload_n O dX8_image_83 rfl ?_
  refine gm_getA (j := 12) O hM.1 rfl (by decide) q1740 dX8_image_84 ?_
  refine gm_Sv (nA := 2) (As := [.ref (mb + 38), .ref (mb + 12)]) (rest := []) O hRm (cM_be _ O.2.2.2.2.2.2.2.2 _ _ _ _ _ _ _ hM g10 62 38 3 ⟨rfl, by decide⟩ 12 12 3 ⟨rfl, by decide⟩ _ w) (lw_S q2325 q2326 q134 q2327) rfl rfl (by decide +kernel) ⟨Nat.le_of_ble_eq_true rfl, Nat.le_of_ble_eq_true rfl⟩ rfl rfl rfl (Nat.le_of_ble_eq_true rfl) dX8_image_87 (fun g12 w => ?_)
  exact gm_vret O hQ w dX8_image_90
-- restore
abbrev rM_restore : Room := { frames := 2, cells := 0, slots := 0, locals := 36 }
set_option maxHeartbeats 4000000 in
theorem cM_restore (l : Launch) (hfl : l.flags = flags0) (E : w_E) (z : Nat) (T L : Nat → Nat) (V0 : w_V) (P : w_P) (mb : Nat) (hM : mOk E T L P mb) (sg : MS) (post : Int32 → MS → Prop) (w : wM_restore sg post) : mMi l yX8_restore cX8_restore 1 (some .boolean) rM_restore E z T L V0 P mb [.ref mb] sg post := by
  refine g_start (S := Unit) hfl (by decide +kernel) rfl [some (.ref mb)] rfl (fun _ h => h) (Nat.le_of_ble_eq_true rfl) (fun X hl hRm hEe O hQ => ?_)
  subst hl
  subst hEe
  unfold wM_restore at w
  refine g_aload_n O dX8_restore_0 rfl ?_
  refine g_iconst (v := 0) O dX8_restore_1 (by decide) ?_
  refine gm_putI (j := 2) (ty := .int) O hM.1 rfl (by decide) q1730 rfl rfl rfl rfl dX8_restore_2 ?_
  refine g_aload_n O dX8_restore_5 rfl ?_
  refine gm_getI (j := 54) O hM.1 rfl (by decide) q1782 dX8_restore_6 ?_
  refine g_if_ne (tgt := 14) O w dX8_restore_9 (by decide) (fun w => ?_) (fun w => ?_)
  · refine g_aload_n O dX8_restore_14 rfl ?_
    refine g_aload_n O dX8_restore_15 rfl ?_
    refine gm_getI (j := 55) O hM.1 rfl (by decide) q1783 dX8_restore_16 ?_
    refine gm_putI (j := 33) (ty := .int) O hM.1 rfl (by decide) q1761 rfl rfl rfl rfl dX8_restore_19 ?_
    refine g_aload_n O dX8_restore_22 rfl ?_
    refine g_aload_n O dX8_restore_23 rfl ?_
    refine gm_getI (j := 56) O hM.1 rfl (by decide) q1784 dX8_restore_24 ?_
    refine gm_putI (j := 34) (ty := .int) O hM.1 rfl (by decide) q1762 rfl rfl rfl rfl dX8_restore_27 ?_
    refine g_aload_n O dX8_restore_30 rfl ?_
    refine g_aload_n O dX8_restore_31 rfl ?_
    refine gm_getA (j := 57) O hM.1 rfl (by decide) q1785 dX8_restore_32 ?_
    refine g_iconst (v := 0) O dX8_restore_35 (by decide) ?_
    refine gm_Vv (nA := 2) (As := [.ref (mb + 33), .int 0]) (rest := []) O hRm hM.1 (cM_unpack _ O.2.2.2.2.2.2.2.2 _ _ _ _ _ _ _ hM (s2 (s2 (s2 sg 0 2 0) 0 33 ((s2 sg 0 2 0) 0 55)) 0 34 ((s2 (s2 sg 0 2 0) 0 33 ((s2 sg 0 2 0) 0 55)) 0 56)) 57 33 45 ⟨rfl, by decide⟩ (0) _ w) (lw_V q2251 q2253 qs101 q134 q2254) rfl rfl (by decide +kernel) ⟨Nat.le_of_ble_eq_true rfl, Nat.le_of_ble_eq_true rfl⟩ rfl rfl rfl (Nat.le_of_ble_eq_true rfl) dX8_restore_36 (fun g2 w => ?_)
    refine g_aload_n O dX8_restore_39 rfl ?_
    refine gm_getA (j := 28) O hM.1 rfl (by decide) q1756 dX8_restore_40 ?_
    refine g_aload_n O dX8_restore_43 rfl ?_
    refine gm_getA (j := 58) O hM.1 rfl (by decide) q1786 dX8_restore_44 ?_
    refine gm_Sv (nA := 2) (As := [.ref (mb + 18), .ref (mb + 34)]) (rest := []) O hRm (cM_be _ O.2.2.2.2.2.2.2.2 _ _ _ _ _ _ _ hM g2 28 18 1800 ⟨rfl, by decide⟩ 58 34 1800 ⟨rfl, by decide⟩ _ w) (lw_S q2325 q2326 q134 q2327) rfl rfl (by decide +kernel) ⟨Nat.le_of_ble_eq_true rfl, Nat.le_of_ble_eq_true rfl⟩ rfl rfl rfl (Nat.le_of_ble_eq_true rfl) dX8_restore_47 (fun g4 w => ?_)
    refine g_aload_n O dX8_restore_50 rfl ?_
    refine gm_getA (j := 50) O hM.1 rfl (by decide) q1778 dX8_restore_51 ?_
    refine g_aload_n O dX8_restore_54 rfl ?_
    refine gm_getA (j := 59) O hM.1 rfl (by decide) q1787 dX8_restore_55 ?_
    refine gm_Sv (nA := 2) (As := [.ref (mb + 30), .ref (mb + 35)]) (rest := []) O hRm (cM_be _ O.2.2.2.2.2.2.2.2 _ _ _ _ _ _ _ hM g4 50 30 8 ⟨rfl, by decide⟩ 59 35 8 ⟨rfl, by decide⟩ _ w) (lw_S q2325 q2326 q134 q2327) rfl rfl (by decide +kernel) ⟨Nat.le_of_ble_eq_true rfl, Nat.le_of_ble_eq_true rfl⟩ rfl rfl rfl (Nat.le_of_ble_eq_true rfl) dX8_restore_58 (fun g6 w => ?_)
    refine g_aload_n O dX8_restore_61 rfl ?_
    refine gm_getA (j := 51) O hM.1 rfl (by decide) q1779 dX8_restore_62 ?_
    refine g_aload_n O dX8_restore_65 rfl ?_
    refine gm_getA (j := 60) O hM.1 rfl (by decide) q1788 dX8_restore_66 ?_
    refine gm_Sv (nA := 2) (As := [.ref (mb + 31), .ref (mb + 36)]) (rest := []) O hRm (cM_be _ O.2.2.2.2.2.2.2.2 _ _ _ _ _ _ _ hM g6 51 31 8 ⟨rfl, by decide⟩ 60 36 8 ⟨rfl, by decide⟩ _ w) (lw_S q2325 q2326 q134 q2327) rfl rfl (by decide +kernel) ⟨Nat.le_of_ble_eq_true rfl, Nat.le_of_ble_eq_true rfl⟩ rfl rfl rfl (Nat.le_of_ble_eq_true rfl) dX8_restore_69 (fun g8 w => ?_)
    refine g_aload_n O dX8_restore_72 rfl ?_
    refine gm_getA (j := 52) O hM.1 rfl (by decide) q1780 dX8_restore_73 ?_
    refine g_aload_n O dX8_restore_76 rfl ?_
    refine gm_getA (j := 61) O hM.1 rfl (by decide) q1789 dX8_restore_77 ?_
    refine gm_Sv (nA := 2) (As := [.ref (mb + 32), .ref (mb + 37)]) (rest := []) O hRm (cM_be _ O.2.2.2.2.2.2.2.2 _ _ _ _ _ _ _ hM g8 52 32 8 ⟨rfl, by decide⟩ 61 37 8 ⟨rfl, by decide⟩ _ w) (lw_S q2325 q2326 q134 q2327) rfl rfl (by decide +kernel) ⟨Nat.le_of_ble_eq_true rfl, Nat.le_of_ble_eq_true rfl⟩ rfl rfl rfl (Nat.le_of_ble_eq_true rfl) dX8_restore_80 (fun g10 w => ?_)
    refine g_aload_n O dX8_restore_83 rfl ?_
    refine gm_getA (j := 12) O hM.1 rfl (by decide) q1740 dX8_restore_84 ?_
    refine g_aload_n O dX8_restore_87 rfl ?_
    refine gm_getA (j := 62) O hM.1 rfl (by decide) q1790 dX8_restore_88 ?_
    refine gm_Sv (nA := 2) (As := [.ref (mb + 12), .ref (mb + 38)]) (rest := []) O hRm (cM_be _ O.2.2.2.2.2.2.2.2 _ _ _ _ _ _ _ hM g10 12 12 3 ⟨rfl, by decide⟩ 62 38 3 ⟨rfl, by decide⟩ _ w) (lw_S q2325 q2326 q134 q2327) rfl rfl (by decide +kernel) ⟨Nat.le_of_ble_eq_true rfl, Nat.le_of_ble_eq_true rfl⟩ rfl rfl rfl (Nat.le_of_ble_eq_true rfl) dX8_restore_91 (fun g12 w => ?_)
    refine g_iconst (v := 1) O dX8_restore_94 (by decide) ?_
    exact gm_iret O hQ rfl w dX8_restore_95
  · refine g_iconst (v := 0) O dX8_restore_12 (by decide) ?_
    exact gm_iret O hQ rfl w dX8_restore_13
