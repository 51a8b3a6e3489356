/-! printed by gen/lgen.py out of the given decode rows: the walks of the law's calls -/
set_option maxRecDepth 100000
/-- the start that the law's walk stands on -/
def lwS (X : Cx) (b Ls : Nat) (xs : Nat → Int32) : Prop := va_X b Ls xs (cxs X) (cxs X).heap ∧ b < (cxs X).heap.size ∧ ¬ w_A (cxE X) b ∧ Ls ≤ 384
theorem lg_same (x : Int64) : lg_cmp x x = 0 := by
  unfold lg_cmp
  rw [if_neg (by simp), if_pos rfl]
section LV
variable {X : Cx} {cc : ByteArray} {own : String} {nL : Nat} {ret0 : Option FieldType} {k n z : Nat} {T L : Nat → Nat} {V : w_V} {P : w_P} {pc : Nat} {lv : List (Option Value)} {st : List Value} {mb : Nat} {R0 : Room}
theorem gl_Vi {ret : Option FieldType} {y : MethodName} {bytes : ByteArray} {idx maxL nA : Nat} {rm : Room} {As rest : List Value} {post : Int32 → MS → Prop} (O : Okc X cc own nL ret0) (hRm : cxR X = R0) (hT : T mb = 1) (hM : mMi (cxL X) y bytes maxL ret rm (cxE X) z T L V P mb (.ref mb :: As) (V mb) post)
    (hG : GoodIn lw_all (wsV own idx RX8 y (ws_ y bytes maxL ret))) (hrc : rm.cells = 0) (hrs : rm.slots = 0) (hd : y.cls = RX8 ∧ y.cls ≠ "java/lang/invoke/MethodHandle" ∧ y.cls ≠ "java/lang/invoke/VarHandle" ∧ (parseMethodDescriptor y.desc).map (fun d => d.parameters.length) = some nA)
    (hR : rm.frames + 1 ≤ R0.frames ∧ 8 + (maxL + 11) + rm.locals ≤ R0.locals) (hn : As.length = nA) (hst : st = As.reverse ++ .ref mb :: rest) (hnl : lv.length = nL) (hr : (rest.map fun v => v.category).sum ≤ 8) (d : decode cc pc = .ok (.invokevirtual idx, 3)) (hk : k ≤ R0.cells ∧ n ≤ R0.slots)
    (kk : ∀ (r : Int32) (s' : MS), post r s' → gW X k n z T L (up1 V mb s') P (pc + 3) lv (.int r :: rest)) : gW X k n z T L V P pc lv st := by
  have h := g_callVi (k := k) (n := n) (pc := pc) (lv := lv) (st := st) (rest := rest) (V := up1 V mb (V mb)) (lay := 0) O hM hG hrc hrs hd (by rw [hRm]; exact hR) ck0 (by decide) rfl hT hn hst hnl hr d (by rw [hRm]; exact hk) (fun r u hp => kk r u hp)
  rwa [up1_id] at h
theorem gl_Vv {ret : Option FieldType} {y : MethodName} {bytes : ByteArray} {idx maxL nA : Nat} {rm : Room} {As rest : List Value} {post : MS → Prop} (O : Okc X cc own nL ret0) (hRm : cxR X = R0) (hT : T mb = 1) (hM : mMv (cxL X) y bytes maxL ret rm (cxE X) z T L V P mb (.ref mb :: As) (V mb) post)
    (hG : GoodIn lw_all (wsV own idx RX8 y (ws_ y bytes maxL ret))) (hrc : rm.cells = 0) (hrs : rm.slots = 0) (hd : y.cls = RX8 ∧ y.cls ≠ "java/lang/invoke/MethodHandle" ∧ y.cls ≠ "java/lang/invoke/VarHandle" ∧ (parseMethodDescriptor y.desc).map (fun d => d.parameters.length) = some nA)
    (hR : rm.frames + 1 ≤ R0.frames ∧ 8 + (maxL + 11) + rm.locals ≤ R0.locals) (hn : As.length = nA) (hst : st = As.reverse ++ .ref mb :: rest) (hnl : lv.length = nL) (hr : (rest.map fun v => v.category).sum ≤ 8) (d : decode cc pc = .ok (.invokevirtual idx, 3)) (hk : k ≤ R0.cells ∧ n ≤ R0.slots)
    (kk : ∀ (s' : MS), post s' → gW X k n z T L (up1 V mb s') P (pc + 3) lv rest) : gW X k n z T L V P pc lv st := by
  have h := g_callVv (k := k) (n := n) (pc := pc) (lv := lv) (st := st) (rest := rest) (V := up1 V mb (V mb)) (lay := 0) O hM hG hrc hrs hd (by rw [hRm]; exact hR) ck0 (by decide) rfl hT hn hst hnl hr d (by rw [hRm]; exact hk) (fun u hp => kk u hp)
  rwa [up1_id] at h
theorem gl_Vi0 {ret : Option FieldType} {y : MethodName} {bytes : ByteArray} {idx maxL nA : Nat} {rm : Room} {As rest : List Value} {post : Int32 → Prop} (O : Okc X cc own nL ret0) (hRm : cxR X = R0) (hT : T mb = 1) (hM : mMi0 (cxL X) y bytes maxL ret rm (cxE X) z T L V P mb (.ref mb :: As) (V mb) post)
    (hG : GoodIn lw_all (wsV own idx RX8 y (ws_ y bytes maxL ret))) (hrc : rm.cells = 0) (hrs : rm.slots = 0) (hd : y.cls = RX8 ∧ y.cls ≠ "java/lang/invoke/MethodHandle" ∧ y.cls ≠ "java/lang/invoke/VarHandle" ∧ (parseMethodDescriptor y.desc).map (fun d => d.parameters.length) = some nA)
    (hR : rm.frames + 1 ≤ R0.frames ∧ 8 + (maxL + 11) + rm.locals ≤ R0.locals) (hn : As.length = nA) (hst : st = As.reverse ++ .ref mb :: rest) (hnl : lv.length = nL) (hr : (rest.map fun v => v.category).sum ≤ 8) (d : decode cc pc = .ok (.invokevirtual idx, 3)) (hk : k ≤ R0.cells ∧ n ≤ R0.slots)
    (kk : ∀ (r : Int32), post r → gW X k n z T L V P (pc + 3) lv (.int r :: rest)) : gW X k n z T L V P pc lv st := by
  have h := g_callVi (k := k) (n := n) (pc := pc) (lv := lv) (st := st) (rest := rest) (V := up1 V mb (V mb)) (lay := 0) O hM hG hrc hrs hd (by rw [hRm]; exact hR) ck0 (by decide) rfl hT hn hst hnl hr d (by rw [hRm]; exact hk) (fun r u hp => by
    show gW X (k + 0) (n + 0) z T L (up1 V mb (V mb)) P (pc + 3) lv (.int r :: rest)
    rw [up1_id]
    exact kk r hp)
  rwa [up1_id] at h
end LV
set_option maxHeartbeats 4000000 in
theorem vL_feed {X : Cx} (O : Okc X cL_law RX0 7 (some .boolean)) (hRm : cxR X = room_1) {b Ls : Nat} {xs : Nat → Int32} (hS : lwS X b Ls xs) {k n U z : Nat} {T L : Nat → Nat} {V : w_V} {P : w_P} (i : Nat) (hi : i + 6 ≤ Ls) (x mb o : Nat) (hx : T x = 2) (ho : T o = 3003) (hl : 0 < L o ∧ L o < 2147483648) (hm : mOk (cxE X) T L P mb) (post : Nat → Nat → (Nat → Nat) → (Nat → Nat) → w_V → w_P → Prop) (hk : kOk room_1 k n U)
    (hpost : ∀ (k n U z : Nat) (T L : Nat → Nat) (V : w_V) (P : w_P), kOk room_1 k n U → T x = 2 → T o = 3003 → mOk (cxE X) T L P mb → post U z T L V P → gW X k n z T L V P 2211 [some (.ref b), some (.ref x), some (.ref mb), some (.ref o), some (.int (nI i)), none, none] [])
    (w : wL_feed (cxE X) U z T L V P x mb o (xs (i + 1)) (xs (i + 2)) (xs (i + 3)) (xs (i + 4)) (xs (i + 5)) post) : gW X k n z T L V P 188 [some (.ref b), some (.ref x), some (.ref mb), some (.ref o), some (.int (nI i)), none, none] [] := by
  obtain ⟨hX, hb, hbA, hLs⟩ := hS
  unfold wL_feed at w
  refine g_aload_n O dL_law_188 rfl ?_
  refine g_aload_n O dL_law_189 rfl ?_
  refine g_iload O dL_law_190 rfl ?_
  refine g_iconst (v := 1) O dL_law_192 (by decide) ?_
  refine g_iadd O dL_law_193 ?_
  refine gl_sld (nn := i + 1) O hX hb hbA (by omega) (by omega) (nI_add i 1) dL_law_194 ?_
  refine g_aload_n O dL_law_195 rfl ?_
  refine g_iload O dL_law_196 rfl ?_
  refine g_iconst (v := 2) O dL_law_198 (by decide) ?_
  refine g_iadd O dL_law_199 ?_
  refine gl_sld (nn := i + 2) O hX hb hbA (by omega) (by omega) (nI_add i 2) dL_law_200 ?_
  refine g_aload_n O dL_law_201 rfl ?_
  refine g_iload O dL_law_202 rfl ?_
  refine g_iconst (v := 3) O dL_law_204 (by decide) ?_
  refine g_iadd O dL_law_205 ?_
  refine gl_sld (nn := i + 3) O hX hb hbA (by omega) (by omega) (nI_add i 3) dL_law_206 ?_
  refine g_aload_n O dL_law_207 rfl ?_
  refine g_iload O dL_law_208 rfl ?_
  refine g_iconst (v := 4) O dL_law_210 (by decide) ?_
  refine g_iadd O dL_law_211 ?_
  refine gl_sld (nn := i + 4) O hX hb hbA (by omega) (by omega) (nI_add i 4) dL_law_212 ?_
  refine g_aload_n O dL_law_213 rfl ?_
  refine g_iload O dL_law_214 rfl ?_
  refine g_iconst (v := 5) O dL_law_216 (by decide) ?_
  refine g_iadd O dL_law_217 ?_
  refine gl_sld (nn := i + 5) O hX hb hbA (by omega) (by omega) (nI_add i 5) dL_law_218 ?_
  refine g_ri1 (gr_V (lay := 1) (nA := 5) (As := [.int (xs (i + 1)), .int (xs (i + 2)), .int (xs (i + 3)), .int (xs (i + 4)), .int (xs (i + 5))]) (rest := []) O hRm (kX1_feed _ O.2.2.2.2.2.2.2.2 (cxE X) _ _ _ _ _ x hx ((xs (i + 1))) ((xs (i + 2))) ((xs (i + 3))) ((xs (i + 4))) ((xs (i + 5))) _ w) (lw_V q844 q845 q846 q106 q847) rfl rfl (by decide +kernel) ⟨Nat.le_of_ble_eq_true rfl, Nat.le_of_ble_eq_true rfl⟩ ck1 (by decide) rfl hx rfl rfl rfl (Nat.le_of_ble_eq_true rfl) dL_law_219 (kOk.f0 hk)) (fun r V1 w => ?_)
  have hk := kOk.s0 hk
  refine g_aload_n O dL_law_222 rfl ?_
  refine g_aload_n O dL_law_223 rfl ?_
  refine g_iload O dL_law_224 rfl ?_
  refine g_iconst (v := 1) O dL_law_226 (by decide) ?_
  refine g_iadd O dL_law_227 ?_
  refine gl_sld (nn := i + 1) O hX hb hbA (by omega) (by omega) (nI_add i 1) dL_law_228 ?_
  refine g_aload_n O dL_law_229 rfl ?_
  refine g_iload O dL_law_230 rfl ?_
  refine g_iconst (v := 2) O dL_law_232 (by decide) ?_
  refine g_iadd O dL_law_233 ?_
  refine gl_sld (nn := i + 2) O hX hb hbA (by omega) (by omega) (nI_add i 2) dL_law_234 ?_
  refine g_aload_n O dL_law_235 rfl ?_
  refine g_iload O dL_law_236 rfl ?_
  refine g_iconst (v := 3) O dL_law_238 (by decide) ?_
  refine g_iadd O dL_law_239 ?_
  refine gl_sld (nn := i + 3) O hX hb hbA (by omega) (by omega) (nI_add i 3) dL_law_240 ?_
  refine g_aload_n O dL_law_241 rfl ?_
  refine g_iload O dL_law_242 rfl ?_
  refine g_iconst (v := 4) O dL_law_244 (by decide) ?_
  refine g_iadd O dL_law_245 ?_
  refine gl_sld (nn := i + 4) O hX hb hbA (by omega) (by omega) (nI_add i 4) dL_law_246 ?_
  refine g_aload_n O dL_law_247 rfl ?_
  refine g_iload O dL_law_248 rfl ?_
  refine g_iconst (v := 5) O dL_law_250 (by decide) ?_
  refine g_iadd O dL_law_251 ?_
  refine gl_sld (nn := i + 5) O hX hb hbA (by omega) (by omega) (nI_add i 5) dL_law_252 ?_
  refine gl_Vi (nA := 5) (As := [.int (xs (i + 1)), .int (xs (i + 2)), .int (xs (i + 3)), .int (xs (i + 4)), .int (xs (i + 5))]) (rest := [.int r]) O hRm hm.1 (cM_feed _ O.2.2.2.2.2.2.2.2 (cxE X) _ _ _ V1 _ mb hm (V1 mb) ((xs (i + 1))) ((xs (i + 2))) ((xs (i + 3))) ((xs (i + 4))) ((xs (i + 5))) _ w) (lw_V q1922 q1923 q1924 q134 q1925) rfl rfl (by decide +kernel) ⟨Nat.le_of_ble_eq_true rfl, Nat.le_of_ble_eq_true rfl⟩ rfl rfl rfl (Nat.le_of_ble_eq_true rfl) dL_law_253 (kOk.m hk) (fun b9 s9 w => ?_)
  obtain ⟨e9, w⟩ := w
  generalize eV2 : up1 V1 mb s9 = V2 at w ⊢
  have v8 : V2 mb = s9 := by rw [← eV2]; exact up1_s
  refine g_icmp_eq_t (tgt := 2211) O e9 dL_law_256 (by decide) ?_
  exact hpost _ _ _ _ _ _ _ _ hk hx ho hm w
set_option maxHeartbeats 4000000 in
theorem vL_land {X : Cx} (O : Okc X cL_law RX0 7 (some .boolean)) (hRm : cxR X = room_1) {b Ls : Nat} {xs : Nat → Int32} (hS : lwS X b Ls xs) {k n U z : Nat} {T L : Nat → Nat} {V : w_V} {P : w_P} (i : Nat) (hi : i + 6 ≤ Ls) (x mb o : Nat) (hx : T x = 2) (ho : T o = 3003) (hl : 0 < L o ∧ L o < 2147483648) (hm : mOk (cxE X) T L P mb) (post : Nat → Nat → (Nat → Nat) → (Nat → Nat) → w_V → w_P → Prop) (hk : kOk room_1 k n U)
    (hpost : ∀ (k n U z : Nat) (T L : Nat → Nat) (V : w_V) (P : w_P), kOk room_1 k n U → T x = 2 → T o = 3003 → mOk (cxE X) T L P mb → post U z T L V P → gW X k n z T L V P 2211 [some (.ref b), some (.ref x), some (.ref mb), some (.ref o), some (.int (nI i)), none, none] [])
    (w : wL_land (cxE X) U z T L V P x mb o (xs (i + 1)) post) : gW X k n z T L V P 261 [some (.ref b), some (.ref x), some (.ref mb), some (.ref o), some (.int (nI i)), none, none] [] := by
  obtain ⟨hX, hb, hbA, hLs⟩ := hS
  unfold wL_land at w
  refine g_aload_n O dL_law_261 rfl ?_
  refine g_aload_n O dL_law_262 rfl ?_
  refine g_iload O dL_law_263 rfl ?_
  refine g_iconst (v := 1) O dL_law_265 (by decide) ?_
  refine g_iadd O dL_law_266 ?_
  refine gl_sld (nn := i + 1) O hX hb hbA (by omega) (by omega) (nI_add i 1) dL_law_267 ?_
  refine g_aload_n O dL_law_268 rfl ?_
  obtain ⟨c1, U2, e1, w⟩ := w
  have hk9 := kOk.eq hk e1
  refine gh_fi (xp := fun _ _ _ _ _ _ _ => False) (grx_SX (nA := 3) (As := [.ref x, .int (xs (i + 1)), .ref o]) (rest := []) O hRm (kX0_land _ O.2.2.2.2.2.2.2.2 (cxE X) _ _ _ _ _ _ x hx ((xs (i + 1))) o ho _ w) (lw_SW q885 q886 q105 q887) rfl rfl (by decide +kernel) ⟨Nat.le_of_ble_eq_true rfl, Nat.le_of_ble_eq_true rfl⟩ rfl rfl rfl (Nat.le_of_ble_eq_true rfl) dL_law_269 (kOk.fa hk9)) (fun _ _ _ _ _ _ _ h => h.elim) (fun r z T L V1 P1 w => ?_)
  obtain ⟨hx, ho, hl1, hl2, hm, w⟩ := w
  have hk := kOk.sa hk9
  refine g_istore (lv' := [some (.ref b), some (.ref x), some (.ref mb), some (.ref o), some (.int (nI i)), some (.int r), none]) O dL_law_272 (Nat.le_of_ble_eq_true rfl) rfl rfl ?_
  refine g_aload_n O dL_law_274 rfl ?_
  refine g_aload_n O dL_law_275 rfl ?_
  refine g_iload O dL_law_276 rfl ?_
  refine g_iconst (v := 1) O dL_law_278 (by decide) ?_
  refine g_iadd O dL_law_279 ?_
  refine gl_sld (nn := i + 1) O hX hb hbA (by omega) (by omega) (nI_add i 1) dL_law_280 ?_
  refine gl_Vi (nA := 1) (As := [.int (xs (i + 1))]) (rest := []) O hRm hm.1 (cM_land _ O.2.2.2.2.2.2.2.2 (cxE X) _ _ _ V1 _ mb hm (V1 mb) ((xs (i + 1))) _ w) (lw_V q1926 q1927 q1928 q134 q1929) rfl rfl (by decide +kernel) ⟨Nat.le_of_ble_eq_true rfl, Nat.le_of_ble_eq_true rfl⟩ rfl rfl rfl (Nat.le_of_ble_eq_true rfl) dL_law_281 (kOk.m hk) (fun b9 s9 w => ?_)
  obtain ⟨e8, e9, w⟩ := w
  generalize eV2 : up1 V1 mb s9 = V2 at w ⊢
  have v8 : V2 mb = s9 := by rw [← eV2]; exact up1_s
  rw [eV2] at e9
  rw [← v8] at e8
  refine g_istore (lv' := [some (.ref b), some (.ref x), some (.ref mb), some (.ref o), some (.int (nI i)), some (.int r), some (.int b9)]) O dL_law_284 (Nat.le_of_ble_eq_true rfl) rfl rfl ?_
  refine g_aload_n O dL_law_286 rfl ?_
  refine gl_Vi0 (nA := 0) (As := []) (rest := []) O hRm hm.1 (cM_thrown _ O.2.2.2.2.2.2.2.2 (cxE X) _ _ _ V2 _ mb hm (V2 mb) (fun t0 => t0 = V2 mb 0 2) rfl) (lw_V q1918 q1919 q1920 q134 q1921) rfl rfl (by decide +kernel) ⟨Nat.le_of_ble_eq_true rfl, Nat.le_of_ble_eq_true rfl⟩ rfl rfl rfl (Nat.le_of_ble_eq_true rfl) dL_law_287 (kOk.m hk) (fun t0 ht0 => ?_)
  refine g_iload O dL_law_290 rfl ?_
  refine g_icmp_eq_t (tgt := 297) O (ht0.trans e8) dL_law_292 (by decide) ?_
  refine g_iload O dL_law_297 rfl ?_
  by_cases hr : r = 0
  · refine g_if_ne_f O hr dL_law_299 314 (by decide) ?_
    refine g_aload_n O dL_law_302 rfl ?_
    refine g_iconst (v := 0) O dL_law_303 (by decide) ?_
    refine gl_lald (nn := 0) O ho hl1 (by decide) hl2 rfl dL_law_304 ?_
    refine g_iload O dL_law_305 rfl ?_
    refine g_i2l O dL_law_307 ?_
    refine g_lcmp O dL_law_308 ?_
    refine g_if_eq_t (tgt := 314) O (by rw [e9 hr]; exact lg_same _) dL_law_309 (by decide) ?_
    refine g_goto (tgt := 2211) O dL_law_314 (by decide) ?_
    refine g_drop [5, 6] (lv' := [some (.ref b), some (.ref x), some (.ref mb), some (.ref o), some (.int (nI i)), none, none]) rfl ?_
    exact hpost _ _ _ _ _ _ _ _ hk hx ho hm w
  · refine g_if_ne_t (tgt := 314) O hr dL_law_299 (by decide) ?_
    refine g_goto (tgt := 2211) O dL_law_314 (by decide) ?_
    refine g_drop [5, 6] (lv' := [some (.ref b), some (.ref x), some (.ref mb), some (.ref o), some (.int (nI i)), none, none]) rfl ?_
    exact hpost _ _ _ _ _ _ _ _ hk hx ho hm w
set_option maxHeartbeats 4000000 in
theorem vL_fault {X : Cx} (O : Okc X cL_law RX0 7 (some .boolean)) (hRm : cxR X = room_1) {b Ls : Nat} {xs : Nat → Int32} (hS : lwS X b Ls xs) {k n U z : Nat} {T L : Nat → Nat} {V : w_V} {P : w_P} (i : Nat) (hi : i + 6 ≤ Ls) (x mb o : Nat) (hx : T x = 2) (ho : T o = 3003) (hl : 0 < L o ∧ L o < 2147483648) (hm : mOk (cxE X) T L P mb) (post : Nat → Nat → (Nat → Nat) → (Nat → Nat) → w_V → w_P → Prop) (hk : kOk room_1 k n U)
    (hpost : ∀ (k n U z : Nat) (T L : Nat → Nat) (V : w_V) (P : w_P), kOk room_1 k n U → T x = 2 → T o = 3003 → mOk (cxE X) T L P mb → post U z T L V P → gW X k n z T L V P 2211 [some (.ref b), some (.ref x), some (.ref mb), some (.ref o), some (.int (nI i)), none, none] [])
    (w : wL_fault (cxE X) U z T L V P x mb o post) : gW X k n z T L V P 317 [some (.ref b), some (.ref x), some (.ref mb), some (.ref o), some (.int (nI i)), none, none] [] := by
  obtain ⟨hX, hb, hbA, hLs⟩ := hS
  unfold wL_fault at w
  refine g_aload_n O dL_law_317 rfl ?_
  refine g_ri0 (gr_V (lay := 1) (nA := 0) (As := []) (rest := []) O hRm (kX1_fault _ O.2.2.2.2.2.2.2.2 (cxE X) _ _ _ _ _ x hx _ w) (lw_V q852 q853 q854 q106 q855) rfl rfl (by decide +kernel) ⟨Nat.le_of_ble_eq_true rfl, Nat.le_of_ble_eq_true rfl⟩ ck1 (by decide) rfl hx rfl rfl rfl (Nat.le_of_ble_eq_true rfl) dL_law_318 (kOk.f0 hk)) (fun r w => ?_)
  have hk := kOk.s0 hk
  refine g_aload_n O dL_law_321 rfl ?_
  refine gl_Vi (nA := 0) (As := []) (rest := [.int r]) O hRm hm.1 (cM_fault _ O.2.2.2.2.2.2.2.2 (cxE X) _ _ _ V _ mb hm (V mb) _ w) (lw_V q2061 q2062 q2063 q134 q2064) rfl rfl (by decide +kernel) ⟨Nat.le_of_ble_eq_true rfl, Nat.le_of_ble_eq_true rfl⟩ rfl rfl rfl (Nat.le_of_ble_eq_true rfl) dL_law_322 (kOk.m hk) (fun b9 s9 w => ?_)
  obtain ⟨e9, w⟩ := w
  generalize eV2 : up1 V mb s9 = V2 at w ⊢
  have v8 : V2 mb = s9 := by rw [← eV2]; exact up1_s
  refine g_icmp_eq_t (tgt := 2211) O e9 dL_law_325 (by decide) ?_
  exact hpost _ _ _ _ _ _ _ _ hk hx ho hm w
set_option maxHeartbeats 4000000 in
theorem vL_count {X : Cx} (O : Okc X cL_law RX0 7 (some .boolean)) (hRm : cxR X = room_1) {b Ls : Nat} {xs : Nat → Int32} (hS : lwS X b Ls xs) {k n U z : Nat} {T L : Nat → Nat} {V : w_V} {P : w_P} (i : Nat) (hi : i + 6 ≤ Ls) (x mb o : Nat) (hx : T x = 2) (ho : T o = 3003) (hl : 0 < L o ∧ L o < 2147483648) (hm : mOk (cxE X) T L P mb) (post : Nat → Nat → (Nat → Nat) → (Nat → Nat) → w_V → w_P → Prop) (hk : kOk room_1 k n U)
    (hpost : ∀ (k n U z : Nat) (T L : Nat → Nat) (V : w_V) (P : w_P), kOk room_1 k n U → T x = 2 → T o = 3003 → mOk (cxE X) T L P mb → post U z T L V P → gW X k n z T L V P 2211 [some (.ref b), some (.ref x), some (.ref mb), some (.ref o), some (.int (nI i)), none, none] [])
    (w : wL_count (cxE X) U z T L V P x mb o (xs (i + 1)) post) : gW X k n z T L V P 330 [some (.ref b), some (.ref x), some (.ref mb), some (.ref o), some (.int (nI i)), none, none] [] := by
  obtain ⟨hX, hb, hbA, hLs⟩ := hS
  unfold wL_count at w
  refine g_aload_n O dL_law_330 rfl ?_
  refine g_aload_n O dL_law_331 rfl ?_
  refine g_iload O dL_law_332 rfl ?_
  refine g_iconst (v := 1) O dL_law_334 (by decide) ?_
  refine g_iadd O dL_law_335 ?_
  refine gl_sld (nn := i + 1) O hX hb hbA (by omega) (by omega) (nI_add i 1) dL_law_336 ?_
  refine g_aload_n O dL_law_337 rfl ?_
  obtain ⟨c1, U2, e1, w⟩ := w
  have hk9 := kOk.eq hk e1
  refine gh_fi (xp := fun _ _ _ _ _ _ _ => False) (grx_SX (nA := 3) (As := [.ref x, .int (xs (i + 1)), .ref o]) (rest := []) O hRm (kX0_count _ O.2.2.2.2.2.2.2.2 (cxE X) _ _ _ _ _ _ x hx ((xs (i + 1))) o ho _ w) (lw_SW q1251 q1252 q105 q1253) rfl rfl (by decide +kernel) ⟨Nat.le_of_ble_eq_true rfl, Nat.le_of_ble_eq_true rfl⟩ rfl rfl rfl (Nat.le_of_ble_eq_true rfl) dL_law_338 (kOk.fa hk9)) (fun _ _ _ _ _ _ _ h => h.elim) (fun r z T L V1 P1 w => ?_)
  obtain ⟨hx, ho, hl1, hl2, hm, w⟩ := w
  have hk := kOk.sa hk9
  refine g_istore (lv' := [some (.ref b), some (.ref x), some (.ref mb), some (.ref o), some (.int (nI i)), some (.int r), none]) O dL_law_341 (Nat.le_of_ble_eq_true rfl) rfl rfl ?_
  refine g_aload_n O dL_law_343 rfl ?_
  refine g_aload_n O dL_law_344 rfl ?_
  refine g_iload O dL_law_345 rfl ?_
  refine g_iconst (v := 1) O dL_law_347 (by decide) ?_
  refine g_iadd O dL_law_348 ?_
  refine gl_sld (nn := i + 1) O hX hb hbA (by omega) (by omega) (nI_add i 1) dL_law_349 ?_
  refine gl_Vi (nA := 1) (As := [.int (xs (i + 1))]) (rest := []) O hRm hm.1 (cM_count _ O.2.2.2.2.2.2.2.2 (cxE X) _ _ _ V1 _ mb hm (V1 mb) ((xs (i + 1))) _ w) (lw_V q2065 q2066 q2067 q134 q2068) rfl rfl (by decide +kernel) ⟨Nat.le_of_ble_eq_true rfl, Nat.le_of_ble_eq_true rfl⟩ rfl rfl rfl (Nat.le_of_ble_eq_true rfl) dL_law_350 (kOk.m hk) (fun b9 s9 w => ?_)
  obtain ⟨e8, e9, w⟩ := w
  generalize eV2 : up1 V1 mb s9 = V2 at w ⊢
  have v8 : V2 mb = s9 := by rw [← eV2]; exact up1_s
  rw [eV2] at e9
  rw [← v8] at e8
  refine g_istore (lv' := [some (.ref b), some (.ref x), some (.ref mb), some (.ref o), some (.int (nI i)), some (.int r), some (.int b9)]) O dL_law_353 (Nat.le_of_ble_eq_true rfl) rfl rfl ?_
  refine g_aload_n O dL_law_355 rfl ?_
  refine gl_Vi0 (nA := 0) (As := []) (rest := []) O hRm hm.1 (cM_thrown _ O.2.2.2.2.2.2.2.2 (cxE X) _ _ _ V2 _ mb hm (V2 mb) (fun t0 => t0 = V2 mb 0 2) rfl) (lw_V q1918 q1919 q1920 q134 q1921) rfl rfl (by decide +kernel) ⟨Nat.le_of_ble_eq_true rfl, Nat.le_of_ble_eq_true rfl⟩ rfl rfl rfl (Nat.le_of_ble_eq_true rfl) dL_law_356 (kOk.m hk) (fun t0 ht0 => ?_)
  refine g_iload O dL_law_359 rfl ?_
  refine g_icmp_eq_t (tgt := 366) O (ht0.trans e8) dL_law_361 (by decide) ?_
  refine g_iload O dL_law_366 rfl ?_
  by_cases hr : r = 0
  · refine g_if_ne_f O hr dL_law_368 383 (by decide) ?_
    refine g_aload_n O dL_law_371 rfl ?_
    refine g_iconst (v := 0) O dL_law_372 (by decide) ?_
    refine gl_lald (nn := 0) O ho hl1 (by decide) hl2 rfl dL_law_373 ?_
    refine g_iload O dL_law_374 rfl ?_
    refine g_i2l O dL_law_376 ?_
    refine g_lcmp O dL_law_377 ?_
    refine g_if_eq_t (tgt := 383) O (by rw [e9 hr]; exact lg_same _) dL_law_378 (by decide) ?_
    refine g_goto (tgt := 2211) O dL_law_383 (by decide) ?_
    refine g_drop [5, 6] (lv' := [some (.ref b), some (.ref x), some (.ref mb), some (.ref o), some (.int (nI i)), none, none]) rfl ?_
    exact hpost _ _ _ _ _ _ _ _ hk hx ho hm w
  · refine g_if_ne_t (tgt := 383) O hr dL_law_368 (by decide) ?_
    refine g_goto (tgt := 2211) O dL_law_383 (by decide) ?_
    refine g_drop [5, 6] (lv' := [some (.ref b), some (.ref x), some (.ref mb), some (.ref o), some (.int (nI i)), none, none]) rfl ?_
    exact hpost _ _ _ _ _ _ _ _ hk hx ho hm w
set_option maxHeartbeats 4000000 in
theorem vL_far {X : Cx} (O : Okc X cL_law RX0 7 (some .boolean)) (hRm : cxR X = room_1) {b Ls : Nat} {xs : Nat → Int32} (hS : lwS X b Ls xs) {k n U z : Nat} {T L : Nat → Nat} {V : w_V} {P : w_P} (i : Nat) (hi : i + 6 ≤ Ls) (x mb o : Nat) (hx : T x = 2) (ho : T o = 3003) (hl : 0 < L o ∧ L o < 2147483648) (hm : mOk (cxE X) T L P mb) (post : Nat → Nat → (Nat → Nat) → (Nat → Nat) → w_V → w_P → Prop) (hk : kOk room_1 k n U)
    (hpost : ∀ (k n U z : Nat) (T L : Nat → Nat) (V : w_V) (P : w_P), kOk room_1 k n U → T x = 2 → T o = 3003 → mOk (cxE X) T L P mb → post U z T L V P → gW X k n z T L V P 2211 [some (.ref b), some (.ref x), some (.ref mb), some (.ref o), some (.int (nI i)), none, none] [])
    (w : wL_far (cxE X) U z T L V P x mb o (xs (i + 1)) (xs (i + 2)) (xs (i + 3)) post) : gW X k n z T L V P 386 [some (.ref b), some (.ref x), some (.ref mb), some (.ref o), some (.int (nI i)), none, none] [] := by
  obtain ⟨hX, hb, hbA, hLs⟩ := hS
  unfold wL_far at w
  refine g_aload_n O dL_law_386 rfl ?_
  refine g_aload_n O dL_law_387 rfl ?_
  refine g_iload O dL_law_388 rfl ?_
  refine g_iconst (v := 1) O dL_law_390 (by decide) ?_
  refine g_iadd O dL_law_391 ?_
  refine gl_sld (nn := i + 1) O hX hb hbA (by omega) (by omega) (nI_add i 1) dL_law_392 ?_
  refine g_aload_n O dL_law_393 rfl ?_
  refine g_iload O dL_law_394 rfl ?_
  refine g_iconst (v := 2) O dL_law_396 (by decide) ?_
  refine g_iadd O dL_law_397 ?_
  refine gl_sld (nn := i + 2) O hX hb hbA (by omega) (by omega) (nI_add i 2) dL_law_398 ?_
  refine g_aload_n O dL_law_399 rfl ?_
  refine g_iload O dL_law_400 rfl ?_
  refine g_iconst (v := 3) O dL_law_402 (by decide) ?_
  refine g_iadd O dL_law_403 ?_
  refine gl_sld (nn := i + 3) O hX hb hbA (by omega) (by omega) (nI_add i 3) dL_law_404 ?_
  refine g_aload_n O dL_law_405 rfl ?_
  obtain ⟨c1, U2, e1, w⟩ := w
  have hk9 := kOk.eq hk e1
  refine gh_fi (xp := fun _ _ _ _ _ _ _ => False) (grx_SX (nA := 5) (As := [.ref x, .int (xs (i + 1)), .int (xs (i + 2)), .int (xs (i + 3)), .ref o]) (rest := []) O hRm (kX0_far _ O.2.2.2.2.2.2.2.2 (cxE X) _ _ _ _ _ _ x hx ((xs (i + 1))) ((xs (i + 2))) ((xs (i + 3))) o ho _ w) (lw_SW q1441 q1442 q105 q1443) rfl rfl (by decide +kernel) ⟨Nat.le_of_ble_eq_true rfl, Nat.le_of_ble_eq_true rfl⟩ rfl rfl rfl (Nat.le_of_ble_eq_true rfl) dL_law_406 (kOk.fa hk9)) (fun _ _ _ _ _ _ _ h => h.elim) (fun r z T L V1 P1 w => ?_)
  obtain ⟨hx, ho, hl1, hl2, hm, w⟩ := w
  have hk := kOk.sa hk9
  refine g_istore (lv' := [some (.ref b), some (.ref x), some (.ref mb), some (.ref o), some (.int (nI i)), some (.int r), none]) O dL_law_409 (Nat.le_of_ble_eq_true rfl) rfl rfl ?_
  refine g_aload_n O dL_law_411 rfl ?_
  refine g_aload_n O dL_law_412 rfl ?_
  refine g_iload O dL_law_413 rfl ?_
  refine g_iconst (v := 1) O dL_law_415 (by decide) ?_
  refine g_iadd O dL_law_416 ?_
  refine gl_sld (nn := i + 1) O hX hb hbA (by omega) (by omega) (nI_add i 1) dL_law_417 ?_
  refine g_aload_n O dL_law_418 rfl ?_
  refine g_iload O dL_law_419 rfl ?_
  refine g_iconst (v := 2) O dL_law_421 (by decide) ?_
  refine g_iadd O dL_law_422 ?_
  refine gl_sld (nn := i + 2) O hX hb hbA (by omega) (by omega) (nI_add i 2) dL_law_423 ?_
  refine g_aload_n O dL_law_424 rfl ?_
  refine g_iload O dL_law_425 rfl ?_
  refine g_iconst (v := 3) O dL_law_427 (by decide) ?_
  refine g_iadd O dL_law_428 ?_
  refine gl_sld (nn := i + 3) O hX hb hbA (by omega) (by omega) (nI_add i 3) dL_law_429 ?_
  refine gl_Vi (nA := 3) (As := [.int (xs (i + 1)), .int (xs (i + 2)), .int (xs (i + 3))]) (rest := []) O hRm hm.1 (cM_far _ O.2.2.2.2.2.2.2.2 (cxE X) _ _ _ V1 _ mb hm (V1 mb) ((xs (i + 1))) ((xs (i + 2))) ((xs (i + 3))) _ w) (lw_V q2153 q2154 q2155 q134 q2156) rfl rfl (by decide +kernel) ⟨Nat.le_of_ble_eq_true rfl, Nat.le_of_ble_eq_true rfl⟩ rfl rfl rfl (Nat.le_of_ble_eq_true rfl) dL_law_430 (kOk.m hk) (fun b9 s9 w => ?_)
  obtain ⟨e8, e9, w⟩ := w
  generalize eV2 : up1 V1 mb s9 = V2 at w ⊢
  have v8 : V2 mb = s9 := by rw [← eV2]; exact up1_s
  rw [eV2] at e9
  rw [← v8] at e8
  refine g_istore (lv' := [some (.ref b), some (.ref x), some (.ref mb), some (.ref o), some (.int (nI i)), some (.int r), some (.int b9)]) O dL_law_433 (Nat.le_of_ble_eq_true rfl) rfl rfl ?_
  refine g_aload_n O dL_law_435 rfl ?_
  refine gl_Vi0 (nA := 0) (As := []) (rest := []) O hRm hm.1 (cM_thrown _ O.2.2.2.2.2.2.2.2 (cxE X) _ _ _ V2 _ mb hm (V2 mb) (fun t0 => t0 = V2 mb 0 2) rfl) (lw_V q1918 q1919 q1920 q134 q1921) rfl rfl (by decide +kernel) ⟨Nat.le_of_ble_eq_true rfl, Nat.le_of_ble_eq_true rfl⟩ rfl rfl rfl (Nat.le_of_ble_eq_true rfl) dL_law_436 (kOk.m hk) (fun t0 ht0 => ?_)
  refine g_iload O dL_law_439 rfl ?_
  refine g_icmp_eq_t (tgt := 446) O (ht0.trans e8) dL_law_441 (by decide) ?_
  refine g_iload O dL_law_446 rfl ?_
  by_cases hr : r = 0
  · refine g_if_ne_f O hr dL_law_448 463 (by decide) ?_
    refine g_aload_n O dL_law_451 rfl ?_
    refine g_iconst (v := 0) O dL_law_452 (by decide) ?_
    refine gl_lald (nn := 0) O ho hl1 (by decide) hl2 rfl dL_law_453 ?_
    refine g_iload O dL_law_454 rfl ?_
    refine g_i2l O dL_law_456 ?_
    refine g_lcmp O dL_law_457 ?_
    refine g_if_eq_t (tgt := 463) O (by rw [e9 hr]; exact lg_same _) dL_law_458 (by decide) ?_
    refine g_goto (tgt := 2211) O dL_law_463 (by decide) ?_
    refine g_drop [5, 6] (lv' := [some (.ref b), some (.ref x), some (.ref mb), some (.ref o), some (.int (nI i)), none, none]) rfl ?_
    exact hpost _ _ _ _ _ _ _ _ hk hx ho hm w
  · refine g_if_ne_t (tgt := 463) O hr dL_law_448 (by decide) ?_
    refine g_goto (tgt := 2211) O dL_law_463 (by decide) ?_
    refine g_drop [5, 6] (lv' := [some (.ref b), some (.ref x), some (.ref mb), some (.ref o), some (.int (nI i)), none, none]) rfl ?_
    exact hpost _ _ _ _ _ _ _ _ hk hx ho hm w
set_option maxHeartbeats 4000000 in
theorem vL_judge {X : Cx} (O : Okc X cL_law RX0 7 (some .boolean)) (hRm : cxR X = room_1) {b Ls : Nat} {xs : Nat → Int32} (hS : lwS X b Ls xs) {k n U z : Nat} {T L : Nat → Nat} {V : w_V} {P : w_P} (i : Nat) (hi : i + 6 ≤ Ls) (x mb o : Nat) (hx : T x = 2) (ho : T o = 3003) (hl : 0 < L o ∧ L o < 2147483648) (hm : mOk (cxE X) T L P mb) (post : Nat → Nat → (Nat → Nat) → (Nat → Nat) → w_V → w_P → Prop) (hk : kOk room_1 k n U)
    (hpost : ∀ (k n U z : Nat) (T L : Nat → Nat) (V : w_V) (P : w_P), kOk room_1 k n U → T x = 2 → T o = 3003 → mOk (cxE X) T L P mb → post U z T L V P → gW X k n z T L V P 2211 [some (.ref b), some (.ref x), some (.ref mb), some (.ref o), some (.int (nI i)), none, none] [])
    (w : wL_judge (cxE X) U z T L V P x mb o (xs (i + 1)) (xs (i + 2)) post) : gW X k n z T L V P 466 [some (.ref b), some (.ref x), some (.ref mb), some (.ref o), some (.int (nI i)), none, none] [] := by
  obtain ⟨hX, hb, hbA, hLs⟩ := hS
  unfold wL_judge at w
  refine g_aload_n O dL_law_466 rfl ?_
  refine g_aload_n O dL_law_467 rfl ?_
  refine g_iload O dL_law_468 rfl ?_
  refine g_iconst (v := 1) O dL_law_470 (by decide) ?_
  refine g_iadd O dL_law_471 ?_
  refine gl_sld (nn := i + 1) O hX hb hbA (by omega) (by omega) (nI_add i 1) dL_law_472 ?_
  refine g_aload_n O dL_law_473 rfl ?_
  refine g_iload O dL_law_474 rfl ?_
  refine g_iconst (v := 2) O dL_law_476 (by decide) ?_
  refine g_iadd O dL_law_477 ?_
  refine gl_sld (nn := i + 2) O hX hb hbA (by omega) (by omega) (nI_add i 2) dL_law_478 ?_
  refine g_aload_n O dL_law_479 rfl ?_
  obtain ⟨c1, U2, e1, w⟩ := w
  have hk9 := kOk.eq hk e1
  refine gh_fi (xp := fun _ _ _ _ _ _ _ => False) (grx_SX (nA := 4) (As := [.ref x, .int (xs (i + 1)), .int (xs (i + 2)), .ref o]) (rest := []) O hRm (kX0_judge _ O.2.2.2.2.2.2.2.2 (cxE X) _ _ _ _ _ _ x hx ((xs (i + 1))) ((xs (i + 2))) o ho _ w) (lw_SW q1454 q1455 q105 q1456) rfl rfl (by decide +kernel) ⟨Nat.le_of_ble_eq_true rfl, Nat.le_of_ble_eq_true rfl⟩ rfl rfl rfl (Nat.le_of_ble_eq_true rfl) dL_law_480 (kOk.fa hk9)) (fun _ _ _ _ _ _ _ h => h.elim) (fun r z T L V1 P1 w => ?_)
  obtain ⟨hx, ho, hl1, hl2, hm, w⟩ := w
  have hk := kOk.sa hk9
  refine g_istore (lv' := [some (.ref b), some (.ref x), some (.ref mb), some (.ref o), some (.int (nI i)), some (.int r), none]) O dL_law_483 (Nat.le_of_ble_eq_true rfl) rfl rfl ?_
  refine g_aload_n O dL_law_485 rfl ?_
  refine g_aload_n O dL_law_486 rfl ?_
  refine g_iload O dL_law_487 rfl ?_
  refine g_iconst (v := 1) O dL_law_489 (by decide) ?_
  refine g_iadd O dL_law_490 ?_
  refine gl_sld (nn := i + 1) O hX hb hbA (by omega) (by omega) (nI_add i 1) dL_law_491 ?_
  refine g_aload_n O dL_law_492 rfl ?_
  refine g_iload O dL_law_493 rfl ?_
  refine g_iconst (v := 2) O dL_law_495 (by decide) ?_
  refine g_iadd O dL_law_496 ?_
  refine gl_sld (nn := i + 2) O hX hb hbA (by omega) (by omega) (nI_add i 2) dL_law_497 ?_
  refine gl_Vi (nA := 2) (As := [.int (xs (i + 1)), .int (xs (i + 2))]) (rest := []) O hRm hm.1 (cM_judge _ O.2.2.2.2.2.2.2.2 (cxE X) _ _ _ V1 _ mb hm (V1 mb) ((xs (i + 1))) ((xs (i + 2))) _ w) (lw_V q2167 q2168 q2169 q134 q2170) rfl rfl (by decide +kernel) ⟨Nat.le_of_ble_eq_true rfl, Nat.le_of_ble_eq_true rfl⟩ rfl rfl rfl (Nat.le_of_ble_eq_true rfl) dL_law_498 (kOk.m hk) (fun b9 s9 w => ?_)
  obtain ⟨e8, e9, w⟩ := w
  generalize eV2 : up1 V1 mb s9 = V2 at w ⊢
  have v8 : V2 mb = s9 := by rw [← eV2]; exact up1_s
  rw [eV2] at e9
  rw [← v8] at e8
  refine g_istore (lv' := [some (.ref b), some (.ref x), some (.ref mb), some (.ref o), some (.int (nI i)), some (.int r), some (.int b9)]) O dL_law_501 (Nat.le_of_ble_eq_true rfl) rfl rfl ?_
  refine g_aload_n O dL_law_503 rfl ?_
  refine gl_Vi0 (nA := 0) (As := []) (rest := []) O hRm hm.1 (cM_thrown _ O.2.2.2.2.2.2.2.2 (cxE X) _ _ _ V2 _ mb hm (V2 mb) (fun t0 => t0 = V2 mb 0 2) rfl) (lw_V q1918 q1919 q1920 q134 q1921) rfl rfl (by decide +kernel) ⟨Nat.le_of_ble_eq_true rfl, Nat.le_of_ble_eq_true rfl⟩ rfl rfl rfl (Nat.le_of_ble_eq_true rfl) dL_law_504 (kOk.m hk) (fun t0 ht0 => ?_)
  refine g_iload O dL_law_507 rfl ?_
  refine g_icmp_eq_t (tgt := 514) O (ht0.trans e8) dL_law_509 (by decide) ?_
  refine g_iload O dL_law_514 rfl ?_
  by_cases hr : r = 0
  · refine g_if_ne_f O hr dL_law_516 531 (by decide) ?_
    refine g_aload_n O dL_law_519 rfl ?_
    refine g_iconst (v := 0) O dL_law_520 (by decide) ?_
    refine gl_lald (nn := 0) O ho hl1 (by decide) hl2 rfl dL_law_521 ?_
    refine g_iload O dL_law_522 rfl ?_
    refine g_i2l O dL_law_524 ?_
    refine g_lcmp O dL_law_525 ?_
    refine g_if_eq_t (tgt := 531) O (by rw [e9 hr]; exact lg_same _) dL_law_526 (by decide) ?_
    refine g_goto (tgt := 2211) O dL_law_531 (by decide) ?_
    refine g_drop [5, 6] (lv' := [some (.ref b), some (.ref x), some (.ref mb), some (.ref o), some (.int (nI i)), none, none]) rfl ?_
    exact hpost _ _ _ _ _ _ _ _ hk hx ho hm w
  · refine g_if_ne_t (tgt := 531) O hr dL_law_516 (by decide) ?_
    refine g_goto (tgt := 2211) O dL_law_531 (by decide) ?_
    refine g_drop [5, 6] (lv' := [some (.ref b), some (.ref x), some (.ref mb), some (.ref o), some (.int (nI i)), none, none]) rfl ?_
    exact hpost _ _ _ _ _ _ _ _ hk hx ho hm w
set_option maxHeartbeats 4000000 in
theorem vL_stop {X : Cx} (O : Okc X cL_law RX0 7 (some .boolean)) (hRm : cxR X = room_1) {b Ls : Nat} {xs : Nat → Int32} (hS : lwS X b Ls xs) {k n U z : Nat} {T L : Nat → Nat} {V : w_V} {P : w_P} (i : Nat) (hi : i + 6 ≤ Ls) (x mb o : Nat) (hx : T x = 2) (ho : T o = 3003) (hl : 0 < L o ∧ L o < 2147483648) (hm : mOk (cxE X) T L P mb) (post : Nat → Nat → (Nat → Nat) → (Nat → Nat) → w_V → w_P → Prop) (hk : kOk room_1 k n U)
    (hpost : ∀ (k n U z : Nat) (T L : Nat → Nat) (V : w_V) (P : w_P), kOk room_1 k n U → T x = 2 → T o = 3003 → mOk (cxE X) T L P mb → post U z T L V P → gW X k n z T L V P 2211 [some (.ref b), some (.ref x), some (.ref mb), some (.ref o), some (.int (nI i)), none, none] [])
    (w : wL_stop (cxE X) U z T L V P x mb o (xs (i + 1)) (xs (i + 2)) (xs (i + 3)) post) : gW X k n z T L V P 534 [some (.ref b), some (.ref x), some (.ref mb), some (.ref o), some (.int (nI i)), none, none] [] := by
  obtain ⟨hX, hb, hbA, hLs⟩ := hS
  unfold wL_stop at w
  refine g_aload_n O dL_law_534 rfl ?_
  refine g_aload_n O dL_law_535 rfl ?_
  refine g_iload O dL_law_536 rfl ?_
  refine g_iconst (v := 1) O dL_law_538 (by decide) ?_
  refine g_iadd O dL_law_539 ?_
  refine gl_sld (nn := i + 1) O hX hb hbA (by omega) (by omega) (nI_add i 1) dL_law_540 ?_
  refine g_aload_n O dL_law_541 rfl ?_
  refine g_iload O dL_law_542 rfl ?_
  refine g_iconst (v := 2) O dL_law_544 (by decide) ?_
  refine g_iadd O dL_law_545 ?_
  refine gl_sld (nn := i + 2) O hX hb hbA (by omega) (by omega) (nI_add i 2) dL_law_546 ?_
  refine g_aload_n O dL_law_547 rfl ?_
  refine g_iload O dL_law_548 rfl ?_
  refine g_iconst (v := 3) O dL_law_550 (by decide) ?_
  refine g_iadd O dL_law_551 ?_
  refine gl_sld (nn := i + 3) O hX hb hbA (by omega) (by omega) (nI_add i 3) dL_law_552 ?_
  refine g_aload_n O dL_law_553 rfl ?_
  obtain ⟨c1, U2, e1, w⟩ := w
  have hk9 := kOk.eq hk e1
  refine gh_fi (xp := fun _ _ _ _ _ _ _ => False) (grx_SX (nA := 5) (As := [.ref x, .int (xs (i + 1)), .int (xs (i + 2)), .int (xs (i + 3)), .ref o]) (rest := []) O hRm (kX0_stop _ O.2.2.2.2.2.2.2.2 (cxE X) _ _ _ _ _ _ x hx ((xs (i + 1))) ((xs (i + 2))) ((xs (i + 3))) o ho _ w) (lw_SW q1480 q1481 q105 q1482) rfl rfl (by decide +kernel) ⟨Nat.le_of_ble_eq_true rfl, Nat.le_of_ble_eq_true rfl⟩ rfl rfl rfl (Nat.le_of_ble_eq_true rfl) dL_law_554 (kOk.fa hk9)) (fun _ _ _ _ _ _ _ h => h.elim) (fun r z T L V1 P1 w => ?_)
  obtain ⟨hx, ho, hl1, hl2, hm, w⟩ := w
  have hk := kOk.sa hk9
  refine g_istore (lv' := [some (.ref b), some (.ref x), some (.ref mb), some (.ref o), some (.int (nI i)), some (.int r), none]) O dL_law_557 (Nat.le_of_ble_eq_true rfl) rfl rfl ?_
  refine g_aload_n O dL_law_559 rfl ?_
  refine g_aload_n O dL_law_560 rfl ?_
  refine g_iload O dL_law_561 rfl ?_
  refine g_iconst (v := 1) O dL_law_563 (by decide) ?_
  refine g_iadd O dL_law_564 ?_
  refine gl_sld (nn := i + 1) O hX hb hbA (by omega) (by omega) (nI_add i 1) dL_law_565 ?_
  refine g_aload_n O dL_law_566 rfl ?_
  refine g_iload O dL_law_567 rfl ?_
  refine g_iconst (v := 2) O dL_law_569 (by decide) ?_
  refine g_iadd O dL_law_570 ?_
  refine gl_sld (nn := i + 2) O hX hb hbA (by omega) (by omega) (nI_add i 2) dL_law_571 ?_
  refine g_aload_n O dL_law_572 rfl ?_
  refine g_iload O dL_law_573 rfl ?_
  refine g_iconst (v := 3) O dL_law_575 (by decide) ?_
  refine g_iadd O dL_law_576 ?_
  refine gl_sld (nn := i + 3) O hX hb hbA (by omega) (by omega) (nI_add i 3) dL_law_577 ?_
  refine gl_Vi (nA := 3) (As := [.int (xs (i + 1)), .int (xs (i + 2)), .int (xs (i + 3))]) (rest := []) O hRm hm.1 (cM_stop _ O.2.2.2.2.2.2.2.2 (cxE X) _ _ _ V1 _ mb hm (V1 mb) ((xs (i + 1))) ((xs (i + 2))) ((xs (i + 3))) _ w) (lw_V q2176 q2177 q2178 q134 q2179) rfl rfl (by decide +kernel) ⟨Nat.le_of_ble_eq_true rfl, Nat.le_of_ble_eq_true rfl⟩ rfl rfl rfl (Nat.le_of_ble_eq_true rfl) dL_law_578 (kOk.m hk) (fun b9 s9 w => ?_)
  obtain ⟨e8, e9, w⟩ := w
  generalize eV2 : up1 V1 mb s9 = V2 at w ⊢
  have v8 : V2 mb = s9 := by rw [← eV2]; exact up1_s
  rw [eV2] at e9
  rw [← v8] at e8
  refine g_istore (lv' := [some (.ref b), some (.ref x), some (.ref mb), some (.ref o), some (.int (nI i)), some (.int r), some (.int b9)]) O dL_law_581 (Nat.le_of_ble_eq_true rfl) rfl rfl ?_
  refine g_aload_n O dL_law_583 rfl ?_
  refine gl_Vi0 (nA := 0) (As := []) (rest := []) O hRm hm.1 (cM_thrown _ O.2.2.2.2.2.2.2.2 (cxE X) _ _ _ V2 _ mb hm (V2 mb) (fun t0 => t0 = V2 mb 0 2) rfl) (lw_V q1918 q1919 q1920 q134 q1921) rfl rfl (by decide +kernel) ⟨Nat.le_of_ble_eq_true rfl, Nat.le_of_ble_eq_true rfl⟩ rfl rfl rfl (Nat.le_of_ble_eq_true rfl) dL_law_584 (kOk.m hk) (fun t0 ht0 => ?_)
  refine g_iload O dL_law_587 rfl ?_
  refine g_icmp_eq_t (tgt := 594) O (ht0.trans e8) dL_law_589 (by decide) ?_
  refine g_iload O dL_law_594 rfl ?_
  by_cases hr : r = 0
  · refine g_if_ne_f O hr dL_law_596 611 (by decide) ?_
    refine g_aload_n O dL_law_599 rfl ?_
    refine g_iconst (v := 0) O dL_law_600 (by decide) ?_
    refine gl_lald (nn := 0) O ho hl1 (by decide) hl2 rfl dL_law_601 ?_
    refine g_iload O dL_law_602 rfl ?_
    refine g_i2l O dL_law_604 ?_
    refine g_lcmp O dL_law_605 ?_
    refine g_if_eq_t (tgt := 611) O (by rw [e9 hr]; exact lg_same _) dL_law_606 (by decide) ?_
    refine g_goto (tgt := 2211) O dL_law_611 (by decide) ?_
    refine g_drop [5, 6] (lv' := [some (.ref b), some (.ref x), some (.ref mb), some (.ref o), some (.int (nI i)), none, none]) rfl ?_
    exact hpost _ _ _ _ _ _ _ _ hk hx ho hm w
  · refine g_if_ne_t (tgt := 611) O hr dL_law_596 (by decide) ?_
    refine g_goto (tgt := 2211) O dL_law_611 (by decide) ?_
    refine g_drop [5, 6] (lv' := [some (.ref b), some (.ref x), some (.ref mb), some (.ref o), some (.int (nI i)), none, none]) rfl ?_
    exact hpost _ _ _ _ _ _ _ _ hk hx ho hm w
set_option maxHeartbeats 4000000 in
theorem vL_where {X : Cx} (O : Okc X cL_law RX0 7 (some .boolean)) (hRm : cxR X = room_1) {b Ls : Nat} {xs : Nat → Int32} (hS : lwS X b Ls xs) {k n U z : Nat} {T L : Nat → Nat} {V : w_V} {P : w_P} (i : Nat) (hi : i + 6 ≤ Ls) (x mb o : Nat) (hx : T x = 2) (ho : T o = 3003) (hl : 0 < L o ∧ L o < 2147483648) (hm : mOk (cxE X) T L P mb) (post : Nat → Nat → (Nat → Nat) → (Nat → Nat) → w_V → w_P → Prop) (hk : kOk room_1 k n U)
    (hpost : ∀ (k n U z : Nat) (T L : Nat → Nat) (V : w_V) (P : w_P), kOk room_1 k n U → T x = 2 → T o = 3003 → mOk (cxE X) T L P mb → post U z T L V P → gW X k n z T L V P 2211 [some (.ref b), some (.ref x), some (.ref mb), some (.ref o), some (.int (nI i)), none, none] [])
    (w : wL_where (cxE X) U z T L V P x mb o (xs (i + 1)) (xs (i + 2)) post) : gW X k n z T L V P 614 [some (.ref b), some (.ref x), some (.ref mb), some (.ref o), some (.int (nI i)), none, none] [] := by
  obtain ⟨hX, hb, hbA, hLs⟩ := hS
  unfold wL_where at w
  refine g_aload_n O dL_law_614 rfl ?_
  refine g_aload_n O dL_law_615 rfl ?_
  refine g_iload O dL_law_616 rfl ?_
  refine g_iconst (v := 1) O dL_law_618 (by decide) ?_
  refine g_iadd O dL_law_619 ?_
  refine gl_sld (nn := i + 1) O hX hb hbA (by omega) (by omega) (nI_add i 1) dL_law_620 ?_
  refine g_aload_n O dL_law_621 rfl ?_
  refine g_iload O dL_law_622 rfl ?_
  refine g_iconst (v := 2) O dL_law_624 (by decide) ?_
  refine g_iadd O dL_law_625 ?_
  refine gl_sld (nn := i + 2) O hX hb hbA (by omega) (by omega) (nI_add i 2) dL_law_626 ?_
  refine g_aload_n O dL_law_627 rfl ?_
  obtain ⟨c1, U2, e1, w⟩ := w
  have hk9 := kOk.eq hk e1
  refine gh_fi (xp := fun _ _ _ _ _ _ _ => False) (grx_SX (nA := 4) (As := [.ref x, .int (xs (i + 1)), .int (xs (i + 2)), .ref o]) (rest := []) O hRm (kX0_where _ O.2.2.2.2.2.2.2.2 (cxE X) _ _ _ _ _ _ x hx ((xs (i + 1))) ((xs (i + 2))) o ho _ w) (lw_SW q1487 q1488 q105 q1489) rfl rfl (by decide +kernel) ⟨Nat.le_of_ble_eq_true rfl, Nat.le_of_ble_eq_true rfl⟩ rfl rfl rfl (Nat.le_of_ble_eq_true rfl) dL_law_628 (kOk.fa hk9)) (fun _ _ _ _ _ _ _ h => h.elim) (fun r z T L V1 P1 w => ?_)
  obtain ⟨hx, ho, hl1, hl2, hm, w⟩ := w
  have hk := kOk.sa hk9
  refine g_istore (lv' := [some (.ref b), some (.ref x), some (.ref mb), some (.ref o), some (.int (nI i)), some (.int r), none]) O dL_law_631 (Nat.le_of_ble_eq_true rfl) rfl rfl ?_
  refine g_aload_n O dL_law_633 rfl ?_
  refine g_aload_n O dL_law_634 rfl ?_
  refine g_iload O dL_law_635 rfl ?_
  refine g_iconst (v := 1) O dL_law_637 (by decide) ?_
  refine g_iadd O dL_law_638 ?_
  refine gl_sld (nn := i + 1) O hX hb hbA (by omega) (by omega) (nI_add i 1) dL_law_639 ?_
  refine g_aload_n O dL_law_640 rfl ?_
  refine g_iload O dL_law_641 rfl ?_
  refine g_iconst (v := 2) O dL_law_643 (by decide) ?_
  refine g_iadd O dL_law_644 ?_
  refine gl_sld (nn := i + 2) O hX hb hbA (by omega) (by omega) (nI_add i 2) dL_law_645 ?_
  refine gl_Vi (nA := 2) (As := [.int (xs (i + 1)), .int (xs (i + 2))]) (rest := []) O hRm hm.1 (cM_where _ O.2.2.2.2.2.2.2.2 (cxE X) _ _ _ V1 _ mb hm (V1 mb) ((xs (i + 1))) ((xs (i + 2))) _ w) (lw_V q2180 q2181 q2182 q134 q2183) rfl rfl (by decide +kernel) ⟨Nat.le_of_ble_eq_true rfl, Nat.le_of_ble_eq_true rfl⟩ rfl rfl rfl (Nat.le_of_ble_eq_true rfl) dL_law_646 (kOk.m hk) (fun b9 s9 w => ?_)
  obtain ⟨e8, e9, w⟩ := w
  generalize eV2 : up1 V1 mb s9 = V2 at w ⊢
  have v8 : V2 mb = s9 := by rw [← eV2]; exact up1_s
  rw [eV2] at e9
  rw [← v8] at e8
  refine g_istore (lv' := [some (.ref b), some (.ref x), some (.ref mb), some (.ref o), some (.int (nI i)), some (.int r), some (.int b9)]) O dL_law_649 (Nat.le_of_ble_eq_true rfl) rfl rfl ?_
  refine g_aload_n O dL_law_651 rfl ?_
  refine gl_Vi0 (nA := 0) (As := []) (rest := []) O hRm hm.1 (cM_thrown _ O.2.2.2.2.2.2.2.2 (cxE X) _ _ _ V2 _ mb hm (V2 mb) (fun t0 => t0 = V2 mb 0 2) rfl) (lw_V q1918 q1919 q1920 q134 q1921) rfl rfl (by decide +kernel) ⟨Nat.le_of_ble_eq_true rfl, Nat.le_of_ble_eq_true rfl⟩ rfl rfl rfl (Nat.le_of_ble_eq_true rfl) dL_law_652 (kOk.m hk) (fun t0 ht0 => ?_)
  refine g_iload O dL_law_655 rfl ?_
  refine g_icmp_eq_t (tgt := 662) O (ht0.trans e8) dL_law_657 (by decide) ?_
  refine g_iload O dL_law_662 rfl ?_
  by_cases hr : r = 0
  · refine g_if_ne_f O hr dL_law_664 679 (by decide) ?_
    refine g_aload_n O dL_law_667 rfl ?_
    refine g_iconst (v := 0) O dL_law_668 (by decide) ?_
    refine gl_lald (nn := 0) O ho hl1 (by decide) hl2 rfl dL_law_669 ?_
    refine g_iload O dL_law_670 rfl ?_
    refine g_i2l O dL_law_672 ?_
    refine g_lcmp O dL_law_673 ?_
    refine g_if_eq_t (tgt := 679) O (by rw [e9 hr]; exact lg_same _) dL_law_674 (by decide) ?_
    refine g_goto (tgt := 2211) O dL_law_679 (by decide) ?_
    refine g_drop [5, 6] (lv' := [some (.ref b), some (.ref x), some (.ref mb), some (.ref o), some (.int (nI i)), none, none]) rfl ?_
    exact hpost _ _ _ _ _ _ _ _ hk hx ho hm w
  · refine g_if_ne_t (tgt := 679) O hr dL_law_664 (by decide) ?_
    refine g_goto (tgt := 2211) O dL_law_679 (by decide) ?_
    refine g_drop [5, 6] (lv' := [some (.ref b), some (.ref x), some (.ref mb), some (.ref o), some (.int (nI i)), none, none]) rfl ?_
    exact hpost _ _ _ _ _ _ _ _ hk hx ho hm w
set_option maxHeartbeats 4000000 in
theorem vL_proof {X : Cx} (O : Okc X cL_law RX0 7 (some .boolean)) (hRm : cxR X = room_1) {b Ls : Nat} {xs : Nat → Int32} (hS : lwS X b Ls xs) {k n U z : Nat} {T L : Nat → Nat} {V : w_V} {P : w_P} (i : Nat) (hi : i + 6 ≤ Ls) (x mb o : Nat) (hx : T x = 2) (ho : T o = 3003) (hl : 0 < L o ∧ L o < 2147483648) (hm : mOk (cxE X) T L P mb) (post : Nat → Nat → (Nat → Nat) → (Nat → Nat) → w_V → w_P → Prop) (hk : kOk room_1 k n U)
    (hpost : ∀ (k n U z : Nat) (T L : Nat → Nat) (V : w_V) (P : w_P), kOk room_1 k n U → T x = 2 → T o = 3003 → mOk (cxE X) T L P mb → post U z T L V P → gW X k n z T L V P 2211 [some (.ref b), some (.ref x), some (.ref mb), some (.ref o), some (.int (nI i)), none, none] [])
    (w : wL_proof (cxE X) U z T L V P x mb o (xs (i + 1)) (xs (i + 2)) post) : gW X k n z T L V P 682 [some (.ref b), some (.ref x), some (.ref mb), some (.ref o), some (.int (nI i)), none, none] [] := by
  obtain ⟨hX, hb, hbA, hLs⟩ := hS
  unfold wL_proof at w
  refine g_aload_n O dL_law_682 rfl ?_
  refine g_aload_n O dL_law_683 rfl ?_
  refine g_iload O dL_law_684 rfl ?_
  refine g_iconst (v := 1) O dL_law_686 (by decide) ?_
  refine g_iadd O dL_law_687 ?_
  refine gl_sld (nn := i + 1) O hX hb hbA (by omega) (by omega) (nI_add i 1) dL_law_688 ?_
  refine g_aload_n O dL_law_689 rfl ?_
  refine g_iload O dL_law_690 rfl ?_
  refine g_iconst (v := 2) O dL_law_692 (by decide) ?_
  refine g_iadd O dL_law_693 ?_
  refine gl_sld (nn := i + 2) O hX hb hbA (by omega) (by omega) (nI_add i 2) dL_law_694 ?_
  refine g_aload_n O dL_law_695 rfl ?_
  obtain ⟨c1, U2, e1, w⟩ := w
  have hk9 := kOk.eq hk e1
  refine gh_fi (xp := fun _ _ _ _ _ _ _ => False) (grx_SX (nA := 4) (As := [.ref x, .int (xs (i + 1)), .int (xs (i + 2)), .ref o]) (rest := []) O hRm (kX0_proof _ O.2.2.2.2.2.2.2.2 (cxE X) _ _ _ _ _ _ x hx ((xs (i + 1))) ((xs (i + 2))) o ho _ w) (lw_SW q1495 q1496 q105 q1497) rfl rfl (by decide +kernel) ⟨Nat.le_of_ble_eq_true rfl, Nat.le_of_ble_eq_true rfl⟩ rfl rfl rfl (Nat.le_of_ble_eq_true rfl) dL_law_696 (kOk.fa hk9)) (fun _ _ _ _ _ _ _ h => h.elim) (fun r z T L V1 P1 w => ?_)
  obtain ⟨hx, ho, hl1, hl2, hm, w⟩ := w
  have hk := kOk.sa hk9
  refine g_istore (lv' := [some (.ref b), some (.ref x), some (.ref mb), some (.ref o), some (.int (nI i)), some (.int r), none]) O dL_law_699 (Nat.le_of_ble_eq_true rfl) rfl rfl ?_
  refine g_aload_n O dL_law_701 rfl ?_
  refine g_aload_n O dL_law_702 rfl ?_
  refine g_iload O dL_law_703 rfl ?_
  refine g_iconst (v := 1) O dL_law_705 (by decide) ?_
  refine g_iadd O dL_law_706 ?_
  refine gl_sld (nn := i + 1) O hX hb hbA (by omega) (by omega) (nI_add i 1) dL_law_707 ?_
  refine g_aload_n O dL_law_708 rfl ?_
  refine g_iload O dL_law_709 rfl ?_
  refine g_iconst (v := 2) O dL_law_711 (by decide) ?_
  refine g_iadd O dL_law_712 ?_
  refine gl_sld (nn := i + 2) O hX hb hbA (by omega) (by omega) (nI_add i 2) dL_law_713 ?_
  refine gl_Vi (nA := 2) (As := [.int (xs (i + 1)), .int (xs (i + 2))]) (rest := []) O hRm hm.1 (cM_proof _ O.2.2.2.2.2.2.2.2 (cxE X) _ _ _ V1 _ mb hm (V1 mb) ((xs (i + 1))) ((xs (i + 2))) _ w) (lw_V q2184 q2185 q2186 q134 q2187) rfl rfl (by decide +kernel) ⟨Nat.le_of_ble_eq_true rfl, Nat.le_of_ble_eq_true rfl⟩ rfl rfl rfl (Nat.le_of_ble_eq_true rfl) dL_law_714 (kOk.m hk) (fun b9 s9 w => ?_)
  obtain ⟨e8, e9, w⟩ := w
  generalize eV2 : up1 V1 mb s9 = V2 at w ⊢
  have v8 : V2 mb = s9 := by rw [← eV2]; exact up1_s
  rw [eV2] at e9
  rw [← v8] at e8
  refine g_istore (lv' := [some (.ref b), some (.ref x), some (.ref mb), some (.ref o), some (.int (nI i)), some (.int r), some (.int b9)]) O dL_law_717 (Nat.le_of_ble_eq_true rfl) rfl rfl ?_
  refine g_aload_n O dL_law_719 rfl ?_
  refine gl_Vi0 (nA := 0) (As := []) (rest := []) O hRm hm.1 (cM_thrown _ O.2.2.2.2.2.2.2.2 (cxE X) _ _ _ V2 _ mb hm (V2 mb) (fun t0 => t0 = V2 mb 0 2) rfl) (lw_V q1918 q1919 q1920 q134 q1921) rfl rfl (by decide +kernel) ⟨Nat.le_of_ble_eq_true rfl, Nat.le_of_ble_eq_true rfl⟩ rfl rfl rfl (Nat.le_of_ble_eq_true rfl) dL_law_720 (kOk.m hk) (fun t0 ht0 => ?_)
  refine g_iload O dL_law_723 rfl ?_
  refine g_icmp_eq_t (tgt := 730) O (ht0.trans e8) dL_law_725 (by decide) ?_
  refine g_iload O dL_law_730 rfl ?_
  by_cases hr : r = 0
  · refine g_if_ne_f O hr dL_law_732 747 (by decide) ?_
    refine g_aload_n O dL_law_735 rfl ?_
    refine g_iconst (v := 0) O dL_law_736 (by decide) ?_
    refine gl_lald (nn := 0) O ho hl1 (by decide) hl2 rfl dL_law_737 ?_
    refine g_iload O dL_law_738 rfl ?_
    refine g_i2l O dL_law_740 ?_
    refine g_lcmp O dL_law_741 ?_
    refine g_if_eq_t (tgt := 747) O (by rw [e9 hr]; exact lg_same _) dL_law_742 (by decide) ?_
    refine g_goto (tgt := 2211) O dL_law_747 (by decide) ?_
    refine g_drop [5, 6] (lv' := [some (.ref b), some (.ref x), some (.ref mb), some (.ref o), some (.int (nI i)), none, none]) rfl ?_
    exact hpost _ _ _ _ _ _ _ _ hk hx ho hm w
  · refine g_if_ne_t (tgt := 747) O hr dL_law_732 (by decide) ?_
    refine g_goto (tgt := 2211) O dL_law_747 (by decide) ?_
    refine g_drop [5, 6] (lv' := [some (.ref b), some (.ref x), some (.ref mb), some (.ref o), some (.int (nI i)), none, none]) rfl ?_
    exact hpost _ _ _ _ _ _ _ _ hk hx ho hm w
set_option maxHeartbeats 4000000 in
theorem vL_said {X : Cx} (O : Okc X cL_law RX0 7 (some .boolean)) (hRm : cxR X = room_1) {b Ls : Nat} {xs : Nat → Int32} (hS : lwS X b Ls xs) {k n U z : Nat} {T L : Nat → Nat} {V : w_V} {P : w_P} (i : Nat) (hi : i + 6 ≤ Ls) (x mb o : Nat) (hx : T x = 2) (ho : T o = 3003) (hl : 0 < L o ∧ L o < 2147483648) (hm : mOk (cxE X) T L P mb) (post : Nat → Nat → (Nat → Nat) → (Nat → Nat) → w_V → w_P → Prop) (hk : kOk room_1 k n U)
    (hpost : ∀ (k n U z : Nat) (T L : Nat → Nat) (V : w_V) (P : w_P), kOk room_1 k n U → T x = 2 → T o = 3003 → mOk (cxE X) T L P mb → post U z T L V P → gW X k n z T L V P 2211 [some (.ref b), some (.ref x), some (.ref mb), some (.ref o), some (.int (nI i)), none, none] [])
    (w : wL_said (cxE X) U z T L V P x mb o (xs (i + 1)) (xs (i + 2)) (xs (i + 3)) post) : gW X k n z T L V P 750 [some (.ref b), some (.ref x), some (.ref mb), some (.ref o), some (.int (nI i)), none, none] [] := by
  obtain ⟨hX, hb, hbA, hLs⟩ := hS
  unfold wL_said at w
  refine g_aload_n O dL_law_750 rfl ?_
  refine g_aload_n O dL_law_751 rfl ?_
  refine g_iload O dL_law_752 rfl ?_
  refine g_iconst (v := 1) O dL_law_754 (by decide) ?_
  refine g_iadd O dL_law_755 ?_
  refine gl_sld (nn := i + 1) O hX hb hbA (by omega) (by omega) (nI_add i 1) dL_law_756 ?_
  refine g_aload_n O dL_law_757 rfl ?_
  refine g_iload O dL_law_758 rfl ?_
  refine g_iconst (v := 2) O dL_law_760 (by decide) ?_
  refine g_iadd O dL_law_761 ?_
  refine gl_sld (nn := i + 2) O hX hb hbA (by omega) (by omega) (nI_add i 2) dL_law_762 ?_
  refine g_aload_n O dL_law_763 rfl ?_
  refine g_iload O dL_law_764 rfl ?_
  refine g_iconst (v := 3) O dL_law_766 (by decide) ?_
  refine g_iadd O dL_law_767 ?_
  refine gl_sld (nn := i + 3) O hX hb hbA (by omega) (by omega) (nI_add i 3) dL_law_768 ?_
  refine g_aload_n O dL_law_769 rfl ?_
  obtain ⟨c1, U2, e1, w⟩ := w
  have hk9 := kOk.eq hk e1
  refine gh_fi (xp := fun _ _ _ _ _ _ _ => False) (grx_SX (nA := 5) (As := [.ref x, .int (xs (i + 1)), .int (xs (i + 2)), .int (xs (i + 3)), .ref o]) (rest := []) O hRm (kX0_said _ O.2.2.2.2.2.2.2.2 (cxE X) _ _ _ _ _ _ x hx ((xs (i + 1))) ((xs (i + 2))) ((xs (i + 3))) o ho _ w) (lw_SW q1507 q1508 q105 q1509) rfl rfl (by decide +kernel) ⟨Nat.le_of_ble_eq_true rfl, Nat.le_of_ble_eq_true rfl⟩ rfl rfl rfl (Nat.le_of_ble_eq_true rfl) dL_law_770 (kOk.fa hk9)) (fun _ _ _ _ _ _ _ h => h.elim) (fun r z T L V1 P1 w => ?_)
  obtain ⟨hx, ho, hl1, hl2, hm, w⟩ := w
  have hk := kOk.sa hk9
  refine g_istore (lv' := [some (.ref b), some (.ref x), some (.ref mb), some (.ref o), some (.int (nI i)), some (.int r), none]) O dL_law_773 (Nat.le_of_ble_eq_true rfl) rfl rfl ?_
  refine g_aload_n O dL_law_775 rfl ?_
  refine g_aload_n O dL_law_776 rfl ?_
  refine g_iload O dL_law_777 rfl ?_
  refine g_iconst (v := 1) O dL_law_779 (by decide) ?_
  refine g_iadd O dL_law_780 ?_
  refine gl_sld (nn := i + 1) O hX hb hbA (by omega) (by omega) (nI_add i 1) dL_law_781 ?_
  refine g_aload_n O dL_law_782 rfl ?_
  refine g_iload O dL_law_783 rfl ?_
  refine g_iconst (v := 2) O dL_law_785 (by decide) ?_
  refine g_iadd O dL_law_786 ?_
  refine gl_sld (nn := i + 2) O hX hb hbA (by omega) (by omega) (nI_add i 2) dL_law_787 ?_
  refine g_aload_n O dL_law_788 rfl ?_
  refine g_iload O dL_law_789 rfl ?_
  refine g_iconst (v := 3) O dL_law_791 (by decide) ?_
  refine g_iadd O dL_law_792 ?_
  refine gl_sld (nn := i + 3) O hX hb hbA (by omega) (by omega) (nI_add i 3) dL_law_793 ?_
  refine gl_Vi (nA := 3) (As := [.int (xs (i + 1)), .int (xs (i + 2)), .int (xs (i + 3))]) (rest := []) O hRm hm.1 (cM_said _ O.2.2.2.2.2.2.2.2 (cxE X) _ _ _ V1 _ mb hm (V1 mb) ((xs (i + 1))) ((xs (i + 2))) ((xs (i + 3))) _ w) (lw_V q2192 q2193 q2194 q134 q2195) rfl rfl (by decide +kernel) ⟨Nat.le_of_ble_eq_true rfl, Nat.le_of_ble_eq_true rfl⟩ rfl rfl rfl (Nat.le_of_ble_eq_true rfl) dL_law_794 (kOk.m hk) (fun b9 s9 w => ?_)
  obtain ⟨e8, e9, w⟩ := w
  generalize eV2 : up1 V1 mb s9 = V2 at w ⊢
  have v8 : V2 mb = s9 := by rw [← eV2]; exact up1_s
  rw [eV2] at e9
  rw [← v8] at e8
  refine g_istore (lv' := [some (.ref b), some (.ref x), some (.ref mb), some (.ref o), some (.int (nI i)), some (.int r), some (.int b9)]) O dL_law_797 (Nat.le_of_ble_eq_true rfl) rfl rfl ?_
  refine g_aload_n O dL_law_799 rfl ?_
  refine gl_Vi0 (nA := 0) (As := []) (rest := []) O hRm hm.1 (cM_thrown _ O.2.2.2.2.2.2.2.2 (cxE X) _ _ _ V2 _ mb hm (V2 mb) (fun t0 => t0 = V2 mb 0 2) rfl) (lw_V q1918 q1919 q1920 q134 q1921) rfl rfl (by decide +kernel) ⟨Nat.le_of_ble_eq_true rfl, Nat.le_of_ble_eq_true rfl⟩ rfl rfl rfl (Nat.le_of_ble_eq_true rfl) dL_law_800 (kOk.m hk) (fun t0 ht0 => ?_)
  refine g_iload O dL_law_803 rfl ?_
  refine g_icmp_eq_t (tgt := 810) O (ht0.trans e8) dL_law_805 (by decide) ?_
  refine g_iload O dL_law_810 rfl ?_
  by_cases hr : r = 0
  · refine g_if_ne_f O hr dL_law_812 827 (by decide) ?_
    refine g_aload_n O dL_law_815 rfl ?_
    refine g_iconst (v := 0) O dL_law_816 (by decide) ?_
    refine gl_lald (nn := 0) O ho hl1 (by decide) hl2 rfl dL_law_817 ?_
    refine g_iload O dL_law_818 rfl ?_
    refine g_i2l O dL_law_820 ?_
    refine g_lcmp O dL_law_821 ?_
    refine g_if_eq_t (tgt := 827) O (by rw [e9 hr]; exact lg_same _) dL_law_822 (by decide) ?_
    refine g_goto (tgt := 2211) O dL_law_827 (by decide) ?_
    refine g_drop [5, 6] (lv' := [some (.ref b), some (.ref x), some (.ref mb), some (.ref o), some (.int (nI i)), none, none]) rfl ?_
    exact hpost _ _ _ _ _ _ _ _ hk hx ho hm w
  · refine g_if_ne_t (tgt := 827) O hr dL_law_812 (by decide) ?_
    refine g_goto (tgt := 2211) O dL_law_827 (by decide) ?_
    refine g_drop [5, 6] (lv' := [some (.ref b), some (.ref x), some (.ref mb), some (.ref o), some (.int (nI i)), none, none]) rfl ?_
    exact hpost _ _ _ _ _ _ _ _ hk hx ho hm w
set_option maxHeartbeats 4000000 in
theorem vL_met {X : Cx} (O : Okc X cL_law RX0 7 (some .boolean)) (hRm : cxR X = room_1) {b Ls : Nat} {xs : Nat → Int32} (hS : lwS X b Ls xs) {k n U z : Nat} {T L : Nat → Nat} {V : w_V} {P : w_P} (i : Nat) (hi : i + 6 ≤ Ls) (x mb o : Nat) (hx : T x = 2) (ho : T o = 3003) (hl : 0 < L o ∧ L o < 2147483648) (hm : mOk (cxE X) T L P mb) (post : Nat → Nat → (Nat → Nat) → (Nat → Nat) → w_V → w_P → Prop) (hk : kOk room_1 k n U)
    (hpost : ∀ (k n U z : Nat) (T L : Nat → Nat) (V : w_V) (P : w_P), kOk room_1 k n U → T x = 2 → T o = 3003 → mOk (cxE X) T L P mb → post U z T L V P → gW X k n z T L V P 2211 [some (.ref b), some (.ref x), some (.ref mb), some (.ref o), some (.int (nI i)), none, none] [])
    (w : wL_met (cxE X) U z T L V P x mb o (xs (i + 1)) (xs (i + 2)) post) : gW X k n z T L V P 830 [some (.ref b), some (.ref x), some (.ref mb), some (.ref o), some (.int (nI i)), none, none] [] := by
  obtain ⟨hX, hb, hbA, hLs⟩ := hS
  unfold wL_met at w
  refine g_aload_n O dL_law_830 rfl ?_
  refine g_aload_n O dL_law_831 rfl ?_
  refine g_iload O dL_law_832 rfl ?_
  refine g_iconst (v := 1) O dL_law_834 (by decide) ?_
  refine g_iadd O dL_law_835 ?_
  refine gl_sld (nn := i + 1) O hX hb hbA (by omega) (by omega) (nI_add i 1) dL_law_836 ?_
  refine g_aload_n O dL_law_837 rfl ?_
  refine g_iload O dL_law_838 rfl ?_
  refine g_iconst (v := 2) O dL_law_840 (by decide) ?_
  refine g_iadd O dL_law_841 ?_
  refine gl_sld (nn := i + 2) O hX hb hbA (by omega) (by omega) (nI_add i 2) dL_law_842 ?_
  refine g_aload_n O dL_law_843 rfl ?_
  obtain ⟨c1, U2, e1, w⟩ := w
  have hk9 := kOk.eq hk e1
  refine gh_fi (xp := fun _ _ _ _ _ _ _ => False) (grx_SX (nA := 4) (As := [.ref x, .int (xs (i + 1)), .int (xs (i + 2)), .ref o]) (rest := []) O hRm (kX0_met _ O.2.2.2.2.2.2.2.2 (cxE X) _ _ _ _ _ _ x hx ((xs (i + 1))) ((xs (i + 2))) o ho _ w) (lw_SW q1514 q1515 q105 q1516) rfl rfl (by decide +kernel) ⟨Nat.le_of_ble_eq_true rfl, Nat.le_of_ble_eq_true rfl⟩ rfl rfl rfl (Nat.le_of_ble_eq_true rfl) dL_law_844 (kOk.fa hk9)) (fun _ _ _ _ _ _ _ h => h.elim) (fun r z T L V1 P1 w => ?_)
  obtain ⟨hx, ho, hl1, hl2, hm, w⟩ := w
  have hk := kOk.sa hk9
  refine g_istore (lv' := [some (.ref b), some (.ref x), some (.ref mb), some (.ref o), some (.int (nI i)), some (.int r), none]) O dL_law_847 (Nat.le_of_ble_eq_true rfl) rfl rfl ?_
  refine g_aload_n O dL_law_849 rfl ?_
  refine g_aload_n O dL_law_850 rfl ?_
  refine g_iload O dL_law_851 rfl ?_
  refine g_iconst (v := 1) O dL_law_853 (by decide) ?_
  refine g_iadd O dL_law_854 ?_
  refine gl_sld (nn := i + 1) O hX hb hbA (by omega) (by omega) (nI_add i 1) dL_law_855 ?_
  refine g_aload_n O dL_law_856 rfl ?_
  refine g_iload O dL_law_857 rfl ?_
  refine g_iconst (v := 2) O dL_law_859 (by decide) ?_
  refine g_iadd O dL_law_860 ?_
  refine gl_sld (nn := i + 2) O hX hb hbA (by omega) (by omega) (nI_add i 2) dL_law_861 ?_
  refine gl_Vi (nA := 2) (As := [.int (xs (i + 1)), .int (xs (i + 2))]) (rest := []) O hRm hm.1 (cM_met _ O.2.2.2.2.2.2.2.2 (cxE X) _ _ _ V1 _ mb hm (V1 mb) ((xs (i + 1))) ((xs (i + 2))) _ w) (lw_V q2197 q2198 q2199 q134 q2200) rfl rfl (by decide +kernel) ⟨Nat.le_of_ble_eq_true rfl, Nat.le_of_ble_eq_true rfl⟩ rfl rfl rfl (Nat.le_of_ble_eq_true rfl) dL_law_862 (kOk.m hk) (fun b9 s9 w => ?_)
  obtain ⟨e8, e9, w⟩ := w
  generalize eV2 : up1 V1 mb s9 = V2 at w ⊢
  have v8 : V2 mb = s9 := by rw [← eV2]; exact up1_s
  rw [eV2] at e9
  rw [← v8] at e8
  refine g_istore (lv' := [some (.ref b), some (.ref x), some (.ref mb), some (.ref o), some (.int (nI i)), some (.int r), some (.int b9)]) O dL_law_865 (Nat.le_of_ble_eq_true rfl) rfl rfl ?_
  refine g_aload_n O dL_law_867 rfl ?_
  refine gl_Vi0 (nA := 0) (As := []) (rest := []) O hRm hm.1 (cM_thrown _ O.2.2.2.2.2.2.2.2 (cxE X) _ _ _ V2 _ mb hm (V2 mb) (fun t0 => t0 = V2 mb 0 2) rfl) (lw_V q1918 q1919 q1920 q134 q1921) rfl rfl (by decide +kernel) ⟨Nat.le_of_ble_eq_true rfl, Nat.le_of_ble_eq_true rfl⟩ rfl rfl rfl (Nat.le_of_ble_eq_true rfl) dL_law_868 (kOk.m hk) (fun t0 ht0 => ?_)
  refine g_iload O dL_law_871 rfl ?_
  refine g_icmp_eq_t (tgt := 878) O (ht0.trans e8) dL_law_873 (by decide) ?_
  refine g_iload O dL_law_878 rfl ?_
  by_cases hr : r = 0
  · refine g_if_ne_f O hr dL_law_880 895 (by decide) ?_
    refine g_aload_n O dL_law_883 rfl ?_
    refine g_iconst (v := 0) O dL_law_884 (by decide) ?_
    refine gl_lald (nn := 0) O ho hl1 (by decide) hl2 rfl dL_law_885 ?_
    refine g_iload O dL_law_886 rfl ?_
    refine g_i2l O dL_law_888 ?_
    refine g_lcmp O dL_law_889 ?_
    refine g_if_eq_t (tgt := 895) O (by rw [e9 hr]; exact lg_same _) dL_law_890 (by decide) ?_
    refine g_goto (tgt := 2211) O dL_law_895 (by decide) ?_
    refine g_drop [5, 6] (lv' := [some (.ref b), some (.ref x), some (.ref mb), some (.ref o), some (.int (nI i)), none, none]) rfl ?_
    exact hpost _ _ _ _ _ _ _ _ hk hx ho hm w
  · refine g_if_ne_t (tgt := 895) O hr dL_law_880 (by decide) ?_
    refine g_goto (tgt := 2211) O dL_law_895 (by decide) ?_
    refine g_drop [5, 6] (lv' := [some (.ref b), some (.ref x), some (.ref mb), some (.ref o), some (.int (nI i)), none, none]) rfl ?_
    exact hpost _ _ _ _ _ _ _ _ hk hx ho hm w
set_option maxHeartbeats 4000000 in
theorem vL_guilty {X : Cx} (O : Okc X cL_law RX0 7 (some .boolean)) (hRm : cxR X = room_1) {b Ls : Nat} {xs : Nat → Int32} (hS : lwS X b Ls xs) {k n U z : Nat} {T L : Nat → Nat} {V : w_V} {P : w_P} (i : Nat) (hi : i + 6 ≤ Ls) (x mb o : Nat) (hx : T x = 2) (ho : T o = 3003) (hl : 0 < L o ∧ L o < 2147483648) (hm : mOk (cxE X) T L P mb) (post : Nat → Nat → (Nat → Nat) → (Nat → Nat) → w_V → w_P → Prop) (hk : kOk room_1 k n U)
    (hpost : ∀ (k n U z : Nat) (T L : Nat → Nat) (V : w_V) (P : w_P), kOk room_1 k n U → T x = 2 → T o = 3003 → mOk (cxE X) T L P mb → post U z T L V P → gW X k n z T L V P 2211 [some (.ref b), some (.ref x), some (.ref mb), some (.ref o), some (.int (nI i)), none, none] [])
    (w : wL_guilty (cxE X) U z T L V P x mb o (xs (i + 1)) (xs (i + 2)) post) : gW X k n z T L V P 898 [some (.ref b), some (.ref x), some (.ref mb), some (.ref o), some (.int (nI i)), none, none] [] := by
  obtain ⟨hX, hb, hbA, hLs⟩ := hS
  unfold wL_guilty at w
  refine g_aload_n O dL_law_898 rfl ?_
  refine g_aload_n O dL_law_899 rfl ?_
  refine g_iload O dL_law_900 rfl ?_
  refine g_iconst (v := 1) O dL_law_902 (by decide) ?_
  refine g_iadd O dL_law_903 ?_
  refine gl_sld (nn := i + 1) O hX hb hbA (by omega) (by omega) (nI_add i 1) dL_law_904 ?_
  refine g_aload_n O dL_law_905 rfl ?_
  refine g_iload O dL_law_906 rfl ?_
  refine g_iconst (v := 2) O dL_law_908 (by decide) ?_
  refine g_iadd O dL_law_909 ?_
  refine gl_sld (nn := i + 2) O hX hb hbA (by omega) (by omega) (nI_add i 2) dL_law_910 ?_
  refine g_aload_n O dL_law_911 rfl ?_
  obtain ⟨c1, U2, e1, w⟩ := w
  have hk9 := kOk.eq hk e1
  refine gh_fi (xp := fun _ _ _ _ _ _ _ => False) (grx_SX (nA := 4) (As := [.ref x, .int (xs (i + 1)), .int (xs (i + 2)), .ref o]) (rest := []) O hRm (kX0_guilty _ O.2.2.2.2.2.2.2.2 (cxE X) _ _ _ _ _ _ x hx ((xs (i + 1))) ((xs (i + 2))) o ho _ w) (lw_SW q1521 q1522 q105 q1523) rfl rfl (by decide +kernel) ⟨Nat.le_of_ble_eq_true rfl, Nat.le_of_ble_eq_true rfl⟩ rfl rfl rfl (Nat.le_of_ble_eq_true rfl) dL_law_912 (kOk.fa hk9)) (fun _ _ _ _ _ _ _ h => h.elim) (fun r z T L V1 P1 w => ?_)
  obtain ⟨hx, ho, hl1, hl2, hm, w⟩ := w
  have hk := kOk.sa hk9
  refine g_istore (lv' := [some (.ref b), some (.ref x), some (.ref mb), some (.ref o), some (.int (nI i)), some (.int r), none]) O dL_law_915 (Nat.le_of_ble_eq_true rfl) rfl rfl ?_
  refine g_aload_n O dL_law_917 rfl ?_
  refine g_aload_n O dL_law_918 rfl ?_
  refine g_iload O dL_law_919 rfl ?_
  refine g_iconst (v := 1) O dL_law_921 (by decide) ?_
  refine g_iadd O dL_law_922 ?_
  refine gl_sld (nn := i + 1) O hX hb hbA (by omega) (by omega) (nI_add i 1) dL_law_923 ?_
  refine g_aload_n O dL_law_924 rfl ?_
  refine g_iload O dL_law_925 rfl ?_
  refine g_iconst (v := 2) O dL_law_927 (by decide) ?_
  refine g_iadd O dL_law_928 ?_
  refine gl_sld (nn := i + 2) O hX hb hbA (by omega) (by omega) (nI_add i 2) dL_law_929 ?_
  refine gl_Vi (nA := 2) (As := [.int (xs (i + 1)), .int (xs (i + 2))]) (rest := []) O hRm hm.1 (cM_guilty _ O.2.2.2.2.2.2.2.2 (cxE X) _ _ _ V1 _ mb hm (V1 mb) ((xs (i + 1))) ((xs (i + 2))) _ w) (lw_V q2201 q2202 q2203 q134 q2204) rfl rfl (by decide +kernel) ⟨Nat.le_of_ble_eq_true rfl, Nat.le_of_ble_eq_true rfl⟩ rfl rfl rfl (Nat.le_of_ble_eq_true rfl) dL_law_930 (kOk.m hk) (fun b9 s9 w => ?_)
  obtain ⟨e8, e9, w⟩ := w
  generalize eV2 : up1 V1 mb s9 = V2 at w ⊢
  have v8 : V2 mb = s9 := by rw [← eV2]; exact up1_s
  rw [eV2] at e9
  rw [← v8] at e8
  refine g_istore (lv' := [some (.ref b), some (.ref x), some (.ref mb), some (.ref o), some (.int (nI i)), some (.int r), some (.int b9)]) O dL_law_933 (Nat.le_of_ble_eq_true rfl) rfl rfl ?_
  refine g_aload_n O dL_law_935 rfl ?_
  refine gl_Vi0 (nA := 0) (As := []) (rest := []) O hRm hm.1 (cM_thrown _ O.2.2.2.2.2.2.2.2 (cxE X) _ _ _ V2 _ mb hm (V2 mb) (fun t0 => t0 = V2 mb 0 2) rfl) (lw_V q1918 q1919 q1920 q134 q1921) rfl rfl (by decide +kernel) ⟨Nat.le_of_ble_eq_true rfl, Nat.le_of_ble_eq_true rfl⟩ rfl rfl rfl (Nat.le_of_ble_eq_true rfl) dL_law_936 (kOk.m hk) (fun t0 ht0 => ?_)
  refine g_iload O dL_law_939 rfl ?_
  refine g_icmp_eq_t (tgt := 946) O (ht0.trans e8) dL_law_941 (by decide) ?_
  refine g_iload O dL_law_946 rfl ?_
  by_cases hr : r = 0
  · refine g_if_ne_f O hr dL_law_948 963 (by decide) ?_
    refine g_aload_n O dL_law_951 rfl ?_
    refine g_iconst (v := 0) O dL_law_952 (by decide) ?_
    refine gl_lald (nn := 0) O ho hl1 (by decide) hl2 rfl dL_law_953 ?_
    refine g_iload O dL_law_954 rfl ?_
    refine g_i2l O dL_law_956 ?_
    refine g_lcmp O dL_law_957 ?_
    refine g_if_eq_t (tgt := 963) O (by rw [e9 hr]; exact lg_same _) dL_law_958 (by decide) ?_
    refine g_goto (tgt := 2211) O dL_law_963 (by decide) ?_
    refine g_drop [5, 6] (lv' := [some (.ref b), some (.ref x), some (.ref mb), some (.ref o), some (.int (nI i)), none, none]) rfl ?_
    exact hpost _ _ _ _ _ _ _ _ hk hx ho hm w
  · refine g_if_ne_t (tgt := 963) O hr dL_law_948 (by decide) ?_
    refine g_goto (tgt := 2211) O dL_law_963 (by decide) ?_
    refine g_drop [5, 6] (lv' := [some (.ref b), some (.ref x), some (.ref mb), some (.ref o), some (.int (nI i)), none, none]) rfl ?_
    exact hpost _ _ _ _ _ _ _ _ hk hx ho hm w
set_option maxHeartbeats 4000000 in
theorem vL_news {X : Cx} (O : Okc X cL_law RX0 7 (some .boolean)) (hRm : cxR X = room_1) {b Ls : Nat} {xs : Nat → Int32} (hS : lwS X b Ls xs) {k n U z : Nat} {T L : Nat → Nat} {V : w_V} {P : w_P} (i : Nat) (hi : i + 6 ≤ Ls) (x mb o : Nat) (hx : T x = 2) (ho : T o = 3003) (hl : 0 < L o ∧ L o < 2147483648) (hm : mOk (cxE X) T L P mb) (post : Nat → Nat → (Nat → Nat) → (Nat → Nat) → w_V → w_P → Prop) (hk : kOk room_1 k n U)
    (hpost : ∀ (k n U z : Nat) (T L : Nat → Nat) (V : w_V) (P : w_P), kOk room_1 k n U → T x = 2 → T o = 3003 → mOk (cxE X) T L P mb → post U z T L V P → gW X k n z T L V P 2211 [some (.ref b), some (.ref x), some (.ref mb), some (.ref o), some (.int (nI i)), none, none] [])
    (w : wL_news (cxE X) U z T L V P x mb o (xs (i + 1)) (xs (i + 2)) post) : gW X k n z T L V P 966 [some (.ref b), some (.ref x), some (.ref mb), some (.ref o), some (.int (nI i)), none, none] [] := by
  obtain ⟨hX, hb, hbA, hLs⟩ := hS
  unfold wL_news at w
  refine g_aload_n O dL_law_966 rfl ?_
  refine g_aload_n O dL_law_967 rfl ?_
  refine g_iload O dL_law_968 rfl ?_
  refine g_iconst (v := 1) O dL_law_970 (by decide) ?_
  refine g_iadd O dL_law_971 ?_
  refine gl_sld (nn := i + 1) O hX hb hbA (by omega) (by omega) (nI_add i 1) dL_law_972 ?_
  refine g_aload_n O dL_law_973 rfl ?_
  refine g_iload O dL_law_974 rfl ?_
  refine g_iconst (v := 2) O dL_law_976 (by decide) ?_
  refine g_iadd O dL_law_977 ?_
  refine gl_sld (nn := i + 2) O hX hb hbA (by omega) (by omega) (nI_add i 2) dL_law_978 ?_
  refine g_aload_n O dL_law_979 rfl ?_
  obtain ⟨c1, U2, e1, w⟩ := w
  have hk9 := kOk.eq hk e1
  refine gh_fi (xp := fun _ _ _ _ _ _ _ => False) (grx_SX (nA := 4) (As := [.ref x, .int (xs (i + 1)), .int (xs (i + 2)), .ref o]) (rest := []) O hRm (kX0_news _ O.2.2.2.2.2.2.2.2 (cxE X) _ _ _ _ _ _ x hx ((xs (i + 1))) ((xs (i + 2))) o ho _ w) (lw_SW q1528 q1529 q105 q1530) rfl rfl (by decide +kernel) ⟨Nat.le_of_ble_eq_true rfl, Nat.le_of_ble_eq_true rfl⟩ rfl rfl rfl (Nat.le_of_ble_eq_true rfl) dL_law_980 (kOk.fa hk9)) (fun _ _ _ _ _ _ _ h => h.elim) (fun r z T L V1 P1 w => ?_)
  obtain ⟨hx, ho, hl1, hl2, hm, w⟩ := w
  have hk := kOk.sa hk9
  refine g_istore (lv' := [some (.ref b), some (.ref x), some (.ref mb), some (.ref o), some (.int (nI i)), some (.int r), none]) O dL_law_983 (Nat.le_of_ble_eq_true rfl) rfl rfl ?_
  refine g_aload_n O dL_law_985 rfl ?_
  refine g_aload_n O dL_law_986 rfl ?_
  refine g_iload O dL_law_987 rfl ?_
  refine g_iconst (v := 1) O dL_law_989 (by decide) ?_
  refine g_iadd O dL_law_990 ?_
  refine gl_sld (nn := i + 1) O hX hb hbA (by omega) (by omega) (nI_add i 1) dL_law_991 ?_
  refine g_aload_n O dL_law_992 rfl ?_
  refine g_iload O dL_law_993 rfl ?_
  refine g_iconst (v := 2) O dL_law_995 (by decide) ?_
  refine g_iadd O dL_law_996 ?_
  refine gl_sld (nn := i + 2) O hX hb hbA (by omega) (by omega) (nI_add i 2) dL_law_997 ?_
  refine gl_Vi (nA := 2) (As := [.int (xs (i + 1)), .int (xs (i + 2))]) (rest := []) O hRm hm.1 (cM_news _ O.2.2.2.2.2.2.2.2 (cxE X) _ _ _ V1 _ mb hm (V1 mb) ((xs (i + 1))) ((xs (i + 2))) _ w) (lw_V q2205 q2206 q2207 q134 q2208) rfl rfl (by decide +kernel) ⟨Nat.le_of_ble_eq_true rfl, Nat.le_of_ble_eq_true rfl⟩ rfl rfl rfl (Nat.le_of_ble_eq_true rfl) dL_law_998 (kOk.m hk) (fun b9 s9 w => ?_)
  obtain ⟨e8, e9, w⟩ := w
  generalize eV2 : up1 V1 mb s9 = V2 at w ⊢
  have v8 : V2 mb = s9 := by rw [← eV2]; exact up1_s
  rw [eV2] at e9
  rw [← v8] at e8
  refine g_istore (lv' := [some (.ref b), some (.ref x), some (.ref mb), some (.ref o), some (.int (nI i)), some (.int r), some (.int b9)]) O dL_law_1001 (Nat.le_of_ble_eq_true rfl) rfl rfl ?_
  refine g_aload_n O dL_law_1003 rfl ?_
  refine gl_Vi0 (nA := 0) (As := []) (rest := []) O hRm hm.1 (cM_thrown _ O.2.2.2.2.2.2.2.2 (cxE X) _ _ _ V2 _ mb hm (V2 mb) (fun t0 => t0 = V2 mb 0 2) rfl) (lw_V q1918 q1919 q1920 q134 q1921) rfl rfl (by decide +kernel) ⟨Nat.le_of_ble_eq_true rfl, Nat.le_of_ble_eq_true rfl⟩ rfl rfl rfl (Nat.le_of_ble_eq_true rfl) dL_law_1004 (kOk.m hk) (fun t0 ht0 => ?_)
  refine g_iload O dL_law_1007 rfl ?_
  refine g_icmp_eq_t (tgt := 1014) O (ht0.trans e8) dL_law_1009 (by decide) ?_
  refine g_iload O dL_law_1014 rfl ?_
  by_cases hr : r = 0
  · refine g_if_ne_f O hr dL_law_1016 1031 (by decide) ?_
    refine g_aload_n O dL_law_1019 rfl ?_
    refine g_iconst (v := 0) O dL_law_1020 (by decide) ?_
    refine gl_lald (nn := 0) O ho hl1 (by decide) hl2 rfl dL_law_1021 ?_
    refine g_iload O dL_law_1022 rfl ?_
    refine g_i2l O dL_law_1024 ?_
    refine g_lcmp O dL_law_1025 ?_
    refine g_if_eq_t (tgt := 1031) O (by rw [e9 hr]; exact lg_same _) dL_law_1026 (by decide) ?_
    refine g_goto (tgt := 2211) O dL_law_1031 (by decide) ?_
    refine g_drop [5, 6] (lv' := [some (.ref b), some (.ref x), some (.ref mb), some (.ref o), some (.int (nI i)), none, none]) rfl ?_
    exact hpost _ _ _ _ _ _ _ _ hk hx ho hm w
  · refine g_if_ne_t (tgt := 1031) O hr dL_law_1016 (by decide) ?_
    refine g_goto (tgt := 2211) O dL_law_1031 (by decide) ?_
    refine g_drop [5, 6] (lv' := [some (.ref b), some (.ref x), some (.ref mb), some (.ref o), some (.int (nI i)), none, none]) rfl ?_
    exact hpost _ _ _ _ _ _ _ _ hk hx ho hm w
set_option maxHeartbeats 4000000 in
theorem vL_start {X : Cx} (O : Okc X cL_law RX0 7 (some .boolean)) (hRm : cxR X = room_1) {b Ls : Nat} {xs : Nat → Int32} (hS : lwS X b Ls xs) {k n U z : Nat} {T L : Nat → Nat} {V : w_V} {P : w_P} (i : Nat) (hi : i + 6 ≤ Ls) (x mb o : Nat) (hx : T x = 2) (ho : T o = 3003) (hl : 0 < L o ∧ L o < 2147483648) (hm : mOk (cxE X) T L P mb) (post : Nat → Nat → (Nat → Nat) → (Nat → Nat) → w_V → w_P → Prop) (hk : kOk room_1 k n U)
    (hpost : ∀ (k n U z : Nat) (T L : Nat → Nat) (V : w_V) (P : w_P), kOk room_1 k n U → T x = 2 → T o = 3003 → mOk (cxE X) T L P mb → post U z T L V P → gW X k n z T L V P 2211 [some (.ref b), some (.ref x), some (.ref mb), some (.ref o), some (.int (nI i)), none, none] [])
    (w : wL_start (cxE X) U z T L V P x mb o (xs (i + 1)) (xs (i + 2)) post) : gW X k n z T L V P 1034 [some (.ref b), some (.ref x), some (.ref mb), some (.ref o), some (.int (nI i)), none, none] [] := by
  obtain ⟨hX, hb, hbA, hLs⟩ := hS
  unfold wL_start at w
  refine g_aload_n O dL_law_1034 rfl ?_
  refine g_aload_n O dL_law_1035 rfl ?_
  refine g_iload O dL_law_1036 rfl ?_
  refine g_iconst (v := 1) O dL_law_1038 (by decide) ?_
  refine g_iadd O dL_law_1039 ?_
  refine gl_sld (nn := i + 1) O hX hb hbA (by omega) (by omega) (nI_add i 1) dL_law_1040 ?_
  refine g_aload_n O dL_law_1041 rfl ?_
  refine g_iload O dL_law_1042 rfl ?_
  refine g_iconst (v := 2) O dL_law_1044 (by decide) ?_
  refine g_iadd O dL_law_1045 ?_
  refine gl_sld (nn := i + 2) O hX hb hbA (by omega) (by omega) (nI_add i 2) dL_law_1046 ?_
  refine g_aload_n O dL_law_1047 rfl ?_
  obtain ⟨c1, U2, e1, w⟩ := w
  have hk9 := kOk.eq hk e1
  refine gh_fi (xp := fun _ _ _ _ _ _ _ => False) (grx_SX (nA := 4) (As := [.ref x, .int (xs (i + 1)), .int (xs (i + 2)), .ref o]) (rest := []) O hRm (kX0_start _ O.2.2.2.2.2.2.2.2 (cxE X) _ _ _ _ _ _ x hx ((xs (i + 1))) ((xs (i + 2))) o ho _ w) (lw_SW q1536 q1537 q105 q1538) rfl rfl (by decide +kernel) ⟨Nat.le_of_ble_eq_true rfl, Nat.le_of_ble_eq_true rfl⟩ rfl rfl rfl (Nat.le_of_ble_eq_true rfl) dL_law_1048 (kOk.fa hk9)) (fun _ _ _ _ _ _ _ h => h.elim) (fun r z T L V1 P1 w => ?_)
  obtain ⟨hx, ho, hl1, hl2, hm, w⟩ := w
  have hk := kOk.sa hk9
  refine g_istore (lv' := [some (.ref b), some (.ref x), some (.ref mb), some (.ref o), some (.int (nI i)), some (.int r), none]) O dL_law_1051 (Nat.le_of_ble_eq_true rfl) rfl rfl ?_
  refine g_aload_n O dL_law_1053 rfl ?_
  refine g_aload_n O dL_law_1054 rfl ?_
  refine g_iload O dL_law_1055 rfl ?_
  refine g_iconst (v := 1) O dL_law_1057 (by decide) ?_
  refine g_iadd O dL_law_1058 ?_
  refine gl_sld (nn := i + 1) O hX hb hbA (by omega) (by omega) (nI_add i 1) dL_law_1059 ?_
  refine g_aload_n O dL_law_1060 rfl ?_
  refine g_iload O dL_law_1061 rfl ?_
  refine g_iconst (v := 2) O dL_law_1063 (by decide) ?_
  refine g_iadd O dL_law_1064 ?_
  refine gl_sld (nn := i + 2) O hX hb hbA (by omega) (by omega) (nI_add i 2) dL_law_1065 ?_
  refine gl_Vi (nA := 2) (As := [.int (xs (i + 1)), .int (xs (i + 2))]) (rest := []) O hRm hm.1 (cM_start _ O.2.2.2.2.2.2.2.2 (cxE X) _ _ _ V1 _ mb hm (V1 mb) ((xs (i + 1))) ((xs (i + 2))) _ w) (lw_V q2209 q2210 q2211 q134 q2212) rfl rfl (by decide +kernel) ⟨Nat.le_of_ble_eq_true rfl, Nat.le_of_ble_eq_true rfl⟩ rfl rfl rfl (Nat.le_of_ble_eq_true rfl) dL_law_1066 (kOk.m hk) (fun b9 s9 w => ?_)
  obtain ⟨e8, e9, w⟩ := w
  generalize eV2 : up1 V1 mb s9 = V2 at w ⊢
  have v8 : V2 mb = s9 := by rw [← eV2]; exact up1_s
  rw [eV2] at e9
  rw [← v8] at e8
  refine g_istore (lv' := [some (.ref b), some (.ref x), some (.ref mb), some (.ref o), some (.int (nI i)), some (.int r), some (.int b9)]) O dL_law_1069 (Nat.le_of_ble_eq_true rfl) rfl rfl ?_
  refine g_aload_n O dL_law_1071 rfl ?_
  refine gl_Vi0 (nA := 0) (As := []) (rest := []) O hRm hm.1 (cM_thrown _ O.2.2.2.2.2.2.2.2 (cxE X) _ _ _ V2 _ mb hm (V2 mb) (fun t0 => t0 = V2 mb 0 2) rfl) (lw_V q1918 q1919 q1920 q134 q1921) rfl rfl (by decide +kernel) ⟨Nat.le_of_ble_eq_true rfl, Nat.le_of_ble_eq_true rfl⟩ rfl rfl rfl (Nat.le_of_ble_eq_true rfl) dL_law_1072 (kOk.m hk) (fun t0 ht0 => ?_)
  refine g_iload O dL_law_1075 rfl ?_
  refine g_icmp_eq_t (tgt := 1082) O (ht0.trans e8) dL_law_1077 (by decide) ?_
  refine g_iload O dL_law_1082 rfl ?_
  by_cases hr : r = 0
  · refine g_if_ne_f O hr dL_law_1084 1099 (by decide) ?_
    refine g_aload_n O dL_law_1087 rfl ?_
    refine g_iconst (v := 0) O dL_law_1088 (by decide) ?_
    refine gl_lald (nn := 0) O ho hl1 (by decide) hl2 rfl dL_law_1089 ?_
    refine g_iload O dL_law_1090 rfl ?_
    refine g_i2l O dL_law_1092 ?_
    refine g_lcmp O dL_law_1093 ?_
    refine g_if_eq_t (tgt := 1099) O (by rw [e9 hr]; exact lg_same _) dL_law_1094 (by decide) ?_
    refine g_goto (tgt := 2211) O dL_law_1099 (by decide) ?_
    refine g_drop [5, 6] (lv' := [some (.ref b), some (.ref x), some (.ref mb), some (.ref o), some (.int (nI i)), none, none]) rfl ?_
    exact hpost _ _ _ _ _ _ _ _ hk hx ho hm w
  · refine g_if_ne_t (tgt := 1099) O hr dL_law_1084 (by decide) ?_
    refine g_goto (tgt := 2211) O dL_law_1099 (by decide) ?_
    refine g_drop [5, 6] (lv' := [some (.ref b), some (.ref x), some (.ref mb), some (.ref o), some (.int (nI i)), none, none]) rfl ?_
    exact hpost _ _ _ _ _ _ _ _ hk hx ho hm w
set_option maxHeartbeats 4000000 in
theorem vL_inn {X : Cx} (O : Okc X cL_law RX0 7 (some .boolean)) (hRm : cxR X = room_1) {b Ls : Nat} {xs : Nat → Int32} (hS : lwS X b Ls xs) {k n U z : Nat} {T L : Nat → Nat} {V : w_V} {P : w_P} (i : Nat) (hi : i + 6 ≤ Ls) (x mb o : Nat) (hx : T x = 2) (ho : T o = 3003) (hl : 0 < L o ∧ L o < 2147483648) (hm : mOk (cxE X) T L P mb) (post : Nat → Nat → (Nat → Nat) → (Nat → Nat) → w_V → w_P → Prop) (hk : kOk room_1 k n U)
    (hpost : ∀ (k n U z : Nat) (T L : Nat → Nat) (V : w_V) (P : w_P), kOk room_1 k n U → T x = 2 → T o = 3003 → mOk (cxE X) T L P mb → post U z T L V P → gW X k n z T L V P 2211 [some (.ref b), some (.ref x), some (.ref mb), some (.ref o), some (.int (nI i)), none, none] [])
    (w : wL_inn (cxE X) U z T L V P x mb o (xs (i + 1)) (xs (i + 2)) post) : gW X k n z T L V P 1102 [some (.ref b), some (.ref x), some (.ref mb), some (.ref o), some (.int (nI i)), none, none] [] := by
  obtain ⟨hX, hb, hbA, hLs⟩ := hS
  unfold wL_inn at w
  by_cases hbo : xs (i + 2) = 0
  · replace w := w.1 hbo
    refine g_aload_n O dL_law_1102 rfl ?_
    refine g_aload_n O dL_law_1103 rfl ?_
    refine g_iload O dL_law_1104 rfl ?_
    refine g_iconst (v := 1) O dL_law_1106 (by decide) ?_
    refine g_iadd O dL_law_1107 ?_
    refine gl_sld (nn := i + 1) O hX hb hbA (by omega) (by omega) (nI_add i 1) dL_law_1108 ?_
    refine g_aload_n O dL_law_1109 rfl ?_
    refine g_iload O dL_law_1110 rfl ?_
    refine g_iconst (v := 2) O dL_law_1112 (by decide) ?_
    refine g_iadd O dL_law_1113 ?_
    refine gl_sld (nn := i + 2) O hX hb hbA (by omega) (by omega) (nI_add i 2) dL_law_1114 ?_
    refine g_if_eq_t (tgt := 1122) O hbo dL_law_1115 (by decide) ?_
    refine g_iconst (v := 0) O dL_law_1122 (by decide) ?_
    refine g_aload_n O dL_law_1123 rfl ?_
    obtain ⟨c1, U2, e1, w⟩ := w
    have hk9 := kOk.eq hk e1
    refine gh_fi (xp := fun _ _ _ _ _ _ _ => False) (grx_SX (nA := 4) (As := [.ref x, .int (xs (i + 1)), .int 0, .ref o]) (rest := []) O hRm (kX0_inn _ O.2.2.2.2.2.2.2.2 (cxE X) _ _ _ _ _ _ x hx ((xs (i + 1))) (0) o ho _ w) (lw_SW q1560 q1561 q105 q1562) rfl rfl (by decide +kernel) ⟨Nat.le_of_ble_eq_true rfl, Nat.le_of_ble_eq_true rfl⟩ rfl rfl rfl (Nat.le_of_ble_eq_true rfl) dL_law_1124 (kOk.fa hk9)) (fun _ _ _ _ _ _ _ h => h.elim) (fun r z T L V1 P1 w => ?_)
    obtain ⟨hx, ho, hl1, hl2, hm, w⟩ := w
    have hk := kOk.sa hk9
    refine g_istore (lv' := [some (.ref b), some (.ref x), some (.ref mb), some (.ref o), some (.int (nI i)), some (.int r), none]) O dL_law_1127 (Nat.le_of_ble_eq_true rfl) rfl rfl ?_
    refine g_aload_n O dL_law_1129 rfl ?_
    refine g_aload_n O dL_law_1130 rfl ?_
    refine g_iload O dL_law_1131 rfl ?_
    refine g_iconst (v := 1) O dL_law_1133 (by decide) ?_
    refine g_iadd O dL_law_1134 ?_
    refine gl_sld (nn := i + 1) O hX hb hbA (by omega) (by omega) (nI_add i 1) dL_law_1135 ?_
    refine g_aload_n O dL_law_1136 rfl ?_
    refine g_iload O dL_law_1137 rfl ?_
    refine g_iconst (v := 2) O dL_law_1139 (by decide) ?_
    refine g_iadd O dL_law_1140 ?_
    refine gl_sld (nn := i + 2) O hX hb hbA (by omega) (by omega) (nI_add i 2) dL_law_1141 ?_
    refine g_if_eq_t (tgt := 1149) O hbo dL_law_1142 (by decide) ?_
    refine g_iconst (v := 0) O dL_law_1149 (by decide) ?_
    refine gl_Vi (nA := 2) (As := [.int (xs (i + 1)), .int 0]) (rest := []) O hRm hm.1 (cM_inn _ O.2.2.2.2.2.2.2.2 (cxE X) _ _ _ V1 _ mb hm (V1 mb) ((xs (i + 1))) (0) _ w) (lw_V q2226 q2227 q2228 q134 q2229) rfl rfl (by decide +kernel) ⟨Nat.le_of_ble_eq_true rfl, Nat.le_of_ble_eq_true rfl⟩ rfl rfl rfl (Nat.le_of_ble_eq_true rfl) dL_law_1150 (kOk.m hk) (fun b9 s9 w => ?_)
    obtain ⟨e8, e9, w⟩ := w
    generalize eV2 : up1 V1 mb s9 = V2 at w ⊢
    have v8 : V2 mb = s9 := by rw [← eV2]; exact up1_s
    rw [eV2] at e9
    rw [← v8] at e8
    refine g_istore (lv' := [some (.ref b), some (.ref x), some (.ref mb), some (.ref o), some (.int (nI i)), some (.int r), some (.int b9)]) O dL_law_1153 (Nat.le_of_ble_eq_true rfl) rfl rfl ?_
    refine g_aload_n O dL_law_1155 rfl ?_
    refine gl_Vi0 (nA := 0) (As := []) (rest := []) O hRm hm.1 (cM_thrown _ O.2.2.2.2.2.2.2.2 (cxE X) _ _ _ V2 _ mb hm (V2 mb) (fun t0 => t0 = V2 mb 0 2) rfl) (lw_V q1918 q1919 q1920 q134 q1921) rfl rfl (by decide +kernel) ⟨Nat.le_of_ble_eq_true rfl, Nat.le_of_ble_eq_true rfl⟩ rfl rfl rfl (Nat.le_of_ble_eq_true rfl) dL_law_1156 (kOk.m hk) (fun t0 ht0 => ?_)
    refine g_iload O dL_law_1159 rfl ?_
    refine g_icmp_eq_t (tgt := 1166) O (ht0.trans e8) dL_law_1161 (by decide) ?_
    refine g_iload O dL_law_1166 rfl ?_
    by_cases hr : r = 0
    · refine g_if_ne_f O hr dL_law_1168 1190 (by decide) ?_
      refine g_aload_n O dL_law_1171 rfl ?_
      refine g_iconst (v := 0) O dL_law_1172 (by decide) ?_
      refine gl_lald (nn := 0) O ho hl1 (by decide) hl2 rfl dL_law_1173 ?_
      refine g_iload O dL_law_1174 rfl ?_
      by_cases hb9 : b9 = 0
      · refine g_if_eq_t (tgt := 1183) O hb9 dL_law_1176 (by decide) ?_
        refine g_lconst (v := 0) O dL_law_1183 rfl ?_
        refine g_lcmp O dL_law_1184 ?_
        refine g_if_eq_t (tgt := 1190) O (by rw [e9 hr, if_pos hb9]; decide) dL_law_1185 (by decide) ?_
        refine g_goto (tgt := 2211) O dL_law_1190 (by decide) ?_
        refine g_drop [5, 6] (lv' := [some (.ref b), some (.ref x), some (.ref mb), some (.ref o), some (.int (nI i)), none, none]) rfl ?_
        exact hpost _ _ _ _ _ _ _ _ hk hx ho hm w
      · refine g_if_eq_f O hb9 dL_law_1176 1183 (by decide) ?_
        refine g_lconst (v := 1) O dL_law_1179 rfl ?_
        refine g_goto (tgt := 1184) O dL_law_1180 (by decide) ?_
        refine g_lcmp O dL_law_1184 ?_
        refine g_if_eq_t (tgt := 1190) O (by rw [e9 hr, if_neg hb9]; decide) dL_law_1185 (by decide) ?_
        refine g_goto (tgt := 2211) O dL_law_1190 (by decide) ?_
        refine g_drop [5, 6] (lv' := [some (.ref b), some (.ref x), some (.ref mb), some (.ref o), some (.int (nI i)), none, none]) rfl ?_
        exact hpost _ _ _ _ _ _ _ _ hk hx ho hm w
    · refine g_if_ne_t (tgt := 1190) O hr dL_law_1168 (by decide) ?_
      refine g_goto (tgt := 2211) O dL_law_1190 (by decide) ?_
      refine g_drop [5, 6] (lv' := [some (.ref b), some (.ref x), some (.ref mb), some (.ref o), some (.int (nI i)), none, none]) rfl ?_
      exact hpost _ _ _ _ _ _ _ _ hk hx ho hm w
  · replace w := w.2 hbo
    refine g_aload_n O dL_law_1102 rfl ?_
    refine g_aload_n O dL_law_1103 rfl ?_
    refine g_iload O dL_law_1104 rfl ?_
    refine g_iconst (v := 1) O dL_law_1106 (by decide) ?_
    refine g_iadd O dL_law_1107 ?_
    refine gl_sld (nn := i + 1) O hX hb hbA (by omega) (by omega) (nI_add i 1) dL_law_1108 ?_
    refine g_aload_n O dL_law_1109 rfl ?_
    refine g_iload O dL_law_1110 rfl ?_
    refine g_iconst (v := 2) O dL_law_1112 (by decide) ?_
    refine g_iadd O dL_law_1113 ?_
    refine gl_sld (nn := i + 2) O hX hb hbA (by omega) (by omega) (nI_add i 2) dL_law_1114 ?_
    refine g_if_eq_f O hbo dL_law_1115 1122 (by decide) ?_
    refine g_iconst (v := 1) O dL_law_1118 (by decide) ?_
    refine g_goto (tgt := 1123) O dL_law_1119 (by decide) ?_
    refine g_aload_n O dL_law_1123 rfl ?_
    obtain ⟨c1, U2, e1, w⟩ := w
    have hk9 := kOk.eq hk e1
    refine gh_fi (xp := fun _ _ _ _ _ _ _ => False) (grx_SX (nA := 4) (As := [.ref x, .int (xs (i + 1)), .int 1, .ref o]) (rest := []) O hRm (kX0_inn _ O.2.2.2.2.2.2.2.2 (cxE X) _ _ _ _ _ _ x hx ((xs (i + 1))) (1) o ho _ w) (lw_SW q1560 q1561 q105 q1562) rfl rfl (by decide +kernel) ⟨Nat.le_of_ble_eq_true rfl, Nat.le_of_ble_eq_true rfl⟩ rfl rfl rfl (Nat.le_of_ble_eq_true rfl) dL_law_1124 (kOk.fa hk9)) (fun _ _ _ _ _ _ _ h => h.elim) (fun r z T L V1 P1 w => ?_)
    obtain ⟨hx, ho, hl1, hl2, hm, w⟩ := w
    have hk := kOk.sa hk9
    refine g_istore (lv' := [some (.ref b), some (.ref x), some (.ref mb), some (.ref o), some (.int (nI i)), some (.int r), none]) O dL_law_1127 (Nat.le_of_ble_eq_true rfl) rfl rfl ?_
    refine g_aload_n O dL_law_1129 rfl ?_
    refine g_aload_n O dL_law_1130 rfl ?_
    refine g_iload O dL_law_1131 rfl ?_
    refine g_iconst (v := 1) O dL_law_1133 (by decide) ?_
    refine g_iadd O dL_law_1134 ?_
    refine gl_sld (nn := i + 1) O hX hb hbA (by omega) (by omega) (nI_add i 1) dL_law_1135 ?_
    refine g_aload_n O dL_law_1136 rfl ?_
    refine g_iload O dL_law_1137 rfl ?_
    refine g_iconst (v := 2) O dL_law_1139 (by decide) ?_
    refine g_iadd O dL_law_1140 ?_
    refine gl_sld (nn := i + 2) O hX hb hbA (by omega) (by omega) (nI_add i 2) dL_law_1141 ?_
    refine g_if_eq_f O hbo dL_law_1142 1149 (by decide) ?_
    refine g_iconst (v := 1) O dL_law_1145 (by decide) ?_
    refine g_goto (tgt := 1150) O dL_law_1146 (by decide) ?_
    refine gl_Vi (nA := 2) (As := [.int (xs (i + 1)), .int 1]) (rest := []) O hRm hm.1 (cM_inn _ O.2.2.2.2.2.2.2.2 (cxE X) _ _ _ V1 _ mb hm (V1 mb) ((xs (i + 1))) (1) _ w) (lw_V q2226 q2227 q2228 q134 q2229) rfl rfl (by decide +kernel) ⟨Nat.le_of_ble_eq_true rfl, Nat.le_of_ble_eq_true rfl⟩ rfl rfl rfl (Nat.le_of_ble_eq_true rfl) dL_law_1150 (kOk.m hk) (fun b9 s9 w => ?_)
    obtain ⟨e8, e9, w⟩ := w
    generalize eV2 : up1 V1 mb s9 = V2 at w ⊢
    have v8 : V2 mb = s9 := by rw [← eV2]; exact up1_s
    rw [eV2] at e9
    rw [← v8] at e8
    refine g_istore (lv' := [some (.ref b), some (.ref x), some (.ref mb), some (.ref o), some (.int (nI i)), some (.int r), some (.int b9)]) O dL_law_1153 (Nat.le_of_ble_eq_true rfl) rfl rfl ?_
    refine g_aload_n O dL_law_1155 rfl ?_
    refine gl_Vi0 (nA := 0) (As := []) (rest := []) O hRm hm.1 (cM_thrown _ O.2.2.2.2.2.2.2.2 (cxE X) _ _ _ V2 _ mb hm (V2 mb) (fun t0 => t0 = V2 mb 0 2) rfl) (lw_V q1918 q1919 q1920 q134 q1921) rfl rfl (by decide +kernel) ⟨Nat.le_of_ble_eq_true rfl, Nat.le_of_ble_eq_true rfl⟩ rfl rfl rfl (Nat.le_of_ble_eq_true rfl) dL_law_1156 (kOk.m hk) (fun t0 ht0 => ?_)
    refine g_iload O dL_law_1159 rfl ?_
    refine g_icmp_eq_t (tgt := 1166) O (ht0.trans e8) dL_law_1161 (by decide) ?_
    refine g_iload O dL_law_1166 rfl ?_
    by_cases hr : r = 0
    · refine g_if_ne_f O hr dL_law_1168 1190 (by decide) ?_
      refine g_aload_n O dL_law_1171 rfl ?_
      refine g_iconst (v := 0) O dL_law_1172 (by decide) ?_
      refine gl_lald (nn := 0) O ho hl1 (by decide) hl2 rfl dL_law_1173 ?_
      refine g_iload O dL_law_1174 rfl ?_
      by_cases hb9 : b9 = 0
      · refine g_if_eq_t (tgt := 1183) O hb9 dL_law_1176 (by decide) ?_
        refine g_lconst (v := 0) O dL_law_1183 rfl ?_
        refine g_lcmp O dL_law_1184 ?_
        refine g_if_eq_t (tgt := 1190) O (by rw [e9 hr, if_pos hb9]; decide) dL_law_1185 (by decide) ?_
        refine g_goto (tgt := 2211) O dL_law_1190 (by decide) ?_
        refine g_drop [5, 6] (lv' := [some (.ref b), some (.ref x), some (.ref mb), some (.ref o), some (.int (nI i)), none, none]) rfl ?_
        exact hpost _ _ _ _ _ _ _ _ hk hx ho hm w
      · refine g_if_eq_f O hb9 dL_law_1176 1183 (by decide) ?_
        refine g_lconst (v := 1) O dL_law_1179 rfl ?_
        refine g_goto (tgt := 1184) O dL_law_1180 (by decide) ?_
        refine g_lcmp O dL_law_1184 ?_
        refine g_if_eq_t (tgt := 1190) O (by rw [e9 hr, if_neg hb9]; decide) dL_law_1185 (by decide) ?_
        refine g_goto (tgt := 2211) O dL_law_1190 (by decide) ?_
        refine g_drop [5, 6] (lv' := [some (.ref b), some (.ref x), some (.ref mb), some (.ref o), some (.int (nI i)), none, none]) rfl ?_
        exact hpost _ _ _ _ _ _ _ _ hk hx ho hm w
    · refine g_if_ne_t (tgt := 1190) O hr dL_law_1168 (by decide) ?_
      refine g_goto (tgt := 2211) O dL_law_1190 (by decide) ?_
      refine g_drop [5, 6] (lv' := [some (.ref b), some (.ref x), some (.ref mb), some (.ref o), some (.int (nI i)), none, none]) rfl ?_
      exact hpost _ _ _ _ _ _ _ _ hk hx ho hm w
set_option maxHeartbeats 4000000 in
theorem vL_word {X : Cx} (O : Okc X cL_law RX0 7 (some .boolean)) (hRm : cxR X = room_1) {b Ls : Nat} {xs : Nat → Int32} (hS : lwS X b Ls xs) {k n U z : Nat} {T L : Nat → Nat} {V : w_V} {P : w_P} (i : Nat) (hi : i + 6 ≤ Ls) (x mb o : Nat) (hx : T x = 2) (ho : T o = 3003) (hl : 0 < L o ∧ L o < 2147483648) (hm : mOk (cxE X) T L P mb) (post : Nat → Nat → (Nat → Nat) → (Nat → Nat) → w_V → w_P → Prop) (hk : kOk room_1 k n U)
    (hpost : ∀ (k n U z : Nat) (T L : Nat → Nat) (V : w_V) (P : w_P), kOk room_1 k n U → T x = 2 → T o = 3003 → mOk (cxE X) T L P mb → post U z T L V P → gW X k n z T L V P 2211 [some (.ref b), some (.ref x), some (.ref mb), some (.ref o), some (.int (nI i)), none, none] [])
    (w : wL_word (cxE X) U z T L V P x mb o (xs (i + 1)) (xs (i + 2)) (xs (i + 3)) post) : gW X k n z T L V P 1193 [some (.ref b), some (.ref x), some (.ref mb), some (.ref o), some (.int (nI i)), none, none] [] := by
  obtain ⟨hX, hb, hbA, hLs⟩ := hS
  unfold wL_word at w
  refine g_aload_n O dL_law_1193 rfl ?_
  refine g_aload_n O dL_law_1194 rfl ?_
  refine g_iload O dL_law_1195 rfl ?_
  refine g_iconst (v := 1) O dL_law_1197 (by decide) ?_
  refine g_iadd O dL_law_1198 ?_
  refine gl_sld (nn := i + 1) O hX hb hbA (by omega) (by omega) (nI_add i 1) dL_law_1199 ?_
  refine g_aload_n O dL_law_1200 rfl ?_
  refine g_iload O dL_law_1201 rfl ?_
  refine g_iconst (v := 2) O dL_law_1203 (by decide) ?_
  refine g_iadd O dL_law_1204 ?_
  refine gl_sld (nn := i + 2) O hX hb hbA (by omega) (by omega) (nI_add i 2) dL_law_1205 ?_
  refine g_aload_n O dL_law_1206 rfl ?_
  refine g_iload O dL_law_1207 rfl ?_
  refine g_iconst (v := 3) O dL_law_1209 (by decide) ?_
  refine g_iadd O dL_law_1210 ?_
  refine gl_sld (nn := i + 3) O hX hb hbA (by omega) (by omega) (nI_add i 3) dL_law_1211 ?_
  refine g_aload_n O dL_law_1212 rfl ?_
  obtain ⟨c1, U2, e1, w⟩ := w
  have hk9 := kOk.eq hk e1
  refine gh_fi (xp := fun _ _ _ _ _ _ _ => False) (grx_SX (nA := 5) (As := [.ref x, .int (xs (i + 1)), .int (xs (i + 2)), .int (xs (i + 3)), .ref o]) (rest := []) O hRm (kX0_word _ O.2.2.2.2.2.2.2.2 (cxE X) _ _ _ _ _ _ x hx ((xs (i + 1))) ((xs (i + 2))) ((xs (i + 3))) o ho _ w) (lw_SW q1567 q1568 q105 q1569) rfl rfl (by decide +kernel) ⟨Nat.le_of_ble_eq_true rfl, Nat.le_of_ble_eq_true rfl⟩ rfl rfl rfl (Nat.le_of_ble_eq_true rfl) dL_law_1213 (kOk.fa hk9)) (fun _ _ _ _ _ _ _ h => h.elim) (fun r z T L V1 P1 w => ?_)
  obtain ⟨hx, ho, hl1, hl2, hm, w⟩ := w
  have hk := kOk.sa hk9
  refine g_istore (lv' := [some (.ref b), some (.ref x), some (.ref mb), some (.ref o), some (.int (nI i)), some (.int r), none]) O dL_law_1216 (Nat.le_of_ble_eq_true rfl) rfl rfl ?_
  refine g_aload_n O dL_law_1218 rfl ?_
  refine g_aload_n O dL_law_1219 rfl ?_
  refine g_iload O dL_law_1220 rfl ?_
  refine g_iconst (v := 1) O dL_law_1222 (by decide) ?_
  refine g_iadd O dL_law_1223 ?_
  refine gl_sld (nn := i + 1) O hX hb hbA (by omega) (by omega) (nI_add i 1) dL_law_1224 ?_
  refine g_aload_n O dL_law_1225 rfl ?_
  refine g_iload O dL_law_1226 rfl ?_
  refine g_iconst (v := 2) O dL_law_1228 (by decide) ?_
  refine g_iadd O dL_law_1229 ?_
  refine gl_sld (nn := i + 2) O hX hb hbA (by omega) (by omega) (nI_add i 2) dL_law_1230 ?_
  refine g_aload_n O dL_law_1231 rfl ?_
  refine g_iload O dL_law_1232 rfl ?_
  refine g_iconst (v := 3) O dL_law_1234 (by decide) ?_
  refine g_iadd O dL_law_1235 ?_
  refine gl_sld (nn := i + 3) O hX hb hbA (by omega) (by omega) (nI_add i 3) dL_law_1236 ?_
  refine gl_Vi (nA := 3) (As := [.int (xs (i + 1)), .int (xs (i + 2)), .int (xs (i + 3))]) (rest := []) O hRm hm.1 (cM_word _ O.2.2.2.2.2.2.2.2 (cxE X) _ _ _ V1 _ mb hm (V1 mb) ((xs (i + 1))) ((xs (i + 2))) ((xs (i + 3))) _ w) (lw_V q2230 q2231 q2232 q134 q2233) rfl rfl (by decide +kernel) ⟨Nat.le_of_ble_eq_true rfl, Nat.le_of_ble_eq_true rfl⟩ rfl rfl rfl (Nat.le_of_ble_eq_true rfl) dL_law_1237 (kOk.m hk) (fun b9 s9 w => ?_)
  obtain ⟨e8, e9, w⟩ := w
  generalize eV2 : up1 V1 mb s9 = V2 at w ⊢
  have v8 : V2 mb = s9 := by rw [← eV2]; exact up1_s
  rw [eV2] at e9
  rw [← v8] at e8
  refine g_istore (lv' := [some (.ref b), some (.ref x), some (.ref mb), some (.ref o), some (.int (nI i)), some (.int r), some (.int b9)]) O dL_law_1240 (Nat.le_of_ble_eq_true rfl) rfl rfl ?_
  refine g_aload_n O dL_law_1242 rfl ?_
  refine gl_Vi0 (nA := 0) (As := []) (rest := []) O hRm hm.1 (cM_thrown _ O.2.2.2.2.2.2.2.2 (cxE X) _ _ _ V2 _ mb hm (V2 mb) (fun t0 => t0 = V2 mb 0 2) rfl) (lw_V q1918 q1919 q1920 q134 q1921) rfl rfl (by decide +kernel) ⟨Nat.le_of_ble_eq_true rfl, Nat.le_of_ble_eq_true rfl⟩ rfl rfl rfl (Nat.le_of_ble_eq_true rfl) dL_law_1243 (kOk.m hk) (fun t0 ht0 => ?_)
  refine g_iload O dL_law_1246 rfl ?_
  refine g_icmp_eq_t (tgt := 1253) O (ht0.trans e8) dL_law_1248 (by decide) ?_
  refine g_iload O dL_law_1253 rfl ?_
  by_cases hr : r = 0
  · refine g_if_ne_f O hr dL_law_1255 1270 (by decide) ?_
    refine g_aload_n O dL_law_1258 rfl ?_
    refine g_iconst (v := 0) O dL_law_1259 (by decide) ?_
    refine gl_lald (nn := 0) O ho hl1 (by decide) hl2 rfl dL_law_1260 ?_
    refine g_iload O dL_law_1261 rfl ?_
    refine g_i2l O dL_law_1263 ?_
    refine g_lcmp O dL_law_1264 ?_
    refine g_if_eq_t (tgt := 1270) O (by rw [e9 hr]; exact lg_same _) dL_law_1265 (by decide) ?_
    refine g_goto (tgt := 2211) O dL_law_1270 (by decide) ?_
    refine g_drop [5, 6] (lv' := [some (.ref b), some (.ref x), some (.ref mb), some (.ref o), some (.int (nI i)), none, none]) rfl ?_
    exact hpost _ _ _ _ _ _ _ _ hk hx ho hm w
  · refine g_if_ne_t (tgt := 1270) O hr dL_law_1255 (by decide) ?_
    refine g_goto (tgt := 2211) O dL_law_1270 (by decide) ?_
    refine g_drop [5, 6] (lv' := [some (.ref b), some (.ref x), some (.ref mb), some (.ref o), some (.int (nI i)), none, none]) rfl ?_
    exact hpost _ _ _ _ _ _ _ _ hk hx ho hm w
set_option maxHeartbeats 4000000 in
theorem vL_feast {X : Cx} (O : Okc X cL_law RX0 7 (some .boolean)) (hRm : cxR X = room_1) {b Ls : Nat} {xs : Nat → Int32} (hS : lwS X b Ls xs) {k n U z : Nat} {T L : Nat → Nat} {V : w_V} {P : w_P} (i : Nat) (hi : i + 6 ≤ Ls) (x mb o : Nat) (hx : T x = 2) (ho : T o = 3003) (hl : 0 < L o ∧ L o < 2147483648) (hm : mOk (cxE X) T L P mb) (post : Nat → Nat → (Nat → Nat) → (Nat → Nat) → w_V → w_P → Prop) (hk : kOk room_1 k n U)
    (hpost : ∀ (k n U z : Nat) (T L : Nat → Nat) (V : w_V) (P : w_P), kOk room_1 k n U → T x = 2 → T o = 3003 → mOk (cxE X) T L P mb → post U z T L V P → gW X k n z T L V P 2211 [some (.ref b), some (.ref x), some (.ref mb), some (.ref o), some (.int (nI i)), none, none] [])
    (w : wL_feast (cxE X) U z T L V P x mb o (xs (i + 1)) (xs (i + 2)) (xs (i + 3)) post) : gW X k n z T L V P 1273 [some (.ref b), some (.ref x), some (.ref mb), some (.ref o), some (.int (nI i)), none, none] [] := by
  obtain ⟨hX, hb, hbA, hLs⟩ := hS
  unfold wL_feast at w
  refine g_aload_n O dL_law_1273 rfl ?_
  refine g_aload_n O dL_law_1274 rfl ?_
  refine g_iload O dL_law_1275 rfl ?_
  refine g_iconst (v := 1) O dL_law_1277 (by decide) ?_
  refine g_iadd O dL_law_1278 ?_
  refine gl_sld (nn := i + 1) O hX hb hbA (by omega) (by omega) (nI_add i 1) dL_law_1279 ?_
  refine g_aload_n O dL_law_1280 rfl ?_
  refine g_iload O dL_law_1281 rfl ?_
  refine g_iconst (v := 2) O dL_law_1283 (by decide) ?_
  refine g_iadd O dL_law_1284 ?_
  refine gl_sld (nn := i + 2) O hX hb hbA (by omega) (by omega) (nI_add i 2) dL_law_1285 ?_
  refine g_aload_n O dL_law_1286 rfl ?_
  refine g_iload O dL_law_1287 rfl ?_
  refine g_iconst (v := 3) O dL_law_1289 (by decide) ?_
  refine g_iadd O dL_law_1290 ?_
  refine gl_sld (nn := i + 3) O hX hb hbA (by omega) (by omega) (nI_add i 3) dL_law_1291 ?_
  refine g_aload_n O dL_law_1292 rfl ?_
  obtain ⟨c1, U2, e1, w⟩ := w
  have hk9 := kOk.eq hk e1
  refine gh_fi (xp := fun _ _ _ _ _ _ _ => False) (grx_SX (nA := 5) (As := [.ref x, .int (xs (i + 1)), .int (xs (i + 2)), .int (xs (i + 3)), .ref o]) (rest := []) O hRm (kX0_feast _ O.2.2.2.2.2.2.2.2 (cxE X) _ _ _ _ _ _ x hx ((xs (i + 1))) ((xs (i + 2))) ((xs (i + 3))) o ho _ w) (lw_SW q1581 q1582 q105 q1583) rfl rfl (by decide +kernel) ⟨Nat.le_of_ble_eq_true rfl, Nat.le_of_ble_eq_true rfl⟩ rfl rfl rfl (Nat.le_of_ble_eq_true rfl) dL_law_1293 (kOk.fa hk9)) (fun _ _ _ _ _ _ _ h => h.elim) (fun r z T L V1 P1 w => ?_)
  obtain ⟨hx, ho, hl1, hl2, hm, w⟩ := w
  have hk := kOk.sa hk9
  refine g_istore (lv' := [some (.ref b), some (.ref x), some (.ref mb), some (.ref o), some (.int (nI i)), some (.int r), none]) O dL_law_1296 (Nat.le_of_ble_eq_true rfl) rfl rfl ?_
  refine g_aload_n O dL_law_1298 rfl ?_
  refine g_aload_n O dL_law_1299 rfl ?_
  refine g_iload O dL_law_1300 rfl ?_
  refine g_iconst (v := 1) O dL_law_1302 (by decide) ?_
  refine g_iadd O dL_law_1303 ?_
  refine gl_sld (nn := i + 1) O hX hb hbA (by omega) (by omega) (nI_add i 1) dL_law_1304 ?_
  refine g_aload_n O dL_law_1305 rfl ?_
  refine g_iload O dL_law_1306 rfl ?_
  refine g_iconst (v := 2) O dL_law_1308 (by decide) ?_
  refine g_iadd O dL_law_1309 ?_
  refine gl_sld (nn := i + 2) O hX hb hbA (by omega) (by omega) (nI_add i 2) dL_law_1310 ?_
  refine g_aload_n O dL_law_1311 rfl ?_
  refine g_iload O dL_law_1312 rfl ?_
  refine g_iconst (v := 3) O dL_law_1314 (by decide) ?_
  refine g_iadd O dL_law_1315 ?_
  refine gl_sld (nn := i + 3) O hX hb hbA (by omega) (by omega) (nI_add i 3) dL_law_1316 ?_
  refine gl_Vi (nA := 3) (As := [.int (xs (i + 1)), .int (xs (i + 2)), .int (xs (i + 3))]) (rest := []) O hRm hm.1 (cM_feast _ O.2.2.2.2.2.2.2.2 (cxE X) _ _ _ V1 _ mb hm (V1 mb) ((xs (i + 1))) ((xs (i + 2))) ((xs (i + 3))) _ w) (lw_V q2238 q2239 q2240 q134 q2241) rfl rfl (by decide +kernel) ⟨Nat.le_of_ble_eq_true rfl, Nat.le_of_ble_eq_true rfl⟩ rfl rfl rfl (Nat.le_of_ble_eq_true rfl) dL_law_1317 (kOk.m hk) (fun b9 s9 w => ?_)
  obtain ⟨e8, e9, w⟩ := w
  generalize eV2 : up1 V1 mb s9 = V2 at w ⊢
  have v8 : V2 mb = s9 := by rw [← eV2]; exact up1_s
  rw [eV2] at e9
  rw [← v8] at e8
  refine g_istore (lv' := [some (.ref b), some (.ref x), some (.ref mb), some (.ref o), some (.int (nI i)), some (.int r), some (.int b9)]) O dL_law_1320 (Nat.le_of_ble_eq_true rfl) rfl rfl ?_
  refine g_aload_n O dL_law_1322 rfl ?_
  refine gl_Vi0 (nA := 0) (As := []) (rest := []) O hRm hm.1 (cM_thrown _ O.2.2.2.2.2.2.2.2 (cxE X) _ _ _ V2 _ mb hm (V2 mb) (fun t0 => t0 = V2 mb 0 2) rfl) (lw_V q1918 q1919 q1920 q134 q1921) rfl rfl (by decide +kernel) ⟨Nat.le_of_ble_eq_true rfl, Nat.le_of_ble_eq_true rfl⟩ rfl rfl rfl (Nat.le_of_ble_eq_true rfl) dL_law_1323 (kOk.m hk) (fun t0 ht0 => ?_)
  refine g_iload O dL_law_1326 rfl ?_
  refine g_icmp_eq_t (tgt := 1333) O (ht0.trans e8) dL_law_1328 (by decide) ?_
  refine g_iload O dL_law_1333 rfl ?_
  by_cases hr : r = 0
  · refine g_if_ne_f O hr dL_law_1335 1350 (by decide) ?_
    refine g_aload_n O dL_law_1338 rfl ?_
    refine g_iconst (v := 0) O dL_law_1339 (by decide) ?_
    refine gl_lald (nn := 0) O ho hl1 (by decide) hl2 rfl dL_law_1340 ?_
    refine g_iload O dL_law_1341 rfl ?_
    refine g_i2l O dL_law_1343 ?_
    refine g_lcmp O dL_law_1344 ?_
    refine g_if_eq_t (tgt := 1350) O (by rw [e9 hr]; exact lg_same _) dL_law_1345 (by decide) ?_
    refine g_goto (tgt := 2211) O dL_law_1350 (by decide) ?_
    refine g_drop [5, 6] (lv' := [some (.ref b), some (.ref x), some (.ref mb), some (.ref o), some (.int (nI i)), none, none]) rfl ?_
    exact hpost _ _ _ _ _ _ _ _ hk hx ho hm w
  · refine g_if_ne_t (tgt := 1350) O hr dL_law_1335 (by decide) ?_
    refine g_goto (tgt := 2211) O dL_law_1350 (by decide) ?_
    refine g_drop [5, 6] (lv' := [some (.ref b), some (.ref x), some (.ref mb), some (.ref o), some (.int (nI i)), none, none]) rfl ?_
    exact hpost _ _ _ _ _ _ _ _ hk hx ho hm w
set_option maxHeartbeats 4000000 in
theorem vL_flood {X : Cx} (O : Okc X cL_law RX0 7 (some .boolean)) (hRm : cxR X = room_1) {b Ls : Nat} {xs : Nat → Int32} (hS : lwS X b Ls xs) {k n U z : Nat} {T L : Nat → Nat} {V : w_V} {P : w_P} (i : Nat) (hi : i + 6 ≤ Ls) (x mb o : Nat) (hx : T x = 2) (ho : T o = 3003) (hl : 0 < L o ∧ L o < 2147483648) (hm : mOk (cxE X) T L P mb) (post : Nat → Nat → (Nat → Nat) → (Nat → Nat) → w_V → w_P → Prop) (hk : kOk room_1 k n U)
    (hpost : ∀ (k n U z : Nat) (T L : Nat → Nat) (V : w_V) (P : w_P), kOk room_1 k n U → T x = 2 → T o = 3003 → mOk (cxE X) T L P mb → post U z T L V P → gW X k n z T L V P 2211 [some (.ref b), some (.ref x), some (.ref mb), some (.ref o), some (.int (nI i)), none, none] [])
    (w : wL_flood (cxE X) U z T L V P x mb o (xs (i + 1)) (xs (i + 2)) (xs (i + 3)) post) : gW X k n z T L V P 1353 [some (.ref b), some (.ref x), some (.ref mb), some (.ref o), some (.int (nI i)), none, none] [] := by
  obtain ⟨hX, hb, hbA, hLs⟩ := hS
  unfold wL_flood at w
  refine g_aload_n O dL_law_1353 rfl ?_
  refine g_aload_n O dL_law_1354 rfl ?_
  refine g_iload O dL_law_1355 rfl ?_
  refine g_iconst (v := 1) O dL_law_1357 (by decide) ?_
  refine g_iadd O dL_law_1358 ?_
  refine gl_sld (nn := i + 1) O hX hb hbA (by omega) (by omega) (nI_add i 1) dL_law_1359 ?_
  refine g_aload_n O dL_law_1360 rfl ?_
  refine g_iload O dL_law_1361 rfl ?_
  refine g_iconst (v := 2) O dL_law_1363 (by decide) ?_
  refine g_iadd O dL_law_1364 ?_
  refine gl_sld (nn := i + 2) O hX hb hbA (by omega) (by omega) (nI_add i 2) dL_law_1365 ?_
  refine g_aload_n O dL_law_1366 rfl ?_
  refine g_iload O dL_law_1367 rfl ?_
  refine g_iconst (v := 3) O dL_law_1369 (by decide) ?_
  refine g_iadd O dL_law_1370 ?_
  refine gl_sld (nn := i + 3) O hX hb hbA (by omega) (by omega) (nI_add i 3) dL_law_1371 ?_
  refine g_aload_n O dL_law_1372 rfl ?_
  obtain ⟨c1, U2, e1, w⟩ := w
  have hk9 := kOk.eq hk e1
  refine gh_fi (xp := fun _ _ _ _ _ _ _ => False) (grx_SX (nA := 5) (As := [.ref x, .int (xs (i + 1)), .int (xs (i + 2)), .int (xs (i + 3)), .ref o]) (rest := []) O hRm (kX0_flood _ O.2.2.2.2.2.2.2.2 (cxE X) _ _ _ _ _ _ x hx ((xs (i + 1))) ((xs (i + 2))) ((xs (i + 3))) o ho _ w) (lw_SW q1592 q1593 q105 q1594) rfl rfl (by decide +kernel) ⟨Nat.le_of_ble_eq_true rfl, Nat.le_of_ble_eq_true rfl⟩ rfl rfl rfl (Nat.le_of_ble_eq_true rfl) dL_law_1373 (kOk.fa hk9)) (fun _ _ _ _ _ _ _ h => h.elim) (fun r z T L V1 P1 w => ?_)
  obtain ⟨hx, ho, hl1, hl2, hm, w⟩ := w
  have hk := kOk.sa hk9
  refine g_istore (lv' := [some (.ref b), some (.ref x), some (.ref mb), some (.ref o), some (.int (nI i)), some (.int r), none]) O dL_law_1376 (Nat.le_of_ble_eq_true rfl) rfl rfl ?_
  refine g_aload_n O dL_law_1378 rfl ?_
  refine g_aload_n O dL_law_1379 rfl ?_
  refine g_iload O dL_law_1380 rfl ?_
  refine g_iconst (v := 1) O dL_law_1382 (by decide) ?_
  refine g_iadd O dL_law_1383 ?_
  refine gl_sld (nn := i + 1) O hX hb hbA (by omega) (by omega) (nI_add i 1) dL_law_1384 ?_
  refine g_aload_n O dL_law_1385 rfl ?_
  refine g_iload O dL_law_1386 rfl ?_
  refine g_iconst (v := 2) O dL_law_1388 (by decide) ?_
  refine g_iadd O dL_law_1389 ?_
  refine gl_sld (nn := i + 2) O hX hb hbA (by omega) (by omega) (nI_add i 2) dL_law_1390 ?_
  refine g_aload_n O dL_law_1391 rfl ?_
  refine g_iload O dL_law_1392 rfl ?_
  refine g_iconst (v := 3) O dL_law_1394 (by decide) ?_
  refine g_iadd O dL_law_1395 ?_
  refine gl_sld (nn := i + 3) O hX hb hbA (by omega) (by omega) (nI_add i 3) dL_law_1396 ?_
  refine gl_Vi (nA := 3) (As := [.int (xs (i + 1)), .int (xs (i + 2)), .int (xs (i + 3))]) (rest := []) O hRm hm.1 (cM_flood _ O.2.2.2.2.2.2.2.2 (cxE X) _ _ _ V1 _ mb hm (V1 mb) ((xs (i + 1))) ((xs (i + 2))) ((xs (i + 3))) _ w) (lw_V q2242 q2243 q2244 q134 q2245) rfl rfl (by decide +kernel) ⟨Nat.le_of_ble_eq_true rfl, Nat.le_of_ble_eq_true rfl⟩ rfl rfl rfl (Nat.le_of_ble_eq_true rfl) dL_law_1397 (kOk.m hk) (fun b9 s9 w => ?_)
  obtain ⟨e8, e9, w⟩ := w
  generalize eV2 : up1 V1 mb s9 = V2 at w ⊢
  have v8 : V2 mb = s9 := by rw [← eV2]; exact up1_s
  rw [eV2] at e9
  rw [← v8] at e8
  refine g_istore (lv' := [some (.ref b), some (.ref x), some (.ref mb), some (.ref o), some (.int (nI i)), some (.int r), some (.int b9)]) O dL_law_1400 (Nat.le_of_ble_eq_true rfl) rfl rfl ?_
  refine g_aload_n O dL_law_1402 rfl ?_
  refine gl_Vi0 (nA := 0) (As := []) (rest := []) O hRm hm.1 (cM_thrown _ O.2.2.2.2.2.2.2.2 (cxE X) _ _ _ V2 _ mb hm (V2 mb) (fun t0 => t0 = V2 mb 0 2) rfl) (lw_V q1918 q1919 q1920 q134 q1921) rfl rfl (by decide +kernel) ⟨Nat.le_of_ble_eq_true rfl, Nat.le_of_ble_eq_true rfl⟩ rfl rfl rfl (Nat.le_of_ble_eq_true rfl) dL_law_1403 (kOk.m hk) (fun t0 ht0 => ?_)
  refine g_iload O dL_law_1406 rfl ?_
  refine g_icmp_eq_t (tgt := 1413) O (ht0.trans e8) dL_law_1408 (by decide) ?_
  refine g_iload O dL_law_1413 rfl ?_
  by_cases hr : r = 0
  · refine g_if_ne_f O hr dL_law_1415 1430 (by decide) ?_
    refine g_aload_n O dL_law_1418 rfl ?_
    refine g_iconst (v := 0) O dL_law_1419 (by decide) ?_
    refine gl_lald (nn := 0) O ho hl1 (by decide) hl2 rfl dL_law_1420 ?_
    refine g_iload O dL_law_1421 rfl ?_
    refine g_i2l O dL_law_1423 ?_
    refine g_lcmp O dL_law_1424 ?_
    refine g_if_eq_t (tgt := 1430) O (by rw [e9 hr]; exact lg_same _) dL_law_1425 (by decide) ?_
    refine g_goto (tgt := 2211) O dL_law_1430 (by decide) ?_
    refine g_drop [5, 6] (lv' := [some (.ref b), some (.ref x), some (.ref mb), some (.ref o), some (.int (nI i)), none, none]) rfl ?_
    exact hpost _ _ _ _ _ _ _ _ hk hx ho hm w
  · refine g_if_ne_t (tgt := 1430) O hr dL_law_1415 (by decide) ?_
    refine g_goto (tgt := 2211) O dL_law_1430 (by decide) ?_
    refine g_drop [5, 6] (lv' := [some (.ref b), some (.ref x), some (.ref mb), some (.ref o), some (.int (nI i)), none, none]) rfl ?_
    exact hpost _ _ _ _ _ _ _ _ hk hx ho hm w
set_option maxHeartbeats 4000000 in
theorem vL_undo {X : Cx} (O : Okc X cL_law RX0 7 (some .boolean)) (hRm : cxR X = room_1) {b Ls : Nat} {xs : Nat → Int32} (hS : lwS X b Ls xs) {k n U z : Nat} {T L : Nat → Nat} {V : w_V} {P : w_P} (i : Nat) (hi : i + 6 ≤ Ls) (x mb o : Nat) (hx : T x = 2) (ho : T o = 3003) (hl : 0 < L o ∧ L o < 2147483648) (hm : mOk (cxE X) T L P mb) (post : Nat → Nat → (Nat → Nat) → (Nat → Nat) → w_V → w_P → Prop) (hk : kOk room_1 k n U)
    (hpost : ∀ (k n U z : Nat) (T L : Nat → Nat) (V : w_V) (P : w_P), kOk room_1 k n U → T x = 2 → T o = 3003 → mOk (cxE X) T L P mb → post U z T L V P → gW X k n z T L V P 2211 [some (.ref b), some (.ref x), some (.ref mb), some (.ref o), some (.int (nI i)), none, none] [])
    (w : wL_undo (cxE X) U z T L V P x mb o post) : gW X k n z T L V P 1433 [some (.ref b), some (.ref x), some (.ref mb), some (.ref o), some (.int (nI i)), none, none] [] := by
  obtain ⟨hX, hb, hbA, hLs⟩ := hS
  unfold wL_undo at w
  refine g_aload_n O dL_law_1433 rfl ?_
  refine g_ri1 (gr_V (lay := 1) (nA := 0) (As := []) (rest := []) O hRm (kX1_undo _ O.2.2.2.2.2.2.2.2 (cxE X) _ _ _ _ _ x hx _ w) (lw_V q856 q857 q858 q106 q859) rfl rfl (by decide +kernel) ⟨Nat.le_of_ble_eq_true rfl, Nat.le_of_ble_eq_true rfl⟩ ck1 (by decide) rfl hx rfl rfl rfl (Nat.le_of_ble_eq_true rfl) dL_law_1434 (kOk.f0 hk)) (fun r V1 w => ?_)
  have hk := kOk.s0 hk
  refine g_aload_n O dL_law_1437 rfl ?_
  refine gl_Vi (nA := 0) (As := []) (rest := [.int r]) O hRm hm.1 (cM_undo _ O.2.2.2.2.2.2.2.2 (cxE X) _ _ _ V1 _ mb hm (V1 mb) _ w) (lw_V q2247 q2248 q2249 q134 q2250) rfl rfl (by decide +kernel) ⟨Nat.le_of_ble_eq_true rfl, Nat.le_of_ble_eq_true rfl⟩ rfl rfl rfl (Nat.le_of_ble_eq_true rfl) dL_law_1438 (kOk.m hk) (fun b9 s9 w => ?_)
  obtain ⟨e9, w⟩ := w
  generalize eV2 : up1 V1 mb s9 = V2 at w ⊢
  have v8 : V2 mb = s9 := by rw [← eV2]; exact up1_s
  refine g_icmp_eq_t (tgt := 2211) O e9 dL_law_1441 (by decide) ?_
  exact hpost _ _ _ _ _ _ _ _ hk hx ho hm w
set_option maxHeartbeats 4000000 in
theorem vL_burn {X : Cx} (O : Okc X cL_law RX0 7 (some .boolean)) (hRm : cxR X = room_1) {b Ls : Nat} {xs : Nat → Int32} (hS : lwS X b Ls xs) {k n U z : Nat} {T L : Nat → Nat} {V : w_V} {P : w_P} (i : Nat) (hi : i + 6 ≤ Ls) (x mb o : Nat) (hx : T x = 2) (ho : T o = 3003) (hl : 0 < L o ∧ L o < 2147483648) (hm : mOk (cxE X) T L P mb) (post : Nat → Nat → (Nat → Nat) → (Nat → Nat) → w_V → w_P → Prop) (hk : kOk room_1 k n U)
    (hpost : ∀ (k n U z : Nat) (T L : Nat → Nat) (V : w_V) (P : w_P), kOk room_1 k n U → T x = 2 → T o = 3003 → mOk (cxE X) T L P mb → post U z T L V P → gW X k n z T L V P 2211 [some (.ref b), some (.ref x), some (.ref mb), some (.ref o), some (.int (nI i)), none, none] [])
    (w : wL_burn (cxE X) U z T L V P x mb o (xs (i + 1)) post) : gW X k n z T L V P 1446 [some (.ref b), some (.ref x), some (.ref mb), some (.ref o), some (.int (nI i)), none, none] [] := by
  obtain ⟨hX, hb, hbA, hLs⟩ := hS
  unfold wL_burn at w
  refine g_aload_n O dL_law_1446 rfl ?_
  refine g_aload_n O dL_law_1447 rfl ?_
  refine g_iload O dL_law_1448 rfl ?_
  refine g_iconst (v := 1) O dL_law_1450 (by decide) ?_
  refine g_iadd O dL_law_1451 ?_
  refine gl_sld (nn := i + 1) O hX hb hbA (by omega) (by omega) (nI_add i 1) dL_law_1452 ?_
  refine g_aload_n O dL_law_1453 rfl ?_
  obtain ⟨c1, U2, e1, w⟩ := w
  have hk9 := kOk.eq hk e1
  refine gh_fi (xp := fun _ _ _ _ _ _ _ => False) (grx_SX (nA := 3) (As := [.ref x, .int (xs (i + 1)), .ref o]) (rest := []) O hRm (kX0_burn _ O.2.2.2.2.2.2.2.2 (cxE X) _ _ _ _ _ _ x hx ((xs (i + 1))) o ho _ w) (lw_SW q1603 q1604 q105 q1605) rfl rfl (by decide +kernel) ⟨Nat.le_of_ble_eq_true rfl, Nat.le_of_ble_eq_true rfl⟩ rfl rfl rfl (Nat.le_of_ble_eq_true rfl) dL_law_1454 (kOk.fa hk9)) (fun _ _ _ _ _ _ _ h => h.elim) (fun r z T L V1 P1 w => ?_)
  obtain ⟨hx, ho, hl1, hl2, hm, w⟩ := w
  have hk := kOk.sa hk9
  refine g_istore (lv' := [some (.ref b), some (.ref x), some (.ref mb), some (.ref o), some (.int (nI i)), some (.int r), none]) O dL_law_1457 (Nat.le_of_ble_eq_true rfl) rfl rfl ?_
  refine g_aload_n O dL_law_1459 rfl ?_
  refine g_aload_n O dL_law_1460 rfl ?_
  refine g_iload O dL_law_1461 rfl ?_
  refine g_iconst (v := 1) O dL_law_1463 (by decide) ?_
  refine g_iadd O dL_law_1464 ?_
  refine gl_sld (nn := i + 1) O hX hb hbA (by omega) (by omega) (nI_add i 1) dL_law_1465 ?_
  refine gl_Vi (nA := 1) (As := [.int (xs (i + 1))]) (rest := []) O hRm hm.1 (cM_burn _ O.2.2.2.2.2.2.2.2 (cxE X) _ _ _ V1 _ mb hm (V1 mb) ((xs (i + 1))) _ w) (lw_V q2255 q2256 q2257 q134 q2258) rfl rfl (by decide +kernel) ⟨Nat.le_of_ble_eq_true rfl, Nat.le_of_ble_eq_true rfl⟩ rfl rfl rfl (Nat.le_of_ble_eq_true rfl) dL_law_1466 (kOk.m hk) (fun b9 s9 w => ?_)
  obtain ⟨e8, e9, w⟩ := w
  generalize eV2 : up1 V1 mb s9 = V2 at w ⊢
  have v8 : V2 mb = s9 := by rw [← eV2]; exact up1_s
  rw [eV2] at e9
  rw [← v8] at e8
  refine g_istore (lv' := [some (.ref b), some (.ref x), some (.ref mb), some (.ref o), some (.int (nI i)), some (.int r), some (.int b9)]) O dL_law_1469 (Nat.le_of_ble_eq_true rfl) rfl rfl ?_
  refine g_aload_n O dL_law_1471 rfl ?_
  refine gl_Vi0 (nA := 0) (As := []) (rest := []) O hRm hm.1 (cM_thrown _ O.2.2.2.2.2.2.2.2 (cxE X) _ _ _ V2 _ mb hm (V2 mb) (fun t0 => t0 = V2 mb 0 2) rfl) (lw_V q1918 q1919 q1920 q134 q1921) rfl rfl (by decide +kernel) ⟨Nat.le_of_ble_eq_true rfl, Nat.le_of_ble_eq_true rfl⟩ rfl rfl rfl (Nat.le_of_ble_eq_true rfl) dL_law_1472 (kOk.m hk) (fun t0 ht0 => ?_)
  refine g_iload O dL_law_1475 rfl ?_
  refine g_icmp_eq_t (tgt := 1482) O (ht0.trans e8) dL_law_1477 (by decide) ?_
  refine g_iload O dL_law_1482 rfl ?_
  by_cases hr : r = 0
  · refine g_if_ne_f O hr dL_law_1484 1499 (by decide) ?_
    refine g_aload_n O dL_law_1487 rfl ?_
    refine g_iconst (v := 0) O dL_law_1488 (by decide) ?_
    refine gl_lald (nn := 0) O ho hl1 (by decide) hl2 rfl dL_law_1489 ?_
    refine g_iload O dL_law_1490 rfl ?_
    refine g_i2l O dL_law_1492 ?_
    refine g_lcmp O dL_law_1493 ?_
    refine g_if_eq_t (tgt := 1499) O (by rw [e9 hr]; exact lg_same _) dL_law_1494 (by decide) ?_
    refine g_goto (tgt := 2211) O dL_law_1499 (by decide) ?_
    refine g_drop [5, 6] (lv' := [some (.ref b), some (.ref x), some (.ref mb), some (.ref o), some (.int (nI i)), none, none]) rfl ?_
    exact hpost _ _ _ _ _ _ _ _ hk hx ho hm w
  · refine g_if_ne_t (tgt := 1499) O hr dL_law_1484 (by decide) ?_
    refine g_goto (tgt := 2211) O dL_law_1499 (by decide) ?_
    refine g_drop [5, 6] (lv' := [some (.ref b), some (.ref x), some (.ref mb), some (.ref o), some (.int (nI i)), none, none]) rfl ?_
    exact hpost _ _ _ _ _ _ _ _ hk hx ho hm w
set_option maxHeartbeats 4000000 in
theorem vL_when {X : Cx} (O : Okc X cL_law RX0 7 (some .boolean)) (hRm : cxR X = room_1) {b Ls : Nat} {xs : Nat → Int32} (hS : lwS X b Ls xs) {k n U z : Nat} {T L : Nat → Nat} {V : w_V} {P : w_P} (i : Nat) (hi : i + 6 ≤ Ls) (x mb o : Nat) (hx : T x = 2) (ho : T o = 3003) (hl : 0 < L o ∧ L o < 2147483648) (hm : mOk (cxE X) T L P mb) (post : Nat → Nat → (Nat → Nat) → (Nat → Nat) → w_V → w_P → Prop) (hk : kOk room_1 k n U)
    (hpost : ∀ (k n U z : Nat) (T L : Nat → Nat) (V : w_V) (P : w_P), kOk room_1 k n U → T x = 2 → T o = 3003 → mOk (cxE X) T L P mb → post U z T L V P → gW X k n z T L V P 2211 [some (.ref b), some (.ref x), some (.ref mb), some (.ref o), some (.int (nI i)), none, none] [])
    (w : wL_when (cxE X) U z T L V P x mb o (xs (i + 1)) (xs (i + 2)) post) : gW X k n z T L V P 1502 [some (.ref b), some (.ref x), some (.ref mb), some (.ref o), some (.int (nI i)), none, none] [] := by
  obtain ⟨hX, hb, hbA, hLs⟩ := hS
  unfold wL_when at w
  refine g_aload_n O dL_law_1502 rfl ?_
  refine g_aload_n O dL_law_1503 rfl ?_
  refine g_iload O dL_law_1504 rfl ?_
  refine g_iconst (v := 1) O dL_law_1506 (by decide) ?_
  refine g_iadd O dL_law_1507 ?_
  refine gl_sld (nn := i + 1) O hX hb hbA (by omega) (by omega) (nI_add i 1) dL_law_1508 ?_
  refine g_aload_n O dL_law_1509 rfl ?_
  refine g_iload O dL_law_1510 rfl ?_
  refine g_iconst (v := 2) O dL_law_1512 (by decide) ?_
  refine g_iadd O dL_law_1513 ?_
  refine gl_sld (nn := i + 2) O hX hb hbA (by omega) (by omega) (nI_add i 2) dL_law_1514 ?_
  refine g_aload_n O dL_law_1515 rfl ?_
  obtain ⟨c1, U2, e1, w⟩ := w
  have hk9 := kOk.eq hk e1
  refine gh_fi (xp := fun _ _ _ _ _ _ _ => False) (grx_SX (nA := 4) (As := [.ref x, .int (xs (i + 1)), .int (xs (i + 2)), .ref o]) (rest := []) O hRm (kX0_when _ O.2.2.2.2.2.2.2.2 (cxE X) _ _ _ _ _ _ x hx ((xs (i + 1))) ((xs (i + 2))) o ho _ w) (lw_SW q1610 q1611 q105 q1612) rfl rfl (by decide +kernel) ⟨Nat.le_of_ble_eq_true rfl, Nat.le_of_ble_eq_true rfl⟩ rfl rfl rfl (Nat.le_of_ble_eq_true rfl) dL_law_1516 (kOk.fa hk9)) (fun _ _ _ _ _ _ _ h => h.elim) (fun r z T L V1 P1 w => ?_)
  obtain ⟨hx, ho, hl1, hl2, hm, w⟩ := w
  have hk := kOk.sa hk9
  refine g_istore (lv' := [some (.ref b), some (.ref x), some (.ref mb), some (.ref o), some (.int (nI i)), some (.int r), none]) O dL_law_1519 (Nat.le_of_ble_eq_true rfl) rfl rfl ?_
  refine g_aload_n O dL_law_1521 rfl ?_
  refine g_aload_n O dL_law_1522 rfl ?_
  refine g_iload O dL_law_1523 rfl ?_
  refine g_iconst (v := 1) O dL_law_1525 (by decide) ?_
  refine g_iadd O dL_law_1526 ?_
  refine gl_sld (nn := i + 1) O hX hb hbA (by omega) (by omega) (nI_add i 1) dL_law_1527 ?_
  refine g_aload_n O dL_law_1528 rfl ?_
  refine g_iload O dL_law_1529 rfl ?_
  refine g_iconst (v := 2) O dL_law_1531 (by decide) ?_
  refine g_iadd O dL_law_1532 ?_
  refine gl_sld (nn := i + 2) O hX hb hbA (by omega) (by omega) (nI_add i 2) dL_law_1533 ?_
  refine gl_Vi (nA := 2) (As := [.int (xs (i + 1)), .int (xs (i + 2))]) (rest := []) O hRm hm.1 (cM_when _ O.2.2.2.2.2.2.2.2 (cxE X) _ _ _ V1 _ mb hm (V1 mb) ((xs (i + 1))) ((xs (i + 2))) _ w) (lw_V q2259 q2260 q2261 q134 q2262) rfl rfl (by decide +kernel) ⟨Nat.le_of_ble_eq_true rfl, Nat.le_of_ble_eq_true rfl⟩ rfl rfl rfl (Nat.le_of_ble_eq_true rfl) dL_law_1534 (kOk.m hk) (fun b9 s9 w => ?_)
  obtain ⟨e8, e9, w⟩ := w
  generalize eV2 : up1 V1 mb s9 = V2 at w ⊢
  have v8 : V2 mb = s9 := by rw [← eV2]; exact up1_s
  rw [eV2] at e9
  rw [← v8] at e8
  refine g_istore (lv' := [some (.ref b), some (.ref x), some (.ref mb), some (.ref o), some (.int (nI i)), some (.int r), some (.int b9)]) O dL_law_1537 (Nat.le_of_ble_eq_true rfl) rfl rfl ?_
  refine g_aload_n O dL_law_1539 rfl ?_
  refine gl_Vi0 (nA := 0) (As := []) (rest := []) O hRm hm.1 (cM_thrown _ O.2.2.2.2.2.2.2.2 (cxE X) _ _ _ V2 _ mb hm (V2 mb) (fun t0 => t0 = V2 mb 0 2) rfl) (lw_V q1918 q1919 q1920 q134 q1921) rfl rfl (by decide +kernel) ⟨Nat.le_of_ble_eq_true rfl, Nat.le_of_ble_eq_true rfl⟩ rfl rfl rfl (Nat.le_of_ble_eq_true rfl) dL_law_1540 (kOk.m hk) (fun t0 ht0 => ?_)
  refine g_iload O dL_law_1543 rfl ?_
  refine g_icmp_eq_t (tgt := 1550) O (ht0.trans e8) dL_law_1545 (by decide) ?_
  refine g_iload O dL_law_1550 rfl ?_
  by_cases hr : r = 0
  · refine g_if_ne_f O hr dL_law_1552 1567 (by decide) ?_
    refine g_aload_n O dL_law_1555 rfl ?_
    refine g_iconst (v := 0) O dL_law_1556 (by decide) ?_
    refine gl_lald (nn := 0) O ho hl1 (by decide) hl2 rfl dL_law_1557 ?_
    refine g_iload O dL_law_1558 rfl ?_
    refine g_i2l O dL_law_1560 ?_
    refine g_lcmp O dL_law_1561 ?_
    refine g_if_eq_t (tgt := 1567) O (by rw [e9 hr]; exact lg_same _) dL_law_1562 (by decide) ?_
    refine g_goto (tgt := 2211) O dL_law_1567 (by decide) ?_
    refine g_drop [5, 6] (lv' := [some (.ref b), some (.ref x), some (.ref mb), some (.ref o), some (.int (nI i)), none, none]) rfl ?_
    exact hpost _ _ _ _ _ _ _ _ hk hx ho hm w
  · refine g_if_ne_t (tgt := 1567) O hr dL_law_1552 (by decide) ?_
    refine g_goto (tgt := 2211) O dL_law_1567 (by decide) ?_
    refine g_drop [5, 6] (lv' := [some (.ref b), some (.ref x), some (.ref mb), some (.ref o), some (.int (nI i)), none, none]) rfl ?_
    exact hpost _ _ _ _ _ _ _ _ hk hx ho hm w
set_option maxHeartbeats 4000000 in
theorem vL_round {X : Cx} (O : Okc X cL_law RX0 7 (some .boolean)) (hRm : cxR X = room_1) {b Ls : Nat} {xs : Nat → Int32} (hS : lwS X b Ls xs) {k n U z : Nat} {T L : Nat → Nat} {V : w_V} {P : w_P} (i : Nat) (hi : i + 6 ≤ Ls) (x mb o : Nat) (hx : T x = 2) (ho : T o = 3003) (hl : 0 < L o ∧ L o < 2147483648) (hm : mOk (cxE X) T L P mb) (post : Nat → Nat → (Nat → Nat) → (Nat → Nat) → w_V → w_P → Prop) (hk : kOk room_1 k n U)
    (hpost : ∀ (k n U z : Nat) (T L : Nat → Nat) (V : w_V) (P : w_P), kOk room_1 k n U → T x = 2 → T o = 3003 → mOk (cxE X) T L P mb → post U z T L V P → gW X k n z T L V P 2211 [some (.ref b), some (.ref x), some (.ref mb), some (.ref o), some (.int (nI i)), none, none] [])
    (w : wL_round (cxE X) U z T L V P x mb o (xs (i + 1)) post) : gW X k n z T L V P 1570 [some (.ref b), some (.ref x), some (.ref mb), some (.ref o), some (.int (nI i)), none, none] [] := by
  obtain ⟨hX, hb, hbA, hLs⟩ := hS
  unfold wL_round at w
  refine g_aload_n O dL_law_1570 rfl ?_
  refine g_aload_n O dL_law_1571 rfl ?_
  refine g_iload O dL_law_1572 rfl ?_
  refine g_iconst (v := 1) O dL_law_1574 (by decide) ?_
  refine g_iadd O dL_law_1575 ?_
  refine gl_sld (nn := i + 1) O hX hb hbA (by omega) (by omega) (nI_add i 1) dL_law_1576 ?_
  refine g_aload_n O dL_law_1577 rfl ?_
  obtain ⟨c1, U2, e1, w⟩ := w
  have hk9 := kOk.eq hk e1
  refine gh_fi (xp := fun _ _ _ _ _ _ _ => False) (grx_SX (nA := 3) (As := [.ref x, .int (xs (i + 1)), .ref o]) (rest := []) O hRm (kX0_round _ O.2.2.2.2.2.2.2.2 (cxE X) _ _ _ _ _ _ x hx ((xs (i + 1))) o ho _ w) (lw_SW q1617 q1618 q105 q1619) rfl rfl (by decide +kernel) ⟨Nat.le_of_ble_eq_true rfl, Nat.le_of_ble_eq_true rfl⟩ rfl rfl rfl (Nat.le_of_ble_eq_true rfl) dL_law_1578 (kOk.fa hk9)) (fun _ _ _ _ _ _ _ h => h.elim) (fun r z T L V1 P1 w => ?_)
  obtain ⟨hx, ho, hl1, hl2, hm, w⟩ := w
  have hk := kOk.sa hk9
  refine g_istore (lv' := [some (.ref b), some (.ref x), some (.ref mb), some (.ref o), some (.int (nI i)), some (.int r), none]) O dL_law_1581 (Nat.le_of_ble_eq_true rfl) rfl rfl ?_
  refine g_aload_n O dL_law_1583 rfl ?_
  refine g_aload_n O dL_law_1584 rfl ?_
  refine g_iload O dL_law_1585 rfl ?_
  refine g_iconst (v := 1) O dL_law_1587 (by decide) ?_
  refine g_iadd O dL_law_1588 ?_
  refine gl_sld (nn := i + 1) O hX hb hbA (by omega) (by omega) (nI_add i 1) dL_law_1589 ?_
  refine gl_Vi (nA := 1) (As := [.int (xs (i + 1))]) (rest := []) O hRm hm.1 (cM_round _ O.2.2.2.2.2.2.2.2 (cxE X) _ _ _ V1 _ mb hm (V1 mb) ((xs (i + 1))) _ w) (lw_V q2263 q2264 q2265 q134 q2266) rfl rfl (by decide +kernel) ⟨Nat.le_of_ble_eq_true rfl, Nat.le_of_ble_eq_true rfl⟩ rfl rfl rfl (Nat.le_of_ble_eq_true rfl) dL_law_1590 (kOk.m hk) (fun b9 s9 w => ?_)
  obtain ⟨e8, e9, w⟩ := w
  generalize eV2 : up1 V1 mb s9 = V2 at w ⊢
  have v8 : V2 mb = s9 := by rw [← eV2]; exact up1_s
  rw [eV2] at e9
  rw [← v8] at e8
  refine g_istore (lv' := [some (.ref b), some (.ref x), some (.ref mb), some (.ref o), some (.int (nI i)), some (.int r), some (.int b9)]) O dL_law_1593 (Nat.le_of_ble_eq_true rfl) rfl rfl ?_
  refine g_aload_n O dL_law_1595 rfl ?_
  refine gl_Vi0 (nA := 0) (As := []) (rest := []) O hRm hm.1 (cM_thrown _ O.2.2.2.2.2.2.2.2 (cxE X) _ _ _ V2 _ mb hm (V2 mb) (fun t0 => t0 = V2 mb 0 2) rfl) (lw_V q1918 q1919 q1920 q134 q1921) rfl rfl (by decide +kernel) ⟨Nat.le_of_ble_eq_true rfl, Nat.le_of_ble_eq_true rfl⟩ rfl rfl rfl (Nat.le_of_ble_eq_true rfl) dL_law_1596 (kOk.m hk) (fun t0 ht0 => ?_)
  refine g_iload O dL_law_1599 rfl ?_
  refine g_icmp_eq_t (tgt := 1606) O (ht0.trans e8) dL_law_1601 (by decide) ?_
  refine g_iload O dL_law_1606 rfl ?_
  by_cases hr : r = 0
  · refine g_if_ne_f O hr dL_law_1608 1623 (by decide) ?_
    refine g_aload_n O dL_law_1611 rfl ?_
    refine g_iconst (v := 0) O dL_law_1612 (by decide) ?_
    refine gl_lald (nn := 0) O ho hl1 (by decide) hl2 rfl dL_law_1613 ?_
    refine g_iload O dL_law_1614 rfl ?_
    refine g_i2l O dL_law_1616 ?_
    refine g_lcmp O dL_law_1617 ?_
    refine g_if_eq_t (tgt := 1623) O (by rw [e9 hr]; exact lg_same _) dL_law_1618 (by decide) ?_
    refine g_goto (tgt := 2211) O dL_law_1623 (by decide) ?_
    refine g_drop [5, 6] (lv' := [some (.ref b), some (.ref x), some (.ref mb), some (.ref o), some (.int (nI i)), none, none]) rfl ?_
    exact hpost _ _ _ _ _ _ _ _ hk hx ho hm w
  · refine g_if_ne_t (tgt := 1623) O hr dL_law_1608 (by decide) ?_
    refine g_goto (tgt := 2211) O dL_law_1623 (by decide) ?_
    refine g_drop [5, 6] (lv' := [some (.ref b), some (.ref x), some (.ref mb), some (.ref o), some (.int (nI i)), none, none]) rfl ?_
    exact hpost _ _ _ _ _ _ _ _ hk hx ho hm w
set_option maxHeartbeats 4000000 in
theorem vL_free {X : Cx} (O : Okc X cL_law RX0 7 (some .boolean)) (hRm : cxR X = room_1) {b Ls : Nat} {xs : Nat → Int32} (hS : lwS X b Ls xs) {k n U z : Nat} {T L : Nat → Nat} {V : w_V} {P : w_P} (i : Nat) (hi : i + 6 ≤ Ls) (x mb o : Nat) (hx : T x = 2) (ho : T o = 3003) (hl : 0 < L o ∧ L o < 2147483648) (hm : mOk (cxE X) T L P mb) (post : Nat → Nat → (Nat → Nat) → (Nat → Nat) → w_V → w_P → Prop) (hk : kOk room_1 k n U)
    (hpost : ∀ (k n U z : Nat) (T L : Nat → Nat) (V : w_V) (P : w_P), kOk room_1 k n U → T x = 2 → T o = 3003 → mOk (cxE X) T L P mb → post U z T L V P → gW X k n z T L V P 2211 [some (.ref b), some (.ref x), some (.ref mb), some (.ref o), some (.int (nI i)), none, none] [])
    (w : wL_free (cxE X) U z T L V P x mb o (xs (i + 1)) (xs (i + 2)) post) : gW X k n z T L V P 1626 [some (.ref b), some (.ref x), some (.ref mb), some (.ref o), some (.int (nI i)), none, none] [] := by
  obtain ⟨hX, hb, hbA, hLs⟩ := hS
  unfold wL_free at w
  refine g_aload_n O dL_law_1626 rfl ?_
  refine g_aload_n O dL_law_1627 rfl ?_
  refine g_iload O dL_law_1628 rfl ?_
  refine g_iconst (v := 1) O dL_law_1630 (by decide) ?_
  refine g_iadd O dL_law_1631 ?_
  refine gl_sld (nn := i + 1) O hX hb hbA (by omega) (by omega) (nI_add i 1) dL_law_1632 ?_
  refine g_aload_n O dL_law_1633 rfl ?_
  refine g_iload O dL_law_1634 rfl ?_
  refine g_iconst (v := 2) O dL_law_1636 (by decide) ?_
  refine g_iadd O dL_law_1637 ?_
  refine gl_sld (nn := i + 2) O hX hb hbA (by omega) (by omega) (nI_add i 2) dL_law_1638 ?_
  refine g_aload_n O dL_law_1639 rfl ?_
  obtain ⟨c1, U2, e1, w⟩ := w
  have hk9 := kOk.eq hk e1
  refine gh_fi (xp := fun _ _ _ _ _ _ _ => False) (grx_SX (nA := 4) (As := [.ref x, .int (xs (i + 1)), .int (xs (i + 2)), .ref o]) (rest := []) O hRm (kX0_free _ O.2.2.2.2.2.2.2.2 (cxE X) _ _ _ _ _ _ x hx ((xs (i + 1))) ((xs (i + 2))) o ho _ w) (lw_SW q1624 q1625 q105 q1626) rfl rfl (by decide +kernel) ⟨Nat.le_of_ble_eq_true rfl, Nat.le_of_ble_eq_true rfl⟩ rfl rfl rfl (Nat.le_of_ble_eq_true rfl) dL_law_1640 (kOk.fa hk9)) (fun _ _ _ _ _ _ _ h => h.elim) (fun r z T L V1 P1 w => ?_)
  obtain ⟨hx, ho, hl1, hl2, hm, w⟩ := w
  have hk := kOk.sa hk9
  refine g_istore (lv' := [some (.ref b), some (.ref x), some (.ref mb), some (.ref o), some (.int (nI i)), some (.int r), none]) O dL_law_1643 (Nat.le_of_ble_eq_true rfl) rfl rfl ?_
  refine g_aload_n O dL_law_1645 rfl ?_
  refine g_aload_n O dL_law_1646 rfl ?_
  refine g_iload O dL_law_1647 rfl ?_
  refine g_iconst (v := 1) O dL_law_1649 (by decide) ?_
  refine g_iadd O dL_law_1650 ?_
  refine gl_sld (nn := i + 1) O hX hb hbA (by omega) (by omega) (nI_add i 1) dL_law_1651 ?_
  refine g_aload_n O dL_law_1652 rfl ?_
  refine g_iload O dL_law_1653 rfl ?_
  refine g_iconst (v := 2) O dL_law_1655 (by decide) ?_
  refine g_iadd O dL_law_1656 ?_
  refine gl_sld (nn := i + 2) O hX hb hbA (by omega) (by omega) (nI_add i 2) dL_law_1657 ?_
  refine gl_Vi (nA := 2) (As := [.int (xs (i + 1)), .int (xs (i + 2))]) (rest := []) O hRm hm.1 (cM_free _ O.2.2.2.2.2.2.2.2 (cxE X) _ _ _ V1 _ mb hm (V1 mb) ((xs (i + 1))) ((xs (i + 2))) _ w) (lw_V q2267 q2268 q2269 q134 q2270) rfl rfl (by decide +kernel) ⟨Nat.le_of_ble_eq_true rfl, Nat.le_of_ble_eq_true rfl⟩ rfl rfl rfl (Nat.le_of_ble_eq_true rfl) dL_law_1658 (kOk.m hk) (fun b9 s9 w => ?_)
  obtain ⟨e8, e9, w⟩ := w
  generalize eV2 : up1 V1 mb s9 = V2 at w ⊢
  have v8 : V2 mb = s9 := by rw [← eV2]; exact up1_s
  rw [eV2] at e9
  rw [← v8] at e8
  refine g_istore (lv' := [some (.ref b), some (.ref x), some (.ref mb), some (.ref o), some (.int (nI i)), some (.int r), some (.int b9)]) O dL_law_1661 (Nat.le_of_ble_eq_true rfl) rfl rfl ?_
  refine g_aload_n O dL_law_1663 rfl ?_
  refine gl_Vi0 (nA := 0) (As := []) (rest := []) O hRm hm.1 (cM_thrown _ O.2.2.2.2.2.2.2.2 (cxE X) _ _ _ V2 _ mb hm (V2 mb) (fun t0 => t0 = V2 mb 0 2) rfl) (lw_V q1918 q1919 q1920 q134 q1921) rfl rfl (by decide +kernel) ⟨Nat.le_of_ble_eq_true rfl, Nat.le_of_ble_eq_true rfl⟩ rfl rfl rfl (Nat.le_of_ble_eq_true rfl) dL_law_1664 (kOk.m hk) (fun t0 ht0 => ?_)
  refine g_iload O dL_law_1667 rfl ?_
  refine g_icmp_eq_t (tgt := 1674) O (ht0.trans e8) dL_law_1669 (by decide) ?_
  refine g_iload O dL_law_1674 rfl ?_
  by_cases hr : r = 0
  · refine g_if_ne_f O hr dL_law_1676 1691 (by decide) ?_
    refine g_aload_n O dL_law_1679 rfl ?_
    refine g_iconst (v := 0) O dL_law_1680 (by decide) ?_
    refine gl_lald (nn := 0) O ho hl1 (by decide) hl2 rfl dL_law_1681 ?_
    refine g_iload O dL_law_1682 rfl ?_
    refine g_i2l O dL_law_1684 ?_
    refine g_lcmp O dL_law_1685 ?_
    refine g_if_eq_t (tgt := 1691) O (by rw [e9 hr]; exact lg_same _) dL_law_1686 (by decide) ?_
    refine g_goto (tgt := 2211) O dL_law_1691 (by decide) ?_
    refine g_drop [5, 6] (lv' := [some (.ref b), some (.ref x), some (.ref mb), some (.ref o), some (.int (nI i)), none, none]) rfl ?_
    exact hpost _ _ _ _ _ _ _ _ hk hx ho hm w
  · refine g_if_ne_t (tgt := 1691) O hr dL_law_1676 (by decide) ?_
    refine g_goto (tgt := 2211) O dL_law_1691 (by decide) ?_
    refine g_drop [5, 6] (lv' := [some (.ref b), some (.ref x), some (.ref mb), some (.ref o), some (.int (nI i)), none, none]) rfl ?_
    exact hpost _ _ _ _ _ _ _ _ hk hx ho hm w
set_option maxHeartbeats 4000000 in
theorem vL_mercy {X : Cx} (O : Okc X cL_law RX0 7 (some .boolean)) (hRm : cxR X = room_1) {b Ls : Nat} {xs : Nat → Int32} (hS : lwS X b Ls xs) {k n U z : Nat} {T L : Nat → Nat} {V : w_V} {P : w_P} (i : Nat) (hi : i + 6 ≤ Ls) (x mb o : Nat) (hx : T x = 2) (ho : T o = 3003) (hl : 0 < L o ∧ L o < 2147483648) (hm : mOk (cxE X) T L P mb) (post : Nat → Nat → (Nat → Nat) → (Nat → Nat) → w_V → w_P → Prop) (hk : kOk room_1 k n U)
    (hpost : ∀ (k n U z : Nat) (T L : Nat → Nat) (V : w_V) (P : w_P), kOk room_1 k n U → T x = 2 → T o = 3003 → mOk (cxE X) T L P mb → post U z T L V P → gW X k n z T L V P 2211 [some (.ref b), some (.ref x), some (.ref mb), some (.ref o), some (.int (nI i)), none, none] [])
    (w : wL_mercy (cxE X) U z T L V P x mb o (xs (i + 1)) post) : gW X k n z T L V P 1694 [some (.ref b), some (.ref x), some (.ref mb), some (.ref o), some (.int (nI i)), none, none] [] := by
  obtain ⟨hX, hb, hbA, hLs⟩ := hS
  unfold wL_mercy at w
  refine g_aload_n O dL_law_1694 rfl ?_
  refine g_aload_n O dL_law_1695 rfl ?_
  refine g_iload O dL_law_1696 rfl ?_
  refine g_iconst (v := 1) O dL_law_1698 (by decide) ?_
  refine g_iadd O dL_law_1699 ?_
  refine gl_sld (nn := i + 1) O hX hb hbA (by omega) (by omega) (nI_add i 1) dL_law_1700 ?_
  refine g_aload_n O dL_law_1701 rfl ?_
  obtain ⟨c1, U2, e1, w⟩ := w
  have hk9 := kOk.eq hk e1
  refine gh_fi (xp := fun _ _ _ _ _ _ _ => False) (grx_SX (nA := 3) (As := [.ref x, .int (xs (i + 1)), .ref o]) (rest := []) O hRm (kX0_mercy _ O.2.2.2.2.2.2.2.2 (cxE X) _ _ _ _ _ _ x hx ((xs (i + 1))) o ho _ w) (lw_SW q1639 q1640 q105 q1641) rfl rfl (by decide +kernel) ⟨Nat.le_of_ble_eq_true rfl, Nat.le_of_ble_eq_true rfl⟩ rfl rfl rfl (Nat.le_of_ble_eq_true rfl) dL_law_1702 (kOk.fa hk9)) (fun _ _ _ _ _ _ _ h => h.elim) (fun r z T L V1 P1 w => ?_)
  obtain ⟨hx, ho, hl1, hl2, hm, w⟩ := w
  have hk := kOk.sa hk9
  refine g_istore (lv' := [some (.ref b), some (.ref x), some (.ref mb), some (.ref o), some (.int (nI i)), some (.int r), none]) O dL_law_1705 (Nat.le_of_ble_eq_true rfl) rfl rfl ?_
  refine g_aload_n O dL_law_1707 rfl ?_
  refine g_aload_n O dL_law_1708 rfl ?_
  refine g_iload O dL_law_1709 rfl ?_
  refine g_iconst (v := 1) O dL_law_1711 (by decide) ?_
  refine g_iadd O dL_law_1712 ?_
  refine gl_sld (nn := i + 1) O hX hb hbA (by omega) (by omega) (nI_add i 1) dL_law_1713 ?_
  refine gl_Vi (nA := 1) (As := [.int (xs (i + 1))]) (rest := []) O hRm hm.1 (cM_mercy _ O.2.2.2.2.2.2.2.2 (cxE X) _ _ _ V1 _ mb hm (V1 mb) ((xs (i + 1))) _ w) (lw_V q2271 q2272 q2273 q134 q2274) rfl rfl (by decide +kernel) ⟨Nat.le_of_ble_eq_true rfl, Nat.le_of_ble_eq_true rfl⟩ rfl rfl rfl (Nat.le_of_ble_eq_true rfl) dL_law_1714 (kOk.m hk) (fun b9 s9 w => ?_)
  obtain ⟨e8, e9, w⟩ := w
  generalize eV2 : up1 V1 mb s9 = V2 at w ⊢
  have v8 : V2 mb = s9 := by rw [← eV2]; exact up1_s
  rw [eV2] at e9
  rw [← v8] at e8
  refine g_istore (lv' := [some (.ref b), some (.ref x), some (.ref mb), some (.ref o), some (.int (nI i)), some (.int r), some (.int b9)]) O dL_law_1717 (Nat.le_of_ble_eq_true rfl) rfl rfl ?_
  refine g_aload_n O dL_law_1719 rfl ?_
  refine gl_Vi0 (nA := 0) (As := []) (rest := []) O hRm hm.1 (cM_thrown _ O.2.2.2.2.2.2.2.2 (cxE X) _ _ _ V2 _ mb hm (V2 mb) (fun t0 => t0 = V2 mb 0 2) rfl) (lw_V q1918 q1919 q1920 q134 q1921) rfl rfl (by decide +kernel) ⟨Nat.le_of_ble_eq_true rfl, Nat.le_of_ble_eq_true rfl⟩ rfl rfl rfl (Nat.le_of_ble_eq_true rfl) dL_law_1720 (kOk.m hk) (fun t0 ht0 => ?_)
  refine g_iload O dL_law_1723 rfl ?_
  refine g_icmp_eq_t (tgt := 1730) O (ht0.trans e8) dL_law_1725 (by decide) ?_
  refine g_iload O dL_law_1730 rfl ?_
  by_cases hr : r = 0
  · refine g_if_ne_f O hr dL_law_1732 1747 (by decide) ?_
    refine g_aload_n O dL_law_1735 rfl ?_
    refine g_iconst (v := 0) O dL_law_1736 (by decide) ?_
    refine gl_lald (nn := 0) O ho hl1 (by decide) hl2 rfl dL_law_1737 ?_
    refine g_iload O dL_law_1738 rfl ?_
    refine g_i2l O dL_law_1740 ?_
    refine g_lcmp O dL_law_1741 ?_
    refine g_if_eq_t (tgt := 1747) O (by rw [e9 hr]; exact lg_same _) dL_law_1742 (by decide) ?_
    refine g_goto (tgt := 2211) O dL_law_1747 (by decide) ?_
    refine g_drop [5, 6] (lv' := [some (.ref b), some (.ref x), some (.ref mb), some (.ref o), some (.int (nI i)), none, none]) rfl ?_
    exact hpost _ _ _ _ _ _ _ _ hk hx ho hm w
  · refine g_if_ne_t (tgt := 1747) O hr dL_law_1732 (by decide) ?_
    refine g_goto (tgt := 2211) O dL_law_1747 (by decide) ?_
    refine g_drop [5, 6] (lv' := [some (.ref b), some (.ref x), some (.ref mb), some (.ref o), some (.int (nI i)), none, none]) rfl ?_
    exact hpost _ _ _ _ _ _ _ _ hk hx ho hm w
set_option maxHeartbeats 4000000 in
theorem vL_deaf {X : Cx} (O : Okc X cL_law RX0 7 (some .boolean)) (hRm : cxR X = room_1) {b Ls : Nat} {xs : Nat → Int32} (hS : lwS X b Ls xs) {k n U z : Nat} {T L : Nat → Nat} {V : w_V} {P : w_P} (i : Nat) (hi : i + 6 ≤ Ls) (x mb o : Nat) (hx : T x = 2) (ho : T o = 3003) (hl : 0 < L o ∧ L o < 2147483648) (hm : mOk (cxE X) T L P mb) (post : Nat → Nat → (Nat → Nat) → (Nat → Nat) → w_V → w_P → Prop) (hk : kOk room_1 k n U)
    (hpost : ∀ (k n U z : Nat) (T L : Nat → Nat) (V : w_V) (P : w_P), kOk room_1 k n U → T x = 2 → T o = 3003 → mOk (cxE X) T L P mb → post U z T L V P → gW X k n z T L V P 2211 [some (.ref b), some (.ref x), some (.ref mb), some (.ref o), some (.int (nI i)), none, none] [])
    (w : wL_deaf (cxE X) U z T L V P x mb o (xs (i + 1)) post) : gW X k n z T L V P 1750 [some (.ref b), some (.ref x), some (.ref mb), some (.ref o), some (.int (nI i)), none, none] [] := by
  obtain ⟨hX, hb, hbA, hLs⟩ := hS
  unfold wL_deaf at w
  refine g_aload_n O dL_law_1750 rfl ?_
  refine g_aload_n O dL_law_1751 rfl ?_
  refine g_iload O dL_law_1752 rfl ?_
  refine g_iconst (v := 1) O dL_law_1754 (by decide) ?_
  refine g_iadd O dL_law_1755 ?_
  refine gl_sld (nn := i + 1) O hX hb hbA (by omega) (by omega) (nI_add i 1) dL_law_1756 ?_
  refine g_aload_n O dL_law_1757 rfl ?_
  obtain ⟨c1, U2, e1, w⟩ := w
  have hk9 := kOk.eq hk e1
  refine gh_fi (xp := fun _ _ _ _ _ _ _ => False) (grx_SX (nA := 3) (As := [.ref x, .int (xs (i + 1)), .ref o]) (rest := []) O hRm (kX0_deaf _ O.2.2.2.2.2.2.2.2 (cxE X) _ _ _ _ _ _ x hx ((xs (i + 1))) o ho _ w) (lw_SW q1657 q1658 q105 q1659) rfl rfl (by decide +kernel) ⟨Nat.le_of_ble_eq_true rfl, Nat.le_of_ble_eq_true rfl⟩ rfl rfl rfl (Nat.le_of_ble_eq_true rfl) dL_law_1758 (kOk.fa hk9)) (fun _ _ _ _ _ _ _ h => h.elim) (fun r z T L V1 P1 w => ?_)
  obtain ⟨hx, ho, hl1, hl2, hm, w⟩ := w
  have hk := kOk.sa hk9
  refine g_istore (lv' := [some (.ref b), some (.ref x), some (.ref mb), some (.ref o), some (.int (nI i)), some (.int r), none]) O dL_law_1761 (Nat.le_of_ble_eq_true rfl) rfl rfl ?_
  refine g_aload_n O dL_law_1763 rfl ?_
  refine g_aload_n O dL_law_1764 rfl ?_
  refine g_iload O dL_law_1765 rfl ?_
  refine g_iconst (v := 1) O dL_law_1767 (by decide) ?_
  refine g_iadd O dL_law_1768 ?_
  refine gl_sld (nn := i + 1) O hX hb hbA (by omega) (by omega) (nI_add i 1) dL_law_1769 ?_
  refine gl_Vi (nA := 1) (As := [.int (xs (i + 1))]) (rest := []) O hRm hm.1 (cM_deaf _ O.2.2.2.2.2.2.2.2 (cxE X) _ _ _ V1 _ mb hm (V1 mb) ((xs (i + 1))) _ w) (lw_V q2278 q2279 q2280 q134 q2281) rfl rfl (by decide +kernel) ⟨Nat.le_of_ble_eq_true rfl, Nat.le_of_ble_eq_true rfl⟩ rfl rfl rfl (Nat.le_of_ble_eq_true rfl) dL_law_1770 (kOk.m hk) (fun b9 s9 w => ?_)
  obtain ⟨e8, e9, w⟩ := w
  generalize eV2 : up1 V1 mb s9 = V2 at w ⊢
  have v8 : V2 mb = s9 := by rw [← eV2]; exact up1_s
  rw [eV2] at e9
  rw [← v8] at e8
  refine g_istore (lv' := [some (.ref b), some (.ref x), some (.ref mb), some (.ref o), some (.int (nI i)), some (.int r), some (.int b9)]) O dL_law_1773 (Nat.le_of_ble_eq_true rfl) rfl rfl ?_
  refine g_aload_n O dL_law_1775 rfl ?_
  refine gl_Vi0 (nA := 0) (As := []) (rest := []) O hRm hm.1 (cM_thrown _ O.2.2.2.2.2.2.2.2 (cxE X) _ _ _ V2 _ mb hm (V2 mb) (fun t0 => t0 = V2 mb 0 2) rfl) (lw_V q1918 q1919 q1920 q134 q1921) rfl rfl (by decide +kernel) ⟨Nat.le_of_ble_eq_true rfl, Nat.le_of_ble_eq_true rfl⟩ rfl rfl rfl (Nat.le_of_ble_eq_true rfl) dL_law_1776 (kOk.m hk) (fun t0 ht0 => ?_)
  refine g_iload O dL_law_1779 rfl ?_
  refine g_icmp_eq_t (tgt := 1786) O (ht0.trans e8) dL_law_1781 (by decide) ?_
  refine g_iload O dL_law_1786 rfl ?_
  by_cases hr : r = 0
  · refine g_if_ne_f O hr dL_law_1788 1803 (by decide) ?_
    refine g_aload_n O dL_law_1791 rfl ?_
    refine g_iconst (v := 0) O dL_law_1792 (by decide) ?_
    refine gl_lald (nn := 0) O ho hl1 (by decide) hl2 rfl dL_law_1793 ?_
    refine g_iload O dL_law_1794 rfl ?_
    refine g_i2l O dL_law_1796 ?_
    refine g_lcmp O dL_law_1797 ?_
    refine g_if_eq_t (tgt := 1803) O (by rw [e9 hr]; exact lg_same _) dL_law_1798 (by decide) ?_
    refine g_goto (tgt := 2211) O dL_law_1803 (by decide) ?_
    refine g_drop [5, 6] (lv' := [some (.ref b), some (.ref x), some (.ref mb), some (.ref o), some (.int (nI i)), none, none]) rfl ?_
    exact hpost _ _ _ _ _ _ _ _ hk hx ho hm w
  · refine g_if_ne_t (tgt := 1803) O hr dL_law_1788 (by decide) ?_
    refine g_goto (tgt := 2211) O dL_law_1803 (by decide) ?_
    refine g_drop [5, 6] (lv' := [some (.ref b), some (.ref x), some (.ref mb), some (.ref o), some (.int (nI i)), none, none]) rfl ?_
    exact hpost _ _ _ _ _ _ _ _ hk hx ho hm w
set_option maxHeartbeats 4000000 in
theorem vL_soonest {X : Cx} (O : Okc X cL_law RX0 7 (some .boolean)) (hRm : cxR X = room_1) {b Ls : Nat} {xs : Nat → Int32} (hS : lwS X b Ls xs) {k n U z : Nat} {T L : Nat → Nat} {V : w_V} {P : w_P} (i : Nat) (hi : i + 6 ≤ Ls) (x mb o : Nat) (hx : T x = 2) (ho : T o = 3003) (hl : 0 < L o ∧ L o < 2147483648) (hm : mOk (cxE X) T L P mb) (post : Nat → Nat → (Nat → Nat) → (Nat → Nat) → w_V → w_P → Prop) (hk : kOk room_1 k n U)
    (hpost : ∀ (k n U z : Nat) (T L : Nat → Nat) (V : w_V) (P : w_P), kOk room_1 k n U → T x = 2 → T o = 3003 → mOk (cxE X) T L P mb → post U z T L V P → gW X k n z T L V P 2211 [some (.ref b), some (.ref x), some (.ref mb), some (.ref o), some (.int (nI i)), none, none] [])
    (w : wL_soonest (cxE X) U z T L V P x mb o (xs (i + 1)) post) : gW X k n z T L V P 1806 [some (.ref b), some (.ref x), some (.ref mb), some (.ref o), some (.int (nI i)), none, none] [] := by
  obtain ⟨hX, hb, hbA, hLs⟩ := hS
  unfold wL_soonest at w
  refine g_aload_n O dL_law_1806 rfl ?_
  refine g_aload_n O dL_law_1807 rfl ?_
  refine g_iload O dL_law_1808 rfl ?_
  refine g_iconst (v := 1) O dL_law_1810 (by decide) ?_
  refine g_iadd O dL_law_1811 ?_
  refine gl_sld (nn := i + 1) O hX hb hbA (by omega) (by omega) (nI_add i 1) dL_law_1812 ?_
  refine g_aload_n O dL_law_1813 rfl ?_
  obtain ⟨c1, U2, e1, w⟩ := w
  have hk9 := kOk.eq hk e1
  refine gh_fi (xp := fun _ _ _ _ _ _ _ => False) (grx_SX (nA := 3) (As := [.ref x, .int (xs (i + 1)), .ref o]) (rest := []) O hRm (kX0_soonest _ O.2.2.2.2.2.2.2.2 (cxE X) _ _ _ _ _ _ x hx ((xs (i + 1))) o ho _ w) (lw_SW q1664 q1665 q105 q1666) rfl rfl (by decide +kernel) ⟨Nat.le_of_ble_eq_true rfl, Nat.le_of_ble_eq_true rfl⟩ rfl rfl rfl (Nat.le_of_ble_eq_true rfl) dL_law_1814 (kOk.fa hk9)) (fun _ _ _ _ _ _ _ h => h.elim) (fun r z T L V1 P1 w => ?_)
  obtain ⟨hx, ho, hl1, hl2, hm, w⟩ := w
  have hk := kOk.sa hk9
  refine g_istore (lv' := [some (.ref b), some (.ref x), some (.ref mb), some (.ref o), some (.int (nI i)), some (.int r), none]) O dL_law_1817 (Nat.le_of_ble_eq_true rfl) rfl rfl ?_
  refine g_aload_n O dL_law_1819 rfl ?_
  refine g_aload_n O dL_law_1820 rfl ?_
  refine g_iload O dL_law_1821 rfl ?_
  refine g_iconst (v := 1) O dL_law_1823 (by decide) ?_
  refine g_iadd O dL_law_1824 ?_
  refine gl_sld (nn := i + 1) O hX hb hbA (by omega) (by omega) (nI_add i 1) dL_law_1825 ?_
  refine gl_Vi (nA := 1) (As := [.int (xs (i + 1))]) (rest := []) O hRm hm.1 (cM_soonest _ O.2.2.2.2.2.2.2.2 (cxE X) _ _ _ V1 _ mb hm (V1 mb) ((xs (i + 1))) _ w) (lw_V q2282 q2283 q2284 q134 q2285) rfl rfl (by decide +kernel) ⟨Nat.le_of_ble_eq_true rfl, Nat.le_of_ble_eq_true rfl⟩ rfl rfl rfl (Nat.le_of_ble_eq_true rfl) dL_law_1826 (kOk.m hk) (fun b9 s9 w => ?_)
  obtain ⟨e8, e9, w⟩ := w
  generalize eV2 : up1 V1 mb s9 = V2 at w ⊢
  have v8 : V2 mb = s9 := by rw [← eV2]; exact up1_s
  rw [eV2] at e9
  rw [← v8] at e8
  refine g_istore (lv' := [some (.ref b), some (.ref x), some (.ref mb), some (.ref o), some (.int (nI i)), some (.int r), some (.int b9)]) O dL_law_1829 (Nat.le_of_ble_eq_true rfl) rfl rfl ?_
  refine g_aload_n O dL_law_1831 rfl ?_
  refine gl_Vi0 (nA := 0) (As := []) (rest := []) O hRm hm.1 (cM_thrown _ O.2.2.2.2.2.2.2.2 (cxE X) _ _ _ V2 _ mb hm (V2 mb) (fun t0 => t0 = V2 mb 0 2) rfl) (lw_V q1918 q1919 q1920 q134 q1921) rfl rfl (by decide +kernel) ⟨Nat.le_of_ble_eq_true rfl, Nat.le_of_ble_eq_true rfl⟩ rfl rfl rfl (Nat.le_of_ble_eq_true rfl) dL_law_1832 (kOk.m hk) (fun t0 ht0 => ?_)
  refine g_iload O dL_law_1835 rfl ?_
  refine g_icmp_eq_t (tgt := 1842) O (ht0.trans e8) dL_law_1837 (by decide) ?_
  refine g_iload O dL_law_1842 rfl ?_
  by_cases hr : r = 0
  · refine g_if_ne_f O hr dL_law_1844 1859 (by decide) ?_
    refine g_aload_n O dL_law_1847 rfl ?_
    refine g_iconst (v := 0) O dL_law_1848 (by decide) ?_
    refine gl_lald (nn := 0) O ho hl1 (by decide) hl2 rfl dL_law_1849 ?_
    refine g_iload O dL_law_1850 rfl ?_
    refine g_i2l O dL_law_1852 ?_
    refine g_lcmp O dL_law_1853 ?_
    refine g_if_eq_t (tgt := 1859) O (by rw [e9 hr]; exact lg_same _) dL_law_1854 (by decide) ?_
    refine g_goto (tgt := 2211) O dL_law_1859 (by decide) ?_
    refine g_drop [5, 6] (lv' := [some (.ref b), some (.ref x), some (.ref mb), some (.ref o), some (.int (nI i)), none, none]) rfl ?_
    exact hpost _ _ _ _ _ _ _ _ hk hx ho hm w
  · refine g_if_ne_t (tgt := 1859) O hr dL_law_1844 (by decide) ?_
    refine g_goto (tgt := 2211) O dL_law_1859 (by decide) ?_
    refine g_drop [5, 6] (lv' := [some (.ref b), some (.ref x), some (.ref mb), some (.ref o), some (.int (nI i)), none, none]) rfl ?_
    exact hpost _ _ _ _ _ _ _ _ hk hx ho hm w
set_option maxHeartbeats 4000000 in
theorem vL_see {X : Cx} (O : Okc X cL_law RX0 7 (some .boolean)) (hRm : cxR X = room_1) {b Ls : Nat} {xs : Nat → Int32} (hS : lwS X b Ls xs) {k n U z : Nat} {T L : Nat → Nat} {V : w_V} {P : w_P} (i : Nat) (hi : i + 6 ≤ Ls) (x mb o : Nat) (hx : T x = 2) (ho : T o = 3003) (hl : 0 < L o ∧ L o < 2147483648) (hm : mOk (cxE X) T L P mb) (post : Nat → Nat → (Nat → Nat) → (Nat → Nat) → w_V → w_P → Prop) (hk : kOk room_1 k n U)
    (hpost : ∀ (k n U z : Nat) (T L : Nat → Nat) (V : w_V) (P : w_P), kOk room_1 k n U → T x = 2 → T o = 3003 → mOk (cxE X) T L P mb → post U z T L V P → gW X k n z T L V P 2211 [some (.ref b), some (.ref x), some (.ref mb), some (.ref o), some (.int (nI i)), none, none] [])
    (w : wL_see (cxE X) U z T L V P x mb o (xs (i + 1)) (xs (i + 2)) (xs (i + 3)) post) : gW X k n z T L V P 1862 [some (.ref b), some (.ref x), some (.ref mb), some (.ref o), some (.int (nI i)), none, none] [] := by
  obtain ⟨hX, hb, hbA, hLs⟩ := hS
  unfold wL_see at w
  by_cases hbo : xs (i + 3) = 0
  · replace w := w.1 hbo
    refine g_aload_n O dL_law_1862 rfl ?_
    refine g_aload_n O dL_law_1863 rfl ?_
    refine g_iload O dL_law_1864 rfl ?_
    refine g_iconst (v := 1) O dL_law_1866 (by decide) ?_
    refine g_iadd O dL_law_1867 ?_
    refine gl_sld (nn := i + 1) O hX hb hbA (by omega) (by omega) (nI_add i 1) dL_law_1868 ?_
    refine g_aload_n O dL_law_1869 rfl ?_
    refine g_iload O dL_law_1870 rfl ?_
    refine g_iconst (v := 2) O dL_law_1872 (by decide) ?_
    refine g_iadd O dL_law_1873 ?_
    refine gl_sld (nn := i + 2) O hX hb hbA (by omega) (by omega) (nI_add i 2) dL_law_1874 ?_
    refine g_aload_n O dL_law_1875 rfl ?_
    refine g_iload O dL_law_1876 rfl ?_
    refine g_iconst (v := 3) O dL_law_1878 (by decide) ?_
    refine g_iadd O dL_law_1879 ?_
    refine gl_sld (nn := i + 3) O hX hb hbA (by omega) (by omega) (nI_add i 3) dL_law_1880 ?_
    refine g_if_eq_t (tgt := 1888) O hbo dL_law_1881 (by decide) ?_
    refine g_iconst (v := 0) O dL_law_1888 (by decide) ?_
    refine g_aload_n O dL_law_1889 rfl ?_
    obtain ⟨c1, U2, e1, w⟩ := w
    have hk9 := kOk.eq hk e1
    refine gh_fi (xp := fun _ _ _ _ _ _ _ => False) (grx_SX (nA := 5) (As := [.ref x, .int (xs (i + 1)), .int (xs (i + 2)), .int 0, .ref o]) (rest := []) O hRm (kX0_see _ O.2.2.2.2.2.2.2.2 (cxE X) _ _ _ _ _ _ x hx ((xs (i + 1))) ((xs (i + 2))) (0) o ho _ w) (lw_SW q1671 q1672 q105 q1673) rfl rfl (by decide +kernel) ⟨Nat.le_of_ble_eq_true rfl, Nat.le_of_ble_eq_true rfl⟩ rfl rfl rfl (Nat.le_of_ble_eq_true rfl) dL_law_1890 (kOk.fa hk9)) (fun _ _ _ _ _ _ _ h => h.elim) (fun r z T L V1 P1 w => ?_)
    obtain ⟨hx, ho, hl1, hl2, hm, w⟩ := w
    have hk := kOk.sa hk9
    refine g_istore (lv' := [some (.ref b), some (.ref x), some (.ref mb), some (.ref o), some (.int (nI i)), some (.int r), none]) O dL_law_1893 (Nat.le_of_ble_eq_true rfl) rfl rfl ?_
    refine g_aload_n O dL_law_1895 rfl ?_
    refine g_aload_n O dL_law_1896 rfl ?_
    refine g_iload O dL_law_1897 rfl ?_
    refine g_iconst (v := 1) O dL_law_1899 (by decide) ?_
    refine g_iadd O dL_law_1900 ?_
    refine gl_sld (nn := i + 1) O hX hb hbA (by omega) (by omega) (nI_add i 1) dL_law_1901 ?_
    refine g_aload_n O dL_law_1902 rfl ?_
    refine g_iload O dL_law_1903 rfl ?_
    refine g_iconst (v := 2) O dL_law_1905 (by decide) ?_
    refine g_iadd O dL_law_1906 ?_
    refine gl_sld (nn := i + 2) O hX hb hbA (by omega) (by omega) (nI_add i 2) dL_law_1907 ?_
    refine g_aload_n O dL_law_1908 rfl ?_
    refine g_iload O dL_law_1909 rfl ?_
    refine g_iconst (v := 3) O dL_law_1911 (by decide) ?_
    refine g_iadd O dL_law_1912 ?_
    refine gl_sld (nn := i + 3) O hX hb hbA (by omega) (by omega) (nI_add i 3) dL_law_1913 ?_
    refine g_if_eq_t (tgt := 1921) O hbo dL_law_1914 (by decide) ?_
    refine g_iconst (v := 0) O dL_law_1921 (by decide) ?_
    refine gl_Vi (nA := 3) (As := [.int (xs (i + 1)), .int (xs (i + 2)), .int 0]) (rest := []) O hRm hm.1 (cM_see _ O.2.2.2.2.2.2.2.2 (cxE X) _ _ _ V1 _ mb hm (V1 mb) ((xs (i + 1))) ((xs (i + 2))) (0) _ w) (lw_V q2286 q2287 q2288 q134 q2289) rfl rfl (by decide +kernel) ⟨Nat.le_of_ble_eq_true rfl, Nat.le_of_ble_eq_true rfl⟩ rfl rfl rfl (Nat.le_of_ble_eq_true rfl) dL_law_1922 (kOk.m hk) (fun b9 s9 w => ?_)
    obtain ⟨e8, e9, w⟩ := w
    generalize eV2 : up1 V1 mb s9 = V2 at w ⊢
    have v8 : V2 mb = s9 := by rw [← eV2]; exact up1_s
    rw [eV2] at e9
    rw [← v8] at e8
    refine g_istore (lv' := [some (.ref b), some (.ref x), some (.ref mb), some (.ref o), some (.int (nI i)), some (.int r), some (.int b9)]) O dL_law_1925 (Nat.le_of_ble_eq_true rfl) rfl rfl ?_
    refine g_aload_n O dL_law_1927 rfl ?_
    refine gl_Vi0 (nA := 0) (As := []) (rest := []) O hRm hm.1 (cM_thrown _ O.2.2.2.2.2.2.2.2 (cxE X) _ _ _ V2 _ mb hm (V2 mb) (fun t0 => t0 = V2 mb 0 2) rfl) (lw_V q1918 q1919 q1920 q134 q1921) rfl rfl (by decide +kernel) ⟨Nat.le_of_ble_eq_true rfl, Nat.le_of_ble_eq_true rfl⟩ rfl rfl rfl (Nat.le_of_ble_eq_true rfl) dL_law_1928 (kOk.m hk) (fun t0 ht0 => ?_)
    refine g_iload O dL_law_1931 rfl ?_
    refine g_icmp_eq_t (tgt := 1938) O (ht0.trans e8) dL_law_1933 (by decide) ?_
    refine g_iload O dL_law_1938 rfl ?_
    by_cases hr : r = 0
    · refine g_if_ne_f O hr dL_law_1940 1955 (by decide) ?_
      refine g_aload_n O dL_law_1943 rfl ?_
      refine g_iconst (v := 0) O dL_law_1944 (by decide) ?_
      refine gl_lald (nn := 0) O ho hl1 (by decide) hl2 rfl dL_law_1945 ?_
      refine g_iload O dL_law_1946 rfl ?_
      refine g_i2l O dL_law_1948 ?_
      refine g_lcmp O dL_law_1949 ?_
      refine g_if_eq_t (tgt := 1955) O (by rw [e9 hr]; exact lg_same _) dL_law_1950 (by decide) ?_
      refine g_goto (tgt := 2211) O dL_law_1955 (by decide) ?_
      refine g_drop [5, 6] (lv' := [some (.ref b), some (.ref x), some (.ref mb), some (.ref o), some (.int (nI i)), none, none]) rfl ?_
      exact hpost _ _ _ _ _ _ _ _ hk hx ho hm w
    · refine g_if_ne_t (tgt := 1955) O hr dL_law_1940 (by decide) ?_
      refine g_goto (tgt := 2211) O dL_law_1955 (by decide) ?_
      refine g_drop [5, 6] (lv' := [some (.ref b), some (.ref x), some (.ref mb), some (.ref o), some (.int (nI i)), none, none]) rfl ?_
      exact hpost _ _ _ _ _ _ _ _ hk hx ho hm w
  · replace w := w.2 hbo
    refine g_aload_n O dL_law_1862 rfl ?_
    refine g_aload_n O dL_law_1863 rfl ?_
    refine g_iload O dL_law_1864 rfl ?_
    refine g_iconst (v := 1) O dL_law_1866 (by decide) ?_
    refine g_iadd O dL_law_1867 ?_
    refine gl_sld (nn := i + 1) O hX hb hbA (by omega) (by omega) (nI_add i 1) dL_law_1868 ?_
    refine g_aload_n O dL_law_1869 rfl ?_
    refine g_iload O dL_law_1870 rfl ?_
    refine g_iconst (v := 2) O dL_law_1872 (by decide) ?_
    refine g_iadd O dL_law_1873 ?_
    refine gl_sld (nn := i + 2) O hX hb hbA (by omega) (by omega) (nI_add i 2) dL_law_1874 ?_
    refine g_aload_n O dL_law_1875 rfl ?_
    refine g_iload O dL_law_1876 rfl ?_
    refine g_iconst (v := 3) O dL_law_1878 (by decide) ?_
    refine g_iadd O dL_law_1879 ?_
    refine gl_sld (nn := i + 3) O hX hb hbA (by omega) (by omega) (nI_add i 3) dL_law_1880 ?_
    refine g_if_eq_f O hbo dL_law_1881 1888 (by decide) ?_
    refine g_iconst (v := 1) O dL_law_1884 (by decide) ?_
    refine g_goto (tgt := 1889) O dL_law_1885 (by decide) ?_
    refine g_aload_n O dL_law_1889 rfl ?_
    obtain ⟨c1, U2, e1, w⟩ := w
    have hk9 := kOk.eq hk e1
    refine gh_fi (xp := fun _ _ _ _ _ _ _ => False) (grx_SX (nA := 5) (As := [.ref x, .int (xs (i + 1)), .int (xs (i + 2)), .int 1, .ref o]) (rest := []) O hRm (kX0_see _ O.2.2.2.2.2.2.2.2 (cxE X) _ _ _ _ _ _ x hx ((xs (i + 1))) ((xs (i + 2))) (1) o ho _ w) (lw_SW q1671 q1672 q105 q1673) rfl rfl (by decide +kernel) ⟨Nat.le_of_ble_eq_true rfl, Nat.le_of_ble_eq_true rfl⟩ rfl rfl rfl (Nat.le_of_ble_eq_true rfl) dL_law_1890 (kOk.fa hk9)) (fun _ _ _ _ _ _ _ h => h.elim) (fun r z T L V1 P1 w => ?_)
    obtain ⟨hx, ho, hl1, hl2, hm, w⟩ := w
    have hk := kOk.sa hk9
    refine g_istore (lv' := [some (.ref b), some (.ref x), some (.ref mb), some (.ref o), some (.int (nI i)), some (.int r), none]) O dL_law_1893 (Nat.le_of_ble_eq_true rfl) rfl rfl ?_
    refine g_aload_n O dL_law_1895 rfl ?_
    refine g_aload_n O dL_law_1896 rfl ?_
    refine g_iload O dL_law_1897 rfl ?_
    refine g_iconst (v := 1) O dL_law_1899 (by decide) ?_
    refine g_iadd O dL_law_1900 ?_
    refine gl_sld (nn := i + 1) O hX hb hbA (by omega) (by omega) (nI_add i 1) dL_law_1901 ?_
    refine g_aload_n O dL_law_1902 rfl ?_
    refine g_iload O dL_law_1903 rfl ?_
    refine g_iconst (v := 2) O dL_law_1905 (by decide) ?_
    refine g_iadd O dL_law_1906 ?_
    refine gl_sld (nn := i + 2) O hX hb hbA (by omega) (by omega) (nI_add i 2) dL_law_1907 ?_
    refine g_aload_n O dL_law_1908 rfl ?_
    refine g_iload O dL_law_1909 rfl ?_
    refine g_iconst (v := 3) O dL_law_1911 (by decide) ?_
    refine g_iadd O dL_law_1912 ?_
    refine gl_sld (nn := i + 3) O hX hb hbA (by omega) (by omega) (nI_add i 3) dL_law_1913 ?_
    refine g_if_eq_f O hbo dL_law_1914 1921 (by decide) ?_
    refine g_iconst (v := 1) O dL_law_1917 (by decide) ?_
    refine g_goto (tgt := 1922) O dL_law_1918 (by decide) ?_
    refine gl_Vi (nA := 3) (As := [.int (xs (i + 1)), .int (xs (i + 2)), .int 1]) (rest := []) O hRm hm.1 (cM_see _ O.2.2.2.2.2.2.2.2 (cxE X) _ _ _ V1 _ mb hm (V1 mb) ((xs (i + 1))) ((xs (i + 2))) (1) _ w) (lw_V q2286 q2287 q2288 q134 q2289) rfl rfl (by decide +kernel) ⟨Nat.le_of_ble_eq_true rfl, Nat.le_of_ble_eq_true rfl⟩ rfl rfl rfl (Nat.le_of_ble_eq_true rfl) dL_law_1922 (kOk.m hk) (fun b9 s9 w => ?_)
    obtain ⟨e8, e9, w⟩ := w
    generalize eV2 : up1 V1 mb s9 = V2 at w ⊢
    have v8 : V2 mb = s9 := by rw [← eV2]; exact up1_s
    rw [eV2] at e9
    rw [← v8] at e8
    refine g_istore (lv' := [some (.ref b), some (.ref x), some (.ref mb), some (.ref o), some (.int (nI i)), some (.int r), some (.int b9)]) O dL_law_1925 (Nat.le_of_ble_eq_true rfl) rfl rfl ?_
    refine g_aload_n O dL_law_1927 rfl ?_
    refine gl_Vi0 (nA := 0) (As := []) (rest := []) O hRm hm.1 (cM_thrown _ O.2.2.2.2.2.2.2.2 (cxE X) _ _ _ V2 _ mb hm (V2 mb) (fun t0 => t0 = V2 mb 0 2) rfl) (lw_V q1918 q1919 q1920 q134 q1921) rfl rfl (by decide +kernel) ⟨Nat.le_of_ble_eq_true rfl, Nat.le_of_ble_eq_true rfl⟩ rfl rfl rfl (Nat.le_of_ble_eq_true rfl) dL_law_1928 (kOk.m hk) (fun t0 ht0 => ?_)
    refine g_iload O dL_law_1931 rfl ?_
    refine g_icmp_eq_t (tgt := 1938) O (ht0.trans e8) dL_law_1933 (by decide) ?_
    refine g_iload O dL_law_1938 rfl ?_
    by_cases hr : r = 0
    · refine g_if_ne_f O hr dL_law_1940 1955 (by decide) ?_
      refine g_aload_n O dL_law_1943 rfl ?_
      refine g_iconst (v := 0) O dL_law_1944 (by decide) ?_
      refine gl_lald (nn := 0) O ho hl1 (by decide) hl2 rfl dL_law_1945 ?_
      refine g_iload O dL_law_1946 rfl ?_
      refine g_i2l O dL_law_1948 ?_
      refine g_lcmp O dL_law_1949 ?_
      refine g_if_eq_t (tgt := 1955) O (by rw [e9 hr]; exact lg_same _) dL_law_1950 (by decide) ?_
      refine g_goto (tgt := 2211) O dL_law_1955 (by decide) ?_
      refine g_drop [5, 6] (lv' := [some (.ref b), some (.ref x), some (.ref mb), some (.ref o), some (.int (nI i)), none, none]) rfl ?_
      exact hpost _ _ _ _ _ _ _ _ hk hx ho hm w
    · refine g_if_ne_t (tgt := 1955) O hr dL_law_1940 (by decide) ?_
      refine g_goto (tgt := 2211) O dL_law_1955 (by decide) ?_
      refine g_drop [5, 6] (lv' := [some (.ref b), some (.ref x), some (.ref mb), some (.ref o), some (.int (nI i)), none, none]) rfl ?_
      exact hpost _ _ _ _ _ _ _ _ hk hx ho hm w
set_option maxHeartbeats 4000000 in
theorem vL_forget {X : Cx} (O : Okc X cL_law RX0 7 (some .boolean)) (hRm : cxR X = room_1) {b Ls : Nat} {xs : Nat → Int32} (hS : lwS X b Ls xs) {k n U z : Nat} {T L : Nat → Nat} {V : w_V} {P : w_P} (i : Nat) (hi : i + 6 ≤ Ls) (x mb o : Nat) (hx : T x = 2) (ho : T o = 3003) (hl : 0 < L o ∧ L o < 2147483648) (hm : mOk (cxE X) T L P mb) (post : Nat → Nat → (Nat → Nat) → (Nat → Nat) → w_V → w_P → Prop) (hk : kOk room_1 k n U)
    (hpost : ∀ (k n U z : Nat) (T L : Nat → Nat) (V : w_V) (P : w_P), kOk room_1 k n U → T x = 2 → T o = 3003 → mOk (cxE X) T L P mb → post U z T L V P → gW X k n z T L V P 2211 [some (.ref b), some (.ref x), some (.ref mb), some (.ref o), some (.int (nI i)), none, none] [])
    (w : wL_forget (cxE X) U z T L V P x mb o post) : gW X k n z T L V P 1958 [some (.ref b), some (.ref x), some (.ref mb), some (.ref o), some (.int (nI i)), none, none] [] := by
  obtain ⟨hX, hb, hbA, hLs⟩ := hS
  unfold wL_forget at w
  refine g_aload_n O dL_law_1958 rfl ?_
  refine g_ri1 (gr_V (lay := 1) (nA := 0) (As := []) (rest := []) O hRm (kX1_forget _ O.2.2.2.2.2.2.2.2 (cxE X) _ _ _ _ _ x hx _ w) (lw_V q866 q867 q868 q106 q869) rfl rfl (by decide +kernel) ⟨Nat.le_of_ble_eq_true rfl, Nat.le_of_ble_eq_true rfl⟩ ck1 (by decide) rfl hx rfl rfl rfl (Nat.le_of_ble_eq_true rfl) dL_law_1959 (kOk.f0 hk)) (fun r V1 w => ?_)
  have hk := kOk.s0 hk
  refine g_aload_n O dL_law_1962 rfl ?_
  refine gl_Vi (nA := 0) (As := []) (rest := [.int r]) O hRm hm.1 (cM_forget _ O.2.2.2.2.2.2.2.2 (cxE X) _ _ _ V1 _ mb hm (V1 mb) _ w) (lw_V q2290 q2291 q2292 q134 q2293) rfl rfl (by decide +kernel) ⟨Nat.le_of_ble_eq_true rfl, Nat.le_of_ble_eq_true rfl⟩ rfl rfl rfl (Nat.le_of_ble_eq_true rfl) dL_law_1963 (kOk.m hk) (fun b9 s9 w => ?_)
  obtain ⟨e9, w⟩ := w
  generalize eV2 : up1 V1 mb s9 = V2 at w ⊢
  have v8 : V2 mb = s9 := by rw [← eV2]; exact up1_s
  refine g_icmp_eq_t (tgt := 2211) O e9 dL_law_1966 (by decide) ?_
  exact hpost _ _ _ _ _ _ _ _ hk hx ho hm w
set_option maxHeartbeats 4000000 in
theorem vL_sent {X : Cx} (O : Okc X cL_law RX0 7 (some .boolean)) (hRm : cxR X = room_1) {b Ls : Nat} {xs : Nat → Int32} (hS : lwS X b Ls xs) {k n U z : Nat} {T L : Nat → Nat} {V : w_V} {P : w_P} (i : Nat) (hi : i + 6 ≤ Ls) (x mb o : Nat) (hx : T x = 2) (ho : T o = 3003) (hl : 0 < L o ∧ L o < 2147483648) (hm : mOk (cxE X) T L P mb) (post : Nat → Nat → (Nat → Nat) → (Nat → Nat) → w_V → w_P → Prop) (hk : kOk room_1 k n U)
    (hpost : ∀ (k n U z : Nat) (T L : Nat → Nat) (V : w_V) (P : w_P), kOk room_1 k n U → T x = 2 → T o = 3003 → mOk (cxE X) T L P mb → post U z T L V P → gW X k n z T L V P 2211 [some (.ref b), some (.ref x), some (.ref mb), some (.ref o), some (.int (nI i)), none, none] [])
    (w : wL_sent (cxE X) U z T L V P x mb o (xs (i + 1)) (xs (i + 2)) post) : gW X k n z T L V P 1971 [some (.ref b), some (.ref x), some (.ref mb), some (.ref o), some (.int (nI i)), none, none] [] := by
  obtain ⟨hX, hb, hbA, hLs⟩ := hS
  unfold wL_sent at w
  refine g_aload_n O dL_law_1971 rfl ?_
  refine g_aload_n O dL_law_1972 rfl ?_
  refine g_iload O dL_law_1973 rfl ?_
  refine g_iconst (v := 1) O dL_law_1975 (by decide) ?_
  refine g_iadd O dL_law_1976 ?_
  refine gl_sld (nn := i + 1) O hX hb hbA (by omega) (by omega) (nI_add i 1) dL_law_1977 ?_
  refine g_aload_n O dL_law_1978 rfl ?_
  refine g_iload O dL_law_1979 rfl ?_
  refine g_iconst (v := 2) O dL_law_1981 (by decide) ?_
  refine g_iadd O dL_law_1982 ?_
  refine gl_sld (nn := i + 2) O hX hb hbA (by omega) (by omega) (nI_add i 2) dL_law_1983 ?_
  refine g_aload_n O dL_law_1984 rfl ?_
  obtain ⟨c1, U2, e1, w⟩ := w
  have hk9 := kOk.eq hk e1
  refine gh_fi (xp := fun _ _ _ _ _ _ _ => False) (grx_SX (nA := 4) (As := [.ref x, .int (xs (i + 1)), .int (xs (i + 2)), .ref o]) (rest := []) O hRm (kX0_sent _ O.2.2.2.2.2.2.2.2 (cxE X) _ _ _ _ _ _ x hx ((xs (i + 1))) ((xs (i + 2))) o ho _ w) (lw_SW q1678 q1679 q105 q1680) rfl rfl (by decide +kernel) ⟨Nat.le_of_ble_eq_true rfl, Nat.le_of_ble_eq_true rfl⟩ rfl rfl rfl (Nat.le_of_ble_eq_true rfl) dL_law_1985 (kOk.fa hk9)) (fun _ _ _ _ _ _ _ h => h.elim) (fun r z T L V1 P1 w => ?_)
  obtain ⟨hx, ho, hl1, hl2, hm, w⟩ := w
  have hk := kOk.sa hk9
  refine g_istore (lv' := [some (.ref b), some (.ref x), some (.ref mb), some (.ref o), some (.int (nI i)), some (.int r), none]) O dL_law_1988 (Nat.le_of_ble_eq_true rfl) rfl rfl ?_
  refine g_aload_n O dL_law_1990 rfl ?_
  refine g_aload_n O dL_law_1991 rfl ?_
  refine g_iload O dL_law_1992 rfl ?_
  refine g_iconst (v := 1) O dL_law_1994 (by decide) ?_
  refine g_iadd O dL_law_1995 ?_
  refine gl_sld (nn := i + 1) O hX hb hbA (by omega) (by omega) (nI_add i 1) dL_law_1996 ?_
  refine g_aload_n O dL_law_1997 rfl ?_
  refine g_iload O dL_law_1998 rfl ?_
  refine g_iconst (v := 2) O dL_law_2000 (by decide) ?_
  refine g_iadd O dL_law_2001 ?_
  refine gl_sld (nn := i + 2) O hX hb hbA (by omega) (by omega) (nI_add i 2) dL_law_2002 ?_
  refine gl_Vi (nA := 2) (As := [.int (xs (i + 1)), .int (xs (i + 2))]) (rest := []) O hRm hm.1 (cM_sent _ O.2.2.2.2.2.2.2.2 (cxE X) _ _ _ V1 _ mb hm (V1 mb) ((xs (i + 1))) ((xs (i + 2))) _ w) (lw_V q2294 q2295 q2296 q134 q2297) rfl rfl (by decide +kernel) ⟨Nat.le_of_ble_eq_true rfl, Nat.le_of_ble_eq_true rfl⟩ rfl rfl rfl (Nat.le_of_ble_eq_true rfl) dL_law_2003 (kOk.m hk) (fun b9 s9 w => ?_)
  obtain ⟨e8, e9, w⟩ := w
  generalize eV2 : up1 V1 mb s9 = V2 at w ⊢
  have v8 : V2 mb = s9 := by rw [← eV2]; exact up1_s
  rw [eV2] at e9
  rw [← v8] at e8
  refine g_istore (lv' := [some (.ref b), some (.ref x), some (.ref mb), some (.ref o), some (.int (nI i)), some (.int r), some (.int b9)]) O dL_law_2006 (Nat.le_of_ble_eq_true rfl) rfl rfl ?_
  refine g_aload_n O dL_law_2008 rfl ?_
  refine gl_Vi0 (nA := 0) (As := []) (rest := []) O hRm hm.1 (cM_thrown _ O.2.2.2.2.2.2.2.2 (cxE X) _ _ _ V2 _ mb hm (V2 mb) (fun t0 => t0 = V2 mb 0 2) rfl) (lw_V q1918 q1919 q1920 q134 q1921) rfl rfl (by decide +kernel) ⟨Nat.le_of_ble_eq_true rfl, Nat.le_of_ble_eq_true rfl⟩ rfl rfl rfl (Nat.le_of_ble_eq_true rfl) dL_law_2009 (kOk.m hk) (fun t0 ht0 => ?_)
  refine g_iload O dL_law_2012 rfl ?_
  refine g_icmp_eq_t (tgt := 2019) O (ht0.trans e8) dL_law_2014 (by decide) ?_
  refine g_iload O dL_law_2019 rfl ?_
  by_cases hr : r = 0
  · refine g_if_ne_f O hr dL_law_2021 2036 (by decide) ?_
    refine g_aload_n O dL_law_2024 rfl ?_
    refine g_iconst (v := 0) O dL_law_2025 (by decide) ?_
    refine gl_lald (nn := 0) O ho hl1 (by decide) hl2 rfl dL_law_2026 ?_
    refine g_iload O dL_law_2027 rfl ?_
    refine g_i2l O dL_law_2029 ?_
    refine g_lcmp O dL_law_2030 ?_
    refine g_if_eq_t (tgt := 2036) O (by rw [e9 hr]; exact lg_same _) dL_law_2031 (by decide) ?_
    refine g_goto (tgt := 2211) O dL_law_2036 (by decide) ?_
    refine g_drop [5, 6] (lv' := [some (.ref b), some (.ref x), some (.ref mb), some (.ref o), some (.int (nI i)), none, none]) rfl ?_
    exact hpost _ _ _ _ _ _ _ _ hk hx ho hm w
  · refine g_if_ne_t (tgt := 2036) O hr dL_law_2021 (by decide) ?_
    refine g_goto (tgt := 2211) O dL_law_2036 (by decide) ?_
    refine g_drop [5, 6] (lv' := [some (.ref b), some (.ref x), some (.ref mb), some (.ref o), some (.int (nI i)), none, none]) rfl ?_
    exact hpost _ _ _ _ _ _ _ _ hk hx ho hm w
set_option maxHeartbeats 4000000 in
theorem vL_game {X : Cx} (O : Okc X cL_law RX0 7 (some .boolean)) (hRm : cxR X = room_1) {b Ls : Nat} {xs : Nat → Int32} (hS : lwS X b Ls xs) {k n U z : Nat} {T L : Nat → Nat} {V : w_V} {P : w_P} (i : Nat) (hi : i + 6 ≤ Ls) (x mb o : Nat) (hx : T x = 2) (ho : T o = 3003) (hl : 0 < L o ∧ L o < 2147483648) (hm : mOk (cxE X) T L P mb) (post : Nat → Nat → (Nat → Nat) → (Nat → Nat) → w_V → w_P → Prop) (hk : kOk room_1 k n U)
    (hpost : ∀ (k n U z : Nat) (T L : Nat → Nat) (V : w_V) (P : w_P), kOk room_1 k n U → T x = 2 → T o = 3003 → mOk (cxE X) T L P mb → post U z T L V P → gW X k n z T L V P 2211 [some (.ref b), some (.ref x), some (.ref mb), some (.ref o), some (.int (nI i)), none, none] [])
    (w : wL_game (cxE X) U z T L V P x mb o (xs (i + 1)) (xs (i + 2)) post) : gW X k n z T L V P 2039 [some (.ref b), some (.ref x), some (.ref mb), some (.ref o), some (.int (nI i)), none, none] [] := by
  obtain ⟨hX, hb, hbA, hLs⟩ := hS
  unfold wL_game at w
  refine g_aload_n O dL_law_2039 rfl ?_
  refine g_aload_n O dL_law_2040 rfl ?_
  refine g_iload O dL_law_2041 rfl ?_
  refine g_iconst (v := 1) O dL_law_2043 (by decide) ?_
  refine g_iadd O dL_law_2044 ?_
  refine gl_sld (nn := i + 1) O hX hb hbA (by omega) (by omega) (nI_add i 1) dL_law_2045 ?_
  refine g_aload_n O dL_law_2046 rfl ?_
  refine g_iload O dL_law_2047 rfl ?_
  refine g_iconst (v := 2) O dL_law_2049 (by decide) ?_
  refine g_iadd O dL_law_2050 ?_
  refine gl_sld (nn := i + 2) O hX hb hbA (by omega) (by omega) (nI_add i 2) dL_law_2051 ?_
  refine g_aload_n O dL_law_2052 rfl ?_
  obtain ⟨c1, U2, e1, w⟩ := w
  have hk9 := kOk.eq hk e1
  refine gh_fi (xp := fun _ _ _ _ _ _ _ => False) (grx_SX (nA := 4) (As := [.ref x, .int (xs (i + 1)), .int (xs (i + 2)), .ref o]) (rest := []) O hRm (kX0_game _ O.2.2.2.2.2.2.2.2 (cxE X) _ _ _ _ _ _ x hx ((xs (i + 1))) ((xs (i + 2))) o ho _ w) (lw_SW q1689 q1690 q105 q1691) rfl rfl (by decide +kernel) ⟨Nat.le_of_ble_eq_true rfl, Nat.le_of_ble_eq_true rfl⟩ rfl rfl rfl (Nat.le_of_ble_eq_true rfl) dL_law_2053 (kOk.fa hk9)) (fun _ _ _ _ _ _ _ h => h.elim) (fun r z T L V1 P1 w => ?_)
  obtain ⟨hx, ho, hl1, hl2, hm, w⟩ := w
  have hk := kOk.sa hk9
  refine g_istore (lv' := [some (.ref b), some (.ref x), some (.ref mb), some (.ref o), some (.int (nI i)), some (.int r), none]) O dL_law_2056 (Nat.le_of_ble_eq_true rfl) rfl rfl ?_
  refine g_aload_n O dL_law_2058 rfl ?_
  refine g_aload_n O dL_law_2059 rfl ?_
  refine g_iload O dL_law_2060 rfl ?_
  refine g_iconst (v := 1) O dL_law_2062 (by decide) ?_
  refine g_iadd O dL_law_2063 ?_
  refine gl_sld (nn := i + 1) O hX hb hbA (by omega) (by omega) (nI_add i 1) dL_law_2064 ?_
  refine g_aload_n O dL_law_2065 rfl ?_
  refine g_iload O dL_law_2066 rfl ?_
  refine g_iconst (v := 2) O dL_law_2068 (by decide) ?_
  refine g_iadd O dL_law_2069 ?_
  refine gl_sld (nn := i + 2) O hX hb hbA (by omega) (by omega) (nI_add i 2) dL_law_2070 ?_
  refine gl_Vi (nA := 2) (As := [.int (xs (i + 1)), .int (xs (i + 2))]) (rest := []) O hRm hm.1 (cM_game _ O.2.2.2.2.2.2.2.2 (cxE X) _ _ _ V1 _ mb hm (V1 mb) ((xs (i + 1))) ((xs (i + 2))) _ w) (lw_V q2303 q2304 q2305 q134 q2306) rfl rfl (by decide +kernel) ⟨Nat.le_of_ble_eq_true rfl, Nat.le_of_ble_eq_true rfl⟩ rfl rfl rfl (Nat.le_of_ble_eq_true rfl) dL_law_2071 (kOk.m hk) (fun b9 s9 w => ?_)
  obtain ⟨e8, e9, w⟩ := w
  generalize eV2 : up1 V1 mb s9 = V2 at w ⊢
  have v8 : V2 mb = s9 := by rw [← eV2]; exact up1_s
  rw [eV2] at e9
  rw [← v8] at e8
  refine g_istore (lv' := [some (.ref b), some (.ref x), some (.ref mb), some (.ref o), some (.int (nI i)), some (.int r), some (.int b9)]) O dL_law_2074 (Nat.le_of_ble_eq_true rfl) rfl rfl ?_
  refine g_aload_n O dL_law_2076 rfl ?_
  refine gl_Vi0 (nA := 0) (As := []) (rest := []) O hRm hm.1 (cM_thrown _ O.2.2.2.2.2.2.2.2 (cxE X) _ _ _ V2 _ mb hm (V2 mb) (fun t0 => t0 = V2 mb 0 2) rfl) (lw_V q1918 q1919 q1920 q134 q1921) rfl rfl (by decide +kernel) ⟨Nat.le_of_ble_eq_true rfl, Nat.le_of_ble_eq_true rfl⟩ rfl rfl rfl (Nat.le_of_ble_eq_true rfl) dL_law_2077 (kOk.m hk) (fun t0 ht0 => ?_)
  refine g_iload O dL_law_2080 rfl ?_
  refine g_icmp_eq_t (tgt := 2087) O (ht0.trans e8) dL_law_2082 (by decide) ?_
  refine g_iload O dL_law_2087 rfl ?_
  by_cases hr : r = 0
  · refine g_if_ne_f O hr dL_law_2089 2104 (by decide) ?_
    refine g_aload_n O dL_law_2092 rfl ?_
    refine g_iconst (v := 0) O dL_law_2093 (by decide) ?_
    refine gl_lald (nn := 0) O ho hl1 (by decide) hl2 rfl dL_law_2094 ?_
    refine g_iload O dL_law_2095 rfl ?_
    refine g_i2l O dL_law_2097 ?_
    refine g_lcmp O dL_law_2098 ?_
    refine g_if_eq_t (tgt := 2104) O (by rw [e9 hr]; exact lg_same _) dL_law_2099 (by decide) ?_
    refine g_goto (tgt := 2211) O dL_law_2104 (by decide) ?_
    refine g_drop [5, 6] (lv' := [some (.ref b), some (.ref x), some (.ref mb), some (.ref o), some (.int (nI i)), none, none]) rfl ?_
    exact hpost _ _ _ _ _ _ _ _ hk hx ho hm w
  · refine g_if_ne_t (tgt := 2104) O hr dL_law_2089 (by decide) ?_
    refine g_goto (tgt := 2211) O dL_law_2104 (by decide) ?_
    refine g_drop [5, 6] (lv' := [some (.ref b), some (.ref x), some (.ref mb), some (.ref o), some (.int (nI i)), none, none]) rfl ?_
    exact hpost _ _ _ _ _ _ _ _ hk hx ho hm w
set_option maxHeartbeats 4000000 in
theorem vL_season {X : Cx} (O : Okc X cL_law RX0 7 (some .boolean)) (hRm : cxR X = room_1) {b Ls : Nat} {xs : Nat → Int32} (hS : lwS X b Ls xs) {k n U z : Nat} {T L : Nat → Nat} {V : w_V} {P : w_P} (i : Nat) (hi : i + 6 ≤ Ls) (x mb o : Nat) (hx : T x = 2) (ho : T o = 3003) (hl : 0 < L o ∧ L o < 2147483648) (hm : mOk (cxE X) T L P mb) (post : Nat → Nat → (Nat → Nat) → (Nat → Nat) → w_V → w_P → Prop) (hk : kOk room_1 k n U)
    (hpost : ∀ (k n U z : Nat) (T L : Nat → Nat) (V : w_V) (P : w_P), kOk room_1 k n U → T x = 2 → T o = 3003 → mOk (cxE X) T L P mb → post U z T L V P → gW X k n z T L V P 2211 [some (.ref b), some (.ref x), some (.ref mb), some (.ref o), some (.int (nI i)), none, none] [])
    (w : wL_season (cxE X) U z T L V P x mb o (xs (i + 1)) (xs (i + 2)) (xs (i + 3)) post) : gW X k n z T L V P 2107 [some (.ref b), some (.ref x), some (.ref mb), some (.ref o), some (.int (nI i)), none, none] [] := by
  obtain ⟨hX, hb, hbA, hLs⟩ := hS
  unfold wL_season at w
  refine g_aload_n O dL_law_2107 rfl ?_
  refine g_aload_n O dL_law_2108 rfl ?_
  refine g_iload O dL_law_2109 rfl ?_
  refine g_iconst (v := 1) O dL_law_2111 (by decide) ?_
  refine g_iadd O dL_law_2112 ?_
  refine gl_sld (nn := i + 1) O hX hb hbA (by omega) (by omega) (nI_add i 1) dL_law_2113 ?_
  refine g_aload_n O dL_law_2114 rfl ?_
  refine g_iload O dL_law_2115 rfl ?_
  refine g_iconst (v := 2) O dL_law_2117 (by decide) ?_
  refine g_iadd O dL_law_2118 ?_
  refine gl_sld (nn := i + 2) O hX hb hbA (by omega) (by omega) (nI_add i 2) dL_law_2119 ?_
  refine g_aload_n O dL_law_2120 rfl ?_
  refine g_iload O dL_law_2121 rfl ?_
  refine g_iconst (v := 3) O dL_law_2123 (by decide) ?_
  refine g_iadd O dL_law_2124 ?_
  refine gl_sld (nn := i + 3) O hX hb hbA (by omega) (by omega) (nI_add i 3) dL_law_2125 ?_
  refine g_aload_n O dL_law_2126 rfl ?_
  obtain ⟨c1, U2, e1, w⟩ := w
  have hk9 := kOk.eq hk e1
  refine gh_fi (xp := fun _ _ _ _ _ _ _ => False) (grx_SX (nA := 5) (As := [.ref x, .int (xs (i + 1)), .int (xs (i + 2)), .int (xs (i + 3)), .ref o]) (rest := []) O hRm (kX0_season _ O.2.2.2.2.2.2.2.2 (cxE X) _ _ _ _ _ _ x hx ((xs (i + 1))) ((xs (i + 2))) ((xs (i + 3))) o ho _ w) (lw_SW q1700 q1701 q105 q1702) rfl rfl (by decide +kernel) ⟨Nat.le_of_ble_eq_true rfl, Nat.le_of_ble_eq_true rfl⟩ rfl rfl rfl (Nat.le_of_ble_eq_true rfl) dL_law_2127 (kOk.fa hk9)) (fun _ _ _ _ _ _ _ h => h.elim) (fun r z T L V1 P1 w => ?_)
  obtain ⟨hx, ho, hl1, hl2, hm, w⟩ := w
  have hk := kOk.sa hk9
  refine g_istore (lv' := [some (.ref b), some (.ref x), some (.ref mb), some (.ref o), some (.int (nI i)), some (.int r), none]) O dL_law_2130 (Nat.le_of_ble_eq_true rfl) rfl rfl ?_
  refine g_aload_n O dL_law_2132 rfl ?_
  refine g_aload_n O dL_law_2133 rfl ?_
  refine g_iload O dL_law_2134 rfl ?_
  refine g_iconst (v := 1) O dL_law_2136 (by decide) ?_
  refine g_iadd O dL_law_2137 ?_
  refine gl_sld (nn := i + 1) O hX hb hbA (by omega) (by omega) (nI_add i 1) dL_law_2138 ?_
  refine g_aload_n O dL_law_2139 rfl ?_
  refine g_iload O dL_law_2140 rfl ?_
  refine g_iconst (v := 2) O dL_law_2142 (by decide) ?_
  refine g_iadd O dL_law_2143 ?_
  refine gl_sld (nn := i + 2) O hX hb hbA (by omega) (by omega) (nI_add i 2) dL_law_2144 ?_
  refine g_aload_n O dL_law_2145 rfl ?_
  refine g_iload O dL_law_2146 rfl ?_
  refine g_iconst (v := 3) O dL_law_2148 (by decide) ?_
  refine g_iadd O dL_law_2149 ?_
  refine gl_sld (nn := i + 3) O hX hb hbA (by omega) (by omega) (nI_add i 3) dL_law_2150 ?_
  refine gl_Vi (nA := 3) (As := [.int (xs (i + 1)), .int (xs (i + 2)), .int (xs (i + 3))]) (rest := []) O hRm hm.1 (cM_season _ O.2.2.2.2.2.2.2.2 (cxE X) _ _ _ V1 _ mb hm (V1 mb) ((xs (i + 1))) ((xs (i + 2))) ((xs (i + 3))) _ w) (lw_V q2311 q2312 q2313 q134 q2314) rfl rfl (by decide +kernel) ⟨Nat.le_of_ble_eq_true rfl, Nat.le_of_ble_eq_true rfl⟩ rfl rfl rfl (Nat.le_of_ble_eq_true rfl) dL_law_2151 (kOk.m hk) (fun b9 s9 w => ?_)
  obtain ⟨e8, e9, w⟩ := w
  generalize eV2 : up1 V1 mb s9 = V2 at w ⊢
  have v8 : V2 mb = s9 := by rw [← eV2]; exact up1_s
  rw [eV2] at e9
  rw [← v8] at e8
  refine g_istore (lv' := [some (.ref b), some (.ref x), some (.ref mb), some (.ref o), some (.int (nI i)), some (.int r), some (.int b9)]) O dL_law_2154 (Nat.le_of_ble_eq_true rfl) rfl rfl ?_
  refine g_aload_n O dL_law_2156 rfl ?_
  refine gl_Vi0 (nA := 0) (As := []) (rest := []) O hRm hm.1 (cM_thrown _ O.2.2.2.2.2.2.2.2 (cxE X) _ _ _ V2 _ mb hm (V2 mb) (fun t0 => t0 = V2 mb 0 2) rfl) (lw_V q1918 q1919 q1920 q134 q1921) rfl rfl (by decide +kernel) ⟨Nat.le_of_ble_eq_true rfl, Nat.le_of_ble_eq_true rfl⟩ rfl rfl rfl (Nat.le_of_ble_eq_true rfl) dL_law_2157 (kOk.m hk) (fun t0 ht0 => ?_)
  refine g_iload O dL_law_2160 rfl ?_
  refine g_icmp_eq_t (tgt := 2167) O (ht0.trans e8) dL_law_2162 (by decide) ?_
  refine g_iload O dL_law_2167 rfl ?_
  by_cases hr : r = 0
  · refine g_if_ne_f O hr dL_law_2169 2184 (by decide) ?_
    refine g_aload_n O dL_law_2172 rfl ?_
    refine g_iconst (v := 0) O dL_law_2173 (by decide) ?_
    refine gl_lald (nn := 0) O ho hl1 (by decide) hl2 rfl dL_law_2174 ?_
    refine g_iload O dL_law_2175 rfl ?_
    refine g_i2l O dL_law_2177 ?_
    refine g_lcmp O dL_law_2178 ?_
    refine g_if_eq_t (tgt := 2184) O (by rw [e9 hr]; exact lg_same _) dL_law_2179 (by decide) ?_
    refine g_goto (tgt := 2211) O dL_law_2184 (by decide) ?_
    refine g_drop [5, 6] (lv' := [some (.ref b), some (.ref x), some (.ref mb), some (.ref o), some (.int (nI i)), none, none]) rfl ?_
    exact hpost _ _ _ _ _ _ _ _ hk hx ho hm w
  · refine g_if_ne_t (tgt := 2184) O hr dL_law_2169 (by decide) ?_
    refine g_goto (tgt := 2211) O dL_law_2184 (by decide) ?_
    refine g_drop [5, 6] (lv' := [some (.ref b), some (.ref x), some (.ref mb), some (.ref o), some (.int (nI i)), none, none]) rfl ?_
    exact hpost _ _ _ _ _ _ _ _ hk hx ho hm w
set_option maxHeartbeats 4000000 in
theorem vL_image {X : Cx} (O : Okc X cL_law RX0 7 (some .boolean)) (hRm : cxR X = room_1) {b Ls : Nat} {xs : Nat → Int32} (hS : lwS X b Ls xs) {k n U z : Nat} {T L : Nat → Nat} {V : w_V} {P : w_P} (i : Nat) (hi : i + 6 ≤ Ls) (x mb o : Nat) (hx : T x = 2) (ho : T o = 3003) (hl : 0 < L o ∧ L o < 2147483648) (hm : mOk (cxE X) T L P mb) (post : Nat → Nat → (Nat → Nat) → (Nat → Nat) → w_V → w_P → Prop) (hk : kOk room_1 k n U)
    (hpost : ∀ (k n U z : Nat) (T L : Nat → Nat) (V : w_V) (P : w_P), kOk room_1 k n U → T x = 2 → T o = 3003 → mOk (cxE X) T L P mb → post U z T L V P → gW X k n z T L V P 2211 [some (.ref b), some (.ref x), some (.ref mb), some (.ref o), some (.int (nI i)), none, none] [])
    (w : wL_image (cxE X) U z T L V P x mb o post) : gW X k n z T L V P 2187 [some (.ref b), some (.ref x), some (.ref mb), some (.ref o), some (.int (nI i)), none, none] [] := by
  obtain ⟨hX, hb, hbA, hLs⟩ := hS
  unfold wL_image at w
  refine g_aload_n O dL_law_2187 rfl ?_
  refine g_rv1 (gr_V (lay := 1) (nA := 0) (As := []) (rest := []) O hRm (kX1_image _ O.2.2.2.2.2.2.2.2 (cxE X) _ _ _ _ _ x hx _ w) (lw_V q870 q871 q872 q106 q873) rfl rfl (by decide +kernel) ⟨Nat.le_of_ble_eq_true rfl, Nat.le_of_ble_eq_true rfl⟩ ck1 (by decide) rfl hx rfl rfl rfl (Nat.le_of_ble_eq_true rfl) dL_law_2188 (kOk.f0 hk)) (fun V1 w => ?_)
  have hk := kOk.s0 hk
  refine g_aload_n O dL_law_2191 rfl ?_
  refine gl_Vv (nA := 0) (As := []) (rest := []) O hRm hm.1 (cM_image _ O.2.2.2.2.2.2.2.2 (cxE X) _ _ _ V1 _ mb hm (V1 mb) _ w) (lw_V q2321 q2322 q2323 q134 q2324) rfl rfl (by decide +kernel) ⟨Nat.le_of_ble_eq_true rfl, Nat.le_of_ble_eq_true rfl⟩ rfl rfl rfl (Nat.le_of_ble_eq_true rfl) dL_law_2192 (kOk.m hk) (fun s9 w => ?_)
  generalize eV2 : up1 V1 mb s9 = V2 at w ⊢
  have v8 : V2 mb = s9 := by rw [← eV2]; exact up1_s
  refine g_goto (tgt := 2211) O dL_law_2195 (by decide) ?_
  exact hpost _ _ _ _ _ _ _ _ hk hx ho hm w
set_option maxHeartbeats 4000000 in
theorem vL_restore {X : Cx} (O : Okc X cL_law RX0 7 (some .boolean)) (hRm : cxR X = room_1) {b Ls : Nat} {xs : Nat → Int32} (hS : lwS X b Ls xs) {k n U z : Nat} {T L : Nat → Nat} {V : w_V} {P : w_P} (i : Nat) (hi : i + 6 ≤ Ls) (x mb o : Nat) (hx : T x = 2) (ho : T o = 3003) (hl : 0 < L o ∧ L o < 2147483648) (hm : mOk (cxE X) T L P mb) (post : Nat → Nat → (Nat → Nat) → (Nat → Nat) → w_V → w_P → Prop) (hk : kOk room_1 k n U)
    (hpost : ∀ (k n U z : Nat) (T L : Nat → Nat) (V : w_V) (P : w_P), kOk room_1 k n U → T x = 2 → T o = 3003 → mOk (cxE X) T L P mb → post U z T L V P → gW X k n z T L V P 2211 [some (.ref b), some (.ref x), some (.ref mb), some (.ref o), some (.int (nI i)), none, none] [])
    (w : wL_restore (cxE X) U z T L V P x mb o post) : gW X k n z T L V P 2198 [some (.ref b), some (.ref x), some (.ref mb), some (.ref o), some (.int (nI i)), none, none] [] := by
  obtain ⟨hX, hb, hbA, hLs⟩ := hS
  unfold wL_restore at w
  refine g_aload_n O dL_law_2198 rfl ?_
  refine g_ri1 (gr_V (lay := 1) (nA := 0) (As := []) (rest := []) O hRm (kX1_restore _ O.2.2.2.2.2.2.2.2 (cxE X) _ _ _ _ _ x hx _ w) (lw_V q881 q882 q883 q106 q884) rfl rfl (by decide +kernel) ⟨Nat.le_of_ble_eq_true rfl, Nat.le_of_ble_eq_true rfl⟩ ck1 (by decide) rfl hx rfl rfl rfl (Nat.le_of_ble_eq_true rfl) dL_law_2199 (kOk.f0 hk)) (fun r V1 w => ?_)
  have hk := kOk.s0 hk
  refine g_aload_n O dL_law_2202 rfl ?_
  refine gl_Vi (nA := 0) (As := []) (rest := [.int r]) O hRm hm.1 (cM_restore _ O.2.2.2.2.2.2.2.2 (cxE X) _ _ _ V1 _ mb hm (V1 mb) _ w) (lw_V q2328 q2329 q2330 q134 q2331) rfl rfl (by decide +kernel) ⟨Nat.le_of_ble_eq_true rfl, Nat.le_of_ble_eq_true rfl⟩ rfl rfl rfl (Nat.le_of_ble_eq_true rfl) dL_law_2203 (kOk.m hk) (fun b9 s9 w => ?_)
  obtain ⟨e9, w⟩ := w
  generalize eV2 : up1 V1 mb s9 = V2 at w ⊢
  have v8 : V2 mb = s9 := by rw [← eV2]; exact up1_s
  refine g_icmp_eq_t (tgt := 2211) O e9 dL_law_2206 (by decide) ?_
  exact hpost _ _ _ _ _ _ _ _ hk hx ho hm w
