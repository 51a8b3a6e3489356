/-! ROWS of ApartBenchModel: its object mb and its arrays are one bundle, sg its state: sg 0 j the field j, sg (j + 1) i the place i of the array in the field j. -/
set_option maxRecDepth 100000
abbrev MS : Type := Nat → Nat → Int32
theorem ck0 : ckOk 0 RX8 TX8 63 := ⟨rfl, in_X8, ⟨tyX8, tyX8_ok⟩, nmX8⟩
abbrev mW (z : Nat) (T L : Nat → Nat) (V0 : w_V) (P : w_P) (mb : Nat) (sg : MS) : w_W := (z, T, L, up1 V0 mb sg, P)
abbrev mMi (l : Launch) (y : MethodName) (b : ByteArray) (nL : Nat) (ret : Option FieldType) (rm : Room) (E : w_E) (z : Nat) (T L : Nat → Nat) (V0 : w_V) (P : w_P) (mb : Nat) (av : List Value) (sg : MS) (post : Int32 → MS → Prop) : Prop := gMi l y (ws_ y b nL ret) rm 0 0 E av (mW z T L V0 P mb sg) (fun s' => mW z T L V0 P mb s') post
abbrev mMv (l : Launch) (y : MethodName) (b : ByteArray) (nL : Nat) (ret : Option FieldType) (rm : Room) (E : w_E) (z : Nat) (T L : Nat → Nat) (V0 : w_V) (P : w_P) (mb : Nat) (av : List Value) (sg : MS) (post : MS → Prop) : Prop := gMv l y (ws_ y b nL ret) rm 0 0 E av (mW z T L V0 P mb sg) (fun s' => mW z T L V0 P mb s') post
abbrev mMi0 (l : Launch) (y : MethodName) (b : ByteArray) (nL : Nat) (ret : Option FieldType) (rm : Room) (E : w_E) (z : Nat) (T L : Nat → Nat) (V0 : w_V) (P : w_P) (mb : Nat) (av : List Value) (sg : MS) (post : Int32 → Prop) : Prop := gMi l y (ws_ y b nL ret) rm 0 0 E av (mW z T L V0 P mb sg) (fun (_ : Unit) => mW z T L V0 P mb sg) (fun x _ => post x)
/-- a boolean's value -/
def nB (x : Int32) : Prop := narrow .boolean (.int x) = .int x
/-- the array in the field j of ApartBenchModel: at off, of len places -/
def aOk (j off len : Nat) : Prop := ly0[j]? = some (fA off 0 len) ∧ len < 2147483648
/-- an array of such -/
def strs (E : w_E) (T L : Nat → Nat) (P : w_P) (a : Nat) (txs : List (List Nat)) : Prop := T a = 2005 ∧ L a = txs.length ∧ txs.length < 1000 ∧ ∀ i, i < txs.length → ∃ b, P a i = some b ∧ isStr E b (txs.getD i [])
abbrev kindTx : List (List Nat) := [[106, 117, 100, 103, 101], [100, 101, 97, 102], [119, 105, 115, 101]]
abbrev valTx : List (List Nat) := [[112, 114, 111, 111, 102], [104, 97, 114, 115, 104], [100, 97, 121], [116, 111, 119, 110], [115, 97, 105, 100]]
def mOk (E : w_E) (T L : Nat → Nat) (P : w_P) (mb : Nat) : Prop := T mb = 1 ∧ (∃ a, P mb 0 = some a ∧ strs E T L P a kindTx) ∧ (∃ a, P mb 1 = some a ∧ strs E T L P a valTx)
abbrev mMv0 (l : Launch) (y : MethodName) (b : ByteArray) (nL : Nat) (ret : Option FieldType) (rm : Room) (E : w_E) (z : Nat) (T L : Nat → Nat) (V0 : w_V) (P : w_P) (mb : Nat) (av : List Value) (sg : MS) (post : Prop) : Prop := gMv l y (ws_ y b nL ret) rm 0 0 E av (mW z T L V0 P mb sg) (fun (_ : Unit) => mW z T L V0 P mb sg) (fun _ => post)
section MR
variable {X : Cx} {cc : ByteArray} {nL : Nat} {ret : Option FieldType} {z : Nat} {T L : Nat → Nat} {V0 : w_V} {P : w_P} {pc : Nat} {lv : List (Option Value)} {st : List Value} {mb : Nat} {sg : MS} {R0 : Room}
theorem gm_getI (O : Okc X cc RX8 nL ret) (hT : T mb = 1) {j idx : Nat} (hj : ly0[j]? = some fI) (hk : j < 63) (q : Cond.fieldLink RX8 idx (TX8 j).1 (TX8 j).2.1 (TX8 j).2.2.1 ∈ lw_all) (d : decode cc pc = .ok (.getfield idx, 3)) (kk : gW X 0 0 z T L (up1 V0 mb sg) P (pc + 3) lv (.int (sg 0 j) :: st)) : gW X 0 0 z T L (up1 V0 mb sg) P pc lv (.ref mb :: st) := by
  refine g_getV (lay := 0) O ck0 (by decide) rfl hj hk hT q d ?_
  rw [up1_s]
  exact kk
theorem gm_getA (O : Okc X cc RX8 nL ret) (hT : T mb = 1) {j idx off ty len : Nat} (hj : ly0[j]? = some (fA off ty len)) (hk : j < 63) (q : Cond.fieldLink RX8 idx (TX8 j).1 (TX8 j).2.1 (TX8 j).2.2.1 ∈ lw_all) (d : decode cc pc = .ok (.getfield idx, 3)) (kk : gW X 0 0 z T L (up1 V0 mb sg) P (pc + 3) lv (.ref (mb + off) :: st)) : gW X 0 0 z T L (up1 V0 mb sg) P pc lv (.ref mb :: st) := g_getV (lay := 0) O ck0 (by decide) rfl hj hk hT q d kk
theorem gm_getR (O : Okc X cc RX8 nL ret) (hT : T mb = 1) {j idx a : Nat} (hj : ly0[j]? = some fR) (hP : P mb j = some a) (hk : j < 63) (q : Cond.fieldLink RX8 idx (TX8 j).1 (TX8 j).2.1 (TX8 j).2.2.1 ∈ lw_all) (d : decode cc pc = .ok (.getfield idx, 3)) (kk : gW X 0 0 z T L (up1 V0 mb sg) P (pc + 3) lv (.ref a :: st)) : gW X 0 0 z T L (up1 V0 mb sg) P pc lv (.ref mb :: st) := by
  refine g_getV (lay := 0) O ck0 (by decide) rfl hj hk hT q d ?_
  show gW X 0 0 z T L (up1 V0 mb sg) P (pc + 3) lv (va_rf (P mb j) :: st)
  rw [hP]
  exact kk
theorem gm_putI (O : Okc X cc RX8 nL ret) (hT : T mb = 1) {j idx : Nat} {x : Int32} {ty : FieldType} (hj : ly0[j]? = some fI) (hk : j < 63) (q : Cond.fieldLink RX8 idx (TX8 j).1 (TX8 j).2.1 (TX8 j).2.2.1 ∈ lw_all) (hfin : (TX8 j).2.2.2 = false) (hd : parseFieldDescriptor (TX8 j).2.2.1 = some ty) (hn : narrow ty (.int x) = .int x) (hfit : fits ty (.int x) = true) (d : decode cc pc = .ok (.putfield idx, 3)) (kk : gW X 0 0 z T L (up1 V0 mb (s2 sg 0 j x)) P (pc + 3) lv st) : gW X 0 0 z T L (up1 V0 mb sg) P pc lv (.int x :: .ref mb :: st) := by
  refine g_putI (lay := 0) O ck0 (by decide) rfl hj hk hT q hfin hd hn hfit d ?_
  rw [up3_up1]
  exact kk
theorem gm_ald (O : Okc X cc RX8 nL ret) (hT : T mb = 1) {j off len nn : Nat} {i : Int32} (hj : ly0[j]? = some (fA off 0 len)) (hi : nn < len) (h2 : len < 2147483648) (e : i = nI nn) (d : decode cc pc = .ok (.iaload, 1)) (kk : gW X 0 0 z T L (up1 V0 mb sg) P (pc + 1) lv (.int (sg (j + 1) nn) :: st)) : gW X 0 0 z T L (up1 V0 mb sg) P pc lv (.int i :: .ref (mb + off) :: st) := by
  refine g_aldB (lay := 0) O (by decide) hj hT ⟨hi, h2⟩ e d ?_
  rw [up1_s]
  exact kk
theorem gm_ast (O : Okc X cc RX8 nL ret) (hT : T mb = 1) {j off len nn : Nat} {i x : Int32} (hj : ly0[j]? = some (fA off 0 len)) (hi : nn < len) (h2 : len < 2147483648) (e : i = nI nn) (d : decode cc pc = .ok (.iastore, 1)) (kk : gW X 0 0 z T L (up1 V0 mb (s2 sg (j + 1) nn x)) P (pc + 1) lv st) : gW X 0 0 z T L (up1 V0 mb sg) P pc lv (.int x :: .int i :: .ref (mb + off) :: st) := by
  refine g_astB (lay := 0) O (by decide) hj hT ⟨hi, h2⟩ e d ?_
  rw [up3_up1]
  exact kk
theorem gm_alen (O : Okc X cc RX8 nL ret) (hT : T mb = 1) {j off len : Nat} (hj : ly0[j]? = some (fA off 0 len)) (d : decode cc pc = .ok (.arraylength, 1)) (kk : gW X 0 0 z T L (up1 V0 mb sg) P (pc + 1) lv (.int (nI len) :: st)) : gW X 0 0 z T L (up1 V0 mb sg) P pc lv (.ref (mb + off) :: st) := g_alenB (lay := 0) (fty := .int) O (by decide) hj rfl hT d kk
theorem gm_Vi {ret0 : Option FieldType} {y : MethodName} {bytes : ByteArray} {idx maxL nA : Nat} {rm : Room} {As rest : List Value} {post : Int32 → MS → Prop} (O : Okc X cc RX8 nL ret0) (hRm : cxR X = R0) (hT : T mb = 1) (hM : mMi (cxL X) y bytes maxL ret rm (cxE X) z T L V0 P mb (.ref mb :: As) sg post)
    (hG : GoodIn lw_all (wsV RX8 idx RX8 y (ws_ y bytes maxL ret))) (hrc : rm.cells = 0) (hrs : rm.slots = 0) (hd : y.cls = RX8 ∧ y.cls ≠ "java/lang/invoke/MethodHandle" ∧ y.cls ≠ "java/lang/invoke/VarHandle" ∧ (parseMethodDescriptor y.desc).map (fun d => d.parameters.length) = some nA)
    (hR : rm.frames + 1 ≤ R0.frames ∧ 8 + (maxL + 11) + rm.locals ≤ R0.locals) (hn : As.length = nA) (hst : st = As.reverse ++ .ref mb :: rest) (hnl : lv.length = nL) (hr : (rest.map fun v => v.category).sum ≤ 8) (d : decode cc pc = .ok (.invokevirtual idx, 3))
    (kk : ∀ (r : Int32) (s' : MS), post r s' → gW X 0 0 z T L (up1 V0 mb s') P (pc + 3) lv (.int r :: rest)) : gW X 0 0 z T L (up1 V0 mb sg) P pc lv st :=
  g_callVi (lay := 0) O hM hG hrc hrs hd (by rw [hRm]; exact hR) ck0 (by decide) rfl hT hn hst hnl hr d ⟨Nat.zero_le _, Nat.zero_le _⟩ (fun r u hp => kk r u hp)
theorem gm_Vi0 {ret0 : Option FieldType} {y : MethodName} {bytes : ByteArray} {idx maxL nA : Nat} {rm : Room} {As rest : List Value} {post : Int32 → Prop} (O : Okc X cc RX8 nL ret0) (hRm : cxR X = R0) (hT : T mb = 1) (hM : mMi0 (cxL X) y bytes maxL ret rm (cxE X) z T L V0 P mb (.ref mb :: As) sg post)
    (hG : GoodIn lw_all (wsV RX8 idx RX8 y (ws_ y bytes maxL ret))) (hrc : rm.cells = 0) (hrs : rm.slots = 0) (hd : y.cls = RX8 ∧ y.cls ≠ "java/lang/invoke/MethodHandle" ∧ y.cls ≠ "java/lang/invoke/VarHandle" ∧ (parseMethodDescriptor y.desc).map (fun d => d.parameters.length) = some nA)
    (hR : rm.frames + 1 ≤ R0.frames ∧ 8 + (maxL + 11) + rm.locals ≤ R0.locals) (hn : As.length = nA) (hst : st = As.reverse ++ .ref mb :: rest) (hnl : lv.length = nL) (hr : (rest.map fun v => v.category).sum ≤ 8) (d : decode cc pc = .ok (.invokevirtual idx, 3))
    (kk : ∀ (r : Int32), post r → gW X 0 0 z T L (up1 V0 mb sg) P (pc + 3) lv (.int r :: rest)) : gW X 0 0 z T L (up1 V0 mb sg) P pc lv st :=
  g_callVi (lay := 0) O hM hG hrc hrs hd (by rw [hRm]; exact hR) ck0 (by decide) rfl hT hn hst hnl hr d ⟨Nat.zero_le _, Nat.zero_le _⟩ (fun r u hp => kk r hp)
theorem gm_Vv {ret0 : Option FieldType} {y : MethodName} {bytes : ByteArray} {idx maxL nA : Nat} {rm : Room} {As rest : List Value} {post : MS → Prop} (O : Okc X cc RX8 nL ret0) (hRm : cxR X = R0) (hT : T mb = 1) (hM : mMv (cxL X) y bytes maxL ret rm (cxE X) z T L V0 P mb (.ref mb :: As) sg post)
    (hG : GoodIn lw_all (wsV RX8 idx RX8 y (ws_ y bytes maxL ret))) (hrc : rm.cells = 0) (hrs : rm.slots = 0) (hd : y.cls = RX8 ∧ y.cls ≠ "java/lang/invoke/MethodHandle" ∧ y.cls ≠ "java/lang/invoke/VarHandle" ∧ (parseMethodDescriptor y.desc).map (fun d => d.parameters.length) = some nA)
    (hR : rm.frames + 1 ≤ R0.frames ∧ 8 + (maxL + 11) + rm.locals ≤ R0.locals) (hn : As.length = nA) (hst : st = As.reverse ++ .ref mb :: rest) (hnl : lv.length = nL) (hr : (rest.map fun v => v.category).sum ≤ 8) (d : decode cc pc = .ok (.invokevirtual idx, 3))
    (kk : ∀ (s' : MS), post s' → gW X 0 0 z T L (up1 V0 mb s') P (pc + 3) lv rest) : gW X 0 0 z T L (up1 V0 mb sg) P pc lv st :=
  g_callVv (lay := 0) O hM hG hrc hrs hd (by rw [hRm]; exact hR) ck0 (by decide) rfl hT hn hst hnl hr d ⟨Nat.zero_le _, Nat.zero_le _⟩ (fun u hp => kk u hp)
theorem gm_Si0 {ret0 : Option FieldType} {y : MethodName} {bytes : ByteArray} {idx maxL nA : Nat} {rm : Room} {As rest : List Value} {post : Int32 → Prop} (O : Okc X cc RX8 nL ret0) (hRm : cxR X = R0) (hM : mMi0 (cxL X) y bytes maxL ret rm (cxE X) z T L V0 P mb As sg post)
    (hG : GoodIn lw_all (va_wsS RX8 idx y (ws_ y bytes maxL ret))) (hrc : rm.cells = 0) (hrs : rm.slots = 0) (hd : y.cls ≠ "java/lang/invoke/MethodHandle" ∧ y.cls ≠ "java/lang/invoke/VarHandle" ∧ (parseMethodDescriptor y.desc).map (fun d => d.parameters.length) = some nA)
    (hR : rm.frames + 1 ≤ R0.frames ∧ 8 + (maxL + 11) + rm.locals ≤ R0.locals) (hn : As.length = nA) (hst : st = As.reverse ++ rest) (hnl : lv.length = nL) (hr : (rest.map fun v => v.category).sum ≤ 8) (d : decode cc pc = .ok (.invokestatic idx, 3))
    (kk : ∀ (r : Int32), post r → gW X 0 0 z T L (up1 V0 mb sg) P (pc + 3) lv (.int r :: rest)) : gW X 0 0 z T L (up1 V0 mb sg) P pc lv st :=
  g_callSi O hM hG hrc hrs hd (by rw [hRm]; exact hR) hn hst hnl hr d ⟨Nat.zero_le _, Nat.zero_le _⟩ (fun r u hp => kk r hp)
theorem gm_Sv {ret0 : Option FieldType} {y : MethodName} {bytes : ByteArray} {idx maxL nA : Nat} {rm : Room} {As rest : List Value} {post : MS → Prop} (O : Okc X cc RX8 nL ret0) (hRm : cxR X = R0) (hM : mMv (cxL X) y bytes maxL ret rm (cxE X) z T L V0 P mb As sg post)
    (hG : GoodIn lw_all (va_wsS RX8 idx y (ws_ y bytes maxL ret))) (hrc : rm.cells = 0) (hrs : rm.slots = 0) (hd : y.cls ≠ "java/lang/invoke/MethodHandle" ∧ y.cls ≠ "java/lang/invoke/VarHandle" ∧ (parseMethodDescriptor y.desc).map (fun d => d.parameters.length) = some nA)
    (hR : rm.frames + 1 ≤ R0.frames ∧ 8 + (maxL + 11) + rm.locals ≤ R0.locals) (hn : As.length = nA) (hst : st = As.reverse ++ rest) (hnl : lv.length = nL) (hr : (rest.map fun v => v.category).sum ≤ 8) (d : decode cc pc = .ok (.invokestatic idx, 3))
    (kk : ∀ (s' : MS), post s' → gW X 0 0 z T L (up1 V0 mb s') P (pc + 3) lv rest) : gW X 0 0 z T L (up1 V0 mb sg) P pc lv st :=
  g_callSv O hM hG hrc hrs hd (by rw [hRm]; exact hR) hn hst hnl hr d ⟨Nat.zero_le _, Nat.zero_le _⟩ (fun u hp => kk u hp)
theorem gm_iret {ty : FieldType} {post : Int32 → MS → Prop} {x : Int32} (O : Okc X cc RX8 nL (some ty)) (hQ : cxMQ X (va_Qi post (fun u t => wdW (cxE X) (mW z T L V0 P mb u) t.heap) (w_A (cxE X))) 0 0) (hn : narrow ty (.int x) = .int x) (hp : post x sg) (d : decode cc pc = .ok (.ireturn, 1)) : gW X 0 0 z T L (up1 V0 mb sg) P pc lv [.int x] := g_iret (f := fun u => mW z T L V0 P mb u) O hQ hn rfl hp d
theorem gm_iret0 {ty : FieldType} {post : Int32 → Prop} {x : Int32} (O : Okc X cc RX8 nL (some ty)) (hQ : cxMQ X (va_Qi (fun x (_ : Unit) => post x) (fun (_ : Unit) t => wdW (cxE X) (mW z T L V0 P mb sg) t.heap) (w_A (cxE X))) 0 0) (hn : narrow ty (.int x) = .int x) (hp : post x) (d : decode cc pc = .ok (.ireturn, 1)) : gW X 0 0 z T L (up1 V0 mb sg) P pc lv [.int x] := g_iret (f := fun (_ : Unit) => mW z T L V0 P mb sg) (u := ()) O hQ hn rfl hp d
theorem gm_vret {post : MS → Prop} (O : Okc X cc RX8 nL none) (hQ : cxMQ X (va_Qv post (fun u t => wdW (cxE X) (mW z T L V0 P mb u) t.heap) (w_A (cxE X))) 0 0) (hp : post sg) (d : decode cc pc = .ok (.return_, 1)) : gW X 0 0 z T L (up1 V0 mb sg) P pc lv [] := g_vret (f := fun u => mW z T L V0 P mb u) O hQ rfl hp d
theorem gm_vret0 {post : Prop} (O : Okc X cc RX8 nL none) (hQ : cxMQ X (va_Qv (fun (_ : Unit) => post) (fun (_ : Unit) t => wdW (cxE X) (mW z T L V0 P mb sg) t.heap) (w_A (cxE X))) 0 0) (hp : post) (d : decode cc pc = .ok (.return_, 1)) : gW X 0 0 z T L (up1 V0 mb sg) P pc lv [] := g_vret (f := fun (_ : Unit) => mW z T L V0 P mb sg) (u := ()) O hQ rfl hp d
end MR
section GS
variable {X : Cx} {cc : ByteArray} {own : String} {nL : Nat} {ret : Option FieldType} {k n z : Nat} {T L : Nat → Nat} {V : w_V} {P : w_P} {pc : Nat} {lv : List (Option Value)} {st : List Value} {R0 : Room}
theorem g_alenS (O : Okc X cc own nL ret) {a : Nat} {txs : List (List Nat)} (hs : strs (cxE X) T L P a txs) (d : decode cc pc = .ok (.arraylength, 1)) (kk : gW X k n z T L V P (pc + 1) lv (.int (nI txs.length) :: st)) : gW X k n z T L V P pc lv (.ref a :: st) := by
  intro H locs ls hw hS h
  have h1 := hw.2.2.2.2.2.2.1 a 5 hs.1 (by decide)
  refine va_alen O.1 O.2.1 O.2.2.2.2.2.1.K (va_P1 h1) 0 5 rfl (atyK_at rfl) rfl d ?_
  rw [hs.2.1]
  exact kk H locs ls hw hS h
theorem g_aaldS (O : Okc X cc own nL ret) {a i b : Nat} {x : Int32} {txs : List (List Nat)} (hs : strs (cxE X) T L P a txs) (hi : i < txs.length) (e : x = nI i) (hb : P a i = some b) (d : decode cc pc = .ok (.aaload, 1)) (kk : gW X k n z T L V P (pc + 1) lv (.ref b :: st)) : gW X k n z T L V P pc lv (.int x :: .ref a :: st) := by
  intro H locs ls hw hS h
  subst e
  have h1 := hw.2.2.2.2.2.2.1 a 5 hs.1 (by decide)
  have hl : txs.length < 2147483648 := Nat.lt_trans hs.2.2.1 (by decide)
  refine va_aldq O.1 O.2.1 O.2.2.2.2.2.1.K (va_P1 h1) 0 5 rfl (atyK_at rfl) (vp_in_nI (by rw [hs.2.1]; exact hi) (by rw [hs.2.1]; exact hl)) d ?_
  rw [nI_clamp (Nat.lt_trans hi hl), hb]
  exact kk H locs ls hw hS h
end GS
