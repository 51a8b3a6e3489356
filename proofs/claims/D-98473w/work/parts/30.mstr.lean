/-! ROWS of texts, for ApartBenchModel: String.length and charAt of a constant, ldc of a text -/
set_option maxRecDepth 100000
theorem st_len {ad : Nat → Nat} {T L : Nat → Nat} {V : w_V} {P : w_P} {a : Nat} {tx : List Nat} : wJ9k_length ad T L V P a tx (fun r => r = nI tx.length) := by
  intro v1
  unfold wJ9k_coder
  show nI tx.length >>> ((0 : Int32) &&& 31) = nI tx.length
  generalize nI tx.length = x
  rw [show ((0 : Int32) &&& 31) = 0 by decide]
  exact Int32.shiftRight_zero
theorem st_ch : ∀ c : Nat, c < 128 → ((((nI c) &&& 255) : Int32).toUInt32 % 65536).toInt32 = nI c ∧ narrow .char (.int (nI c)) = .int (nI c) := by decide +kernel
theorem st_char {ad : Nat → Nat} {T L : Nat → Nat} {V : w_V} {P : w_P} {a i : Nat} {tx : List Nat} (hi : i < tx.length) (hl : tx.length < 1000) (hc : ∀ c ∈ tx, c < 128) : wJ9k_charAt ad T L V P a tx (nI i) (fun r => r = nI (tx.getD i 0)) := by
  have h1 : tx.getD i 0 < 128 := hc _ (by rw [List.getD_eq_getElem?_getD, List.getElem?_eq_getElem hi]; exact List.getElem_mem hi)
  obtain ⟨e1, e2⟩ := st_ch _ h1
  have hin : ¬ nI i < 0 := nI_pos (by omega)
  have hlt : nI i < nI tx.length := nI_lt hi (by omega)
  unfold wJ9k_charAt wJ9k_isLatin1
  show if (1 : Int32) = 0 then _ else _
  rw [if_neg (by decide)]
  intro v6
  unfold wJ15k_charAt wJ9_checkIndex
  intro s1
  unfold wJ14_checkIndex
  rw [if_neg hin, if_pos hlt]
  refine ⟨i, hi, rfl, ?_⟩
  rw [e1]
  exact ⟨e2, e2, rfl⟩
section GST
variable {X : Cx} {cc : ByteArray} {own : String} {nL : Nat} {ret : Option FieldType} {k n z : Nat} {T L : Nat → Nat} {V : w_V} {P : w_P} {pc : Nat} {lv : List (Option Value)} {st : List Value} {R0 : Room}
theorem g_slen (O : Okc X cc own nL ret) {a idx : Nat} {tx : List Nat} (hRm : cxR X = R0) (q : Cond.methodLink own idx ⟨"java/lang/String", "length", "()I"⟩ ∈ lw_all) (hs : isStr (cxE X) a tx) (hf : 4 ≤ R0.frames) (hl : 150 ≤ R0.locals) (hkf : k + 0 ≤ R0.cells ∧ n + 0 ≤ R0.slots) (hnl : lv.length = nL) (hr : (st.map fun v => v.category).sum ≤ 8) (d : decode cc pc = .ok (.invokevirtual idx, 3)) (kk : gW X k n z T L V P (pc + 3) lv (.int (nI tx.length) :: st)) : gW X k n z T L V P pc lv (.ref a :: st) := 
  g_ri0 (gr_Vk (nA := 0) (As := []) (rest := st) O hRm (kJ9k_length _ O.2.2.2.2.2.2.2.2 _ _ _ _ _ _ a tx hs _ st_len) (lw_V q q330 q331 q117 q332) rfl rfl (by decide +kernel) ⟨Nat.le_trans (by decide) hf, Nat.le_trans (Nat.le_of_ble_eq_true rfl) hl⟩ hs.1 rfl rfl hnl hr d hkf) (fun r hr => by rw [hr]; exact kk)
theorem g_schar (O : Okc X cc own nL ret) {a idx i : Nat} {x : Int32} {tx : List Nat} (hRm : cxR X = R0) (q : Cond.methodLink own idx ⟨"java/lang/String", "charAt", "(I)C"⟩ ∈ lw_all) (hs : isStr (cxE X) a tx) (hi : i < tx.length) (e : x = nI i) (hf : 8 ≤ R0.frames) (hl : 300 ≤ R0.locals) (hkf : k + 0 ≤ R0.cells ∧ n + 0 ≤ R0.slots) (hnl : lv.length = nL) (hr : (st.map fun v => v.category).sum ≤ 8) (d : decode cc pc = .ok (.invokevirtual idx, 3)) (kk : gW X k n z T L V P (pc + 3) lv (.int (nI (tx.getD i 0)) :: st)) : gW X k n z T L V P pc lv (.int x :: .ref a :: st) :=  by
  subst e
  obtain ⟨-, -, v, -, -, h5, h6⟩ := id hs
  exact g_ri0 (gr_Vk (nA := 1) (As := [.int (nI i)]) (rest := st) O hRm (kJ9k_charAt _ O.2.2.2.2.2.2.2.2 _ _ _ _ _ _ a tx hs _ _ (st_char hi h5 h6)) (lw_V q q1149 q1150 q117 q1151) rfl rfl (by decide +kernel) ⟨Nat.le_trans (by decide) hf, Nat.le_trans (Nat.le_of_ble_eq_true rfl) hl⟩ hs.1 rfl rfl hnl hr d hkf) (fun r hr => by rw [hr]; exact kk)
end GST
