/-! printed by gen/xgen.py out of the given decode rows: the WPs of the class's methods that neither make nor throw -/
set_option maxRecDepth 100000
-- X12_by
def wX12_by (ad : Nat → Nat) (T L : Nat → Nat) (V : w_V) (P : w_P) (rE : Nat → Nat → (Int32 → Prop) → Prop) (t : Nat) (x1 : Nat) (post : Int32 → Prop) : Prop :=
  (post (V t 0 0))
-- X13_by
def wX13_by (ad : Nat → Nat) (T L : Nat → Nat) (V : w_V) (P : w_P) (rE : Nat → Nat → (Int32 → Prop) → Prop) (t : Nat) (x1 : Nat) (post : Int32 → Prop) : Prop :=
  (∃ b1 : Nat, P t 0 = some b1 ∧ (∃ i4 : Nat, i4 < 5 ∧ b1 = ad i4 ∧ (∃ i7 : Nat, i7 < 5 ∧ (nI i4) = nI i7 ∧ (post (V x1 1 i7)))))
-- X15_by
def wX15_by (ad : Nat → Nat) (T L : Nat → Nat) (V : w_V) (P : w_P) (rE : Nat → Nat → (Int32 → Prop) → Prop) (t : Nat) (x1 : Nat) (post : Int32 → Prop) : Prop :=
  (∃ b1 : Nat, P t 0 = some b1 ∧ eT T b1 ∧ (rE b1 x1 (fun (r4 : Int32) => (if (r4 = 0 : Prop) then (post 1) else (post 0)))))
-- X14_by
def wX14_by (ad : Nat → Nat) (T L : Nat → Nat) (V : w_V) (P : w_P) (rE : Nat → Nat → (Int32 → Prop) → Prop) (t : Nat) (x1 : Nat) (post : Int32 → Prop) : Prop :=
  (∃ b1 : Nat, P t 1 = some b1 ∧ eT T b1 ∧ (rE b1 x1 (fun (r4 : Int32) => (∃ b7 : Nat, P t 2 = some b7 ∧ eT T b7 ∧ (rE b7 x1 (fun (r10 : Int32) => (if ((V t 0 0) = 38 : Prop) then (if (r4 = 0 : Prop) then (post 0) else (if (r10 = 0 : Prop) then (post 0) else (post 1))) else (if ((V t 0 0) = 42 : Prop) then (post (r4 * r10)) else (if ((V t 0 0) = 43 : Prop) then (post (r4 + r10)) else (if ((V t 0 0) = 45 : Prop) then (post (r4 - r10)) else (if ((V t 0 0) = 47 : Prop) then (if (r10 = 0 : Prop) then (post 0) else (¬ r10 = 0 ∧ (post (r4 / r10)))) else (if ((V t 0 0) = 60 : Prop) then (if (r10 ≤ r4 : Prop) then (post 0) else (post 1)) else (if ((V t 0 0) = 61 : Prop) then (if (r4 = r10 : Prop) then (post 1) else (post 0)) else (if (r4 = 0 : Prop) then (if (r10 = 0 : Prop) then (post 0) else (post 1)) else (post 1)))))))))))))))
def w_by (ad : Nat → Nat) (T L : Nat → Nat) (V : w_V) (P : w_P) : Nat → Nat → Nat → (Int32 → Prop) → Prop
  | 0, _, _, _ => False
  | d + 1, e, v, post => (T e = 9 → wX12_by ad T L V P (w_by ad T L V P d) e v post) ∧ (T e = 10 → wX13_by ad T L V P (w_by ad T L V P d) e v post) ∧ (T e = 11 → wX14_by ad T L V P (w_by ad T L V P d) e v post) ∧ (T e = 12 → wX15_by ad T L V P (w_by ad T L V P d) e v post)
-- J14_checkFromToIndex
def jJ14_checkFromToIndex_14 (ad : Nat → Nat) (T L : Nat → Nat) (V : w_V) (P : w_P) (x3 : Option Nat) (x0 : Int32) (x1 : Int32) (x2 : Int32) (post : Int32 → Prop) : Prop :=
  False
def wJ14_checkFromToIndex (ad : Nat → Nat) (T L : Nat → Nat) (V : w_V) (P : w_P) (x0 : Int32) (x1 : Int32) (x2 : Int32) (x3 : Option Nat) (post : Int32 → Prop) : Prop :=
  (if (x0 < 0 : Prop) then (jJ14_checkFromToIndex_14 ad T L V P x3 x0 x1 x2 post) else (if (x1 < x0 : Prop) then (jJ14_checkFromToIndex_14 ad T L V P x3 x0 x1 x2 post) else (if (x1 ≤ x2 : Prop) then (post x0) else (jJ14_checkFromToIndex_14 ad T L V P x3 x0 x1 x2 post))))
-- J9_checkBoundsBeginEnd
def wJ9_checkBoundsBeginEnd (ad : Nat → Nat) (T L : Nat → Nat) (V : w_V) (P : w_P) (x0 : Int32) (x1 : Int32) (x2 : Int32) (post : Prop) : Prop :=
  (∀ s1 : Option Nat, (wJ14_checkFromToIndex ad T L V P x0 x1 x2 s1 (fun (r2 : Int32) => (post))))
-- J10_checkBoundsBeginEnd
def wJ10_checkBoundsBeginEnd (ad : Nat → Nat) (T L : Nat → Nat) (V : w_V) (P : w_P) (x0 : Int32) (x1 : Int32) (a2 k2 n2 : Nat) (post : Prop) : Prop :=
  False
-- J10_length
def wJ10_length (ad : Nat → Nat) (T L : Nat → Nat) (V : w_V) (P : w_P) (a0 k0 n0 : Nat) (post : Int32 → Prop) : Prop :=
  (post (((nI n0) : Int32) >>> ((1 : Int32) &&& 31)))
-- J10_inflate
def wJ10_inflate (ad : Nat → Nat) (T L : Nat → Nat) (V : w_V) (P : w_P) (a0 k0 n0 : Nat) (x1 : Int32) (a2 k2 n2 : Nat) (x3 : Int32) (x4 : Int32) (post : Prop) : Prop :=
  False
-- J14_checkFromIndexSize
def jJ14_checkFromIndexSize_15 (ad : Nat → Nat) (T L : Nat → Nat) (V : w_V) (P : w_P) (x3 : Option Nat) (x0 : Int32) (x1 : Int32) (x2 : Int32) (post : Int32 → Prop) : Prop :=
  False
def wJ14_checkFromIndexSize (ad : Nat → Nat) (T L : Nat → Nat) (V : w_V) (P : w_P) (x0 : Int32) (x1 : Int32) (x2 : Int32) (x3 : Option Nat) (post : Int32 → Prop) : Prop :=
  (if (((x2 ||| x0) ||| x1) < 0 : Prop) then (jJ14_checkFromIndexSize_15 ad T L V P x3 x0 x1 x2 post) else (if (x1 ≤ (x2 - x0) : Prop) then (post x0) else (jJ14_checkFromIndexSize_15 ad T L V P x3 x0 x1 x2 post)))
-- J9_checkBoundsOffCount
def wJ9_checkBoundsOffCount (ad : Nat → Nat) (T L : Nat → Nat) (V : w_V) (P : w_P) (x0 : Int32) (x1 : Int32) (x2 : Int32) (post : Int32 → Prop) : Prop :=
  (∀ s1 : Option Nat, (wJ14_checkFromIndexSize ad T L V P x0 x1 x2 s1 (fun (r2 : Int32) => (post r2))))
-- J10_checkBoundsOffCount
def wJ10_checkBoundsOffCount (ad : Nat → Nat) (T L : Nat → Nat) (V : w_V) (P : w_P) (x0 : Int32) (x1 : Int32) (a2 k2 n2 : Nat) (post : Prop) : Prop :=
  False
-- J7_ensureCapacityInternal
def wJ7_ensureCapacityInternal (ad : Nat → Nat) (T L : Nat → Nat) (V : w_V) (P : w_P) (t : Nat) (x1 : Int32) (post : w_V → w_P → Prop) : Prop :=
  (∃ b1 a3 k4 n5 : Nat, P t 0 = some b1 ∧ hArr T L b1 a3 k4 n5 1 ∧ n5 < 2147483648 ∧ (if ((x1 - (((nI n5) : Int32) >>> (((V t 0 1) : Int32) &&& 31))) ≤ 0 : Prop) then (post V P) else (∃ b8 a10 k11 n12 : Nat, P t 0 = some b8 ∧ hArr T L b8 a10 k11 n12 1 ∧ n12 < 2147483648 ∧ False)))
-- J7_isLatin1
def wJ7_isLatin1 (ad : Nat → Nat) (T L : Nat → Nat) (V : w_V) (P : w_P) (t : Nat) (post : Int32 → Prop) : Prop :=
  (if ((V t 0 1) = 0 : Prop) then (post 1) else (post 0))
-- J7_appendNull
def jJ7_appendNull_76 (ad : Nat → Nat) (T L : Nat → Nat) (V : w_V) (P : w_P) (t : Nat) (x1 : Int32) (post : Nat → w_V → w_P → Prop) : Prop :=
  (∀ V30 : w_V, V30 = (up3 V t 0 3 x1) → (post t V30 P))
def wJ7_appendNull (ad : Nat → Nat) (T L : Nat → Nat) (V : w_V) (P : w_P) (t : Nat) (post : Nat → w_V → w_P → Prop) : Prop :=
  (wJ7_ensureCapacityInternal ad T L V P t ((V t 0 3) + 4) (fun (V2 : w_V) (P3 : w_P) => (∃ b4 a6 k7 n8 : Nat, P3 t 0 = some b4 ∧ hArr T L b4 a6 k7 n8 1 ∧ n8 < 2147483648 ∧ (wJ7_isLatin1 ad T L V2 P3 t (fun (r11 : Int32) => (if (r11 = 0 : Prop) then False else (∃ i14 : Nat, i14 < n8 ∧ (V2 t 0 3) = nI i14 ∧ (∀ V17 : w_V, V17 = (up3 V2 a6 k7 i14 (vp_nar .byte 110)) → (∃ i18 : Nat, i18 < n8 ∧ ((V2 t 0 3) + 1) = nI i18 ∧ (∀ V21 : w_V, V21 = (up3 V17 a6 k7 i18 (vp_nar .byte 117)) → (∃ i22 : Nat, i22 < n8 ∧ (((V2 t 0 3) + 1) + 1) = nI i22 ∧ (∀ V25 : w_V, V25 = (up3 V21 a6 k7 i22 (vp_nar .byte 108)) → (∃ i26 : Nat, i26 < n8 ∧ ((((V2 t 0 3) + 1) + 1) + 1) = nI i26 ∧ (∀ V29 : w_V, V29 = (up3 V25 a6 k7 i26 (vp_nar .byte 108)) → (jJ7_appendNull_76 ad T L V29 P3 t (((((V2 t 0 3) + 1) + 1) + 1) + 1) post)))))))))))))))
-- J9_coder
def wJ9_coder (ad : Nat → Nat) (T L : Nat → Nat) (V : w_V) (P : w_P) (t : Nat) (post : Int32 → Prop) : Prop :=
  (narrow .byte (.int (V t 0 1)) = .int (V t 0 1) ∧ (post (V t 0 1)))
-- J9k_coder
def wJ9k_coder (ad : Nat → Nat) (T L : Nat → Nat) (V : w_V) (P : w_P) (x0 : Nat) (tx0 : List Nat) (post : Int32 → Prop) : Prop :=
  (post 0)
-- J7_inflateIfNeededFor
def wJ7_inflateIfNeededFor (ad : Nat → Nat) (T L : Nat → Nat) (V : w_V) (P : w_P) (t : Nat) (x1 : Nat) (post : Prop) : Prop :=
  (wJ9_coder ad T L V P x1 (fun (r1 : Int32) => (if ((V t 0 1) = r1 : Prop) then (post) else False)))
-- J15_inflate
def wJ15_inflate (ad : Nat → Nat) (T L : Nat → Nat) (V : w_V) (P : w_P) (a0 k0 n0 : Nat) (x1 : Int32) (a2 k2 n2 : Nat) (x3 : Int32) (x4 : Int32) (post : Prop) : Prop :=
  False
-- J9_getBytes
def wJ9_getBytes (ad : Nat → Nat) (T L : Nat → Nat) (V : w_V) (P : w_P) (t : Nat) (a1 k1 n1 : Nat) (x2 : Int32) (x3 : Int32) (post : w_V → Prop) : Prop :=
  (wJ9_coder ad T L V P t (fun (r1 : Int32) => (if (r1 = x3 : Prop) then (∃ b21 a23 k24 n25 : Nat, P t 0 = some b21 ∧ hArr T L b21 a23 k24 n25 1 ∧ n25 < 2147483648 ∧ (∃ b28 a30 k31 n32 : Nat, P t 0 = some b28 ∧ hArr T L b28 a30 k31 n32 1 ∧ n32 < 2147483648 ∧ (∃ i35 j36 m37 : Nat, 0 = nI i35 ∧ ((x2 : Int32) <<< ((x3 : Int32) &&& 31)) = nI j36 ∧ (nI n32) = nI m37 ∧ i35 + m37 ≤ n25 ∧ j36 + m37 ≤ n1 ∧ (∀ i, i < m37 → fits .byte (.int (V a23 k24 (i35 + i))) = true) ∧ (∀ V44 : w_V, V44 = (up1 V a1 (up1 (V a1) k1 (va_cpy (V a23 k24) (V a1 k1) i35 j36 m37))) → (post V44))))) else (∃ b4 a6 k7 n8 : Nat, P t 0 = some b4 ∧ hArr T L b4 a6 k7 n8 1 ∧ n8 < 2147483648 ∧ (∃ b11 a13 k14 n15 : Nat, P t 0 = some b11 ∧ hArr T L b11 a13 k14 n15 1 ∧ n15 < 2147483648 ∧ (wJ15_inflate ad T L V P a6 k7 n8 0 a1 k1 n1 x2 (nI n15) (post V)))))))
-- J7_putStringAt
def wJ7_putStringAt (ad : Nat → Nat) (T L : Nat → Nat) (V : w_V) (P : w_P) (t : Nat) (x1 : Int32) (x2 : Nat) (post : w_V → Prop) : Prop :=
  (wJ7_inflateIfNeededFor ad T L V P t x2 (∃ b4 a6 k7 n8 : Nat, P t 0 = some b4 ∧ hArr T L b4 a6 k7 n8 1 ∧ n8 < 2147483648 ∧ (wJ9_getBytes ad T L V P x2 a6 k7 n8 x1 (V t 0 1) (fun (V12 : w_V) => (post V12)))))
-- J9_length
def wJ9_length (ad : Nat → Nat) (T L : Nat → Nat) (V : w_V) (P : w_P) (t : Nat) (post : Int32 → Prop) : Prop :=
  (∃ b1 a3 k4 n5 : Nat, P t 0 = some b1 ∧ hArr T L b1 a3 k4 n5 1 ∧ n5 < 2147483648 ∧ (wJ9_coder ad T L V P t (fun (r8 : Int32) => (post (((nI n5) : Int32) >>> ((r8 : Int32) &&& 31))))))
-- J9k_length
def wJ9k_length (ad : Nat → Nat) (T L : Nat → Nat) (V : w_V) (P : w_P) (x0 : Nat) (tx0 : List Nat) (post : Int32 → Prop) : Prop :=
  (∀ v1 : Nat, (wJ9k_coder ad T L V P x0 tx0 (fun (r3 : Int32) => (post (((nI tx0.length) : Int32) >>> ((r3 : Int32) &&& 31))))))
-- J7_append_2
def wJ7_append_2 (ad : Nat → Nat) (T L : Nat → Nat) (V : w_V) (P : w_P) (t : Nat) (x1 : Int32) (post : Nat → w_V → w_P → Prop) : Prop :=
  False
-- J8_append_2
def wJ8_append_2 (ad : Nat → Nat) (T L : Nat → Nat) (V : w_V) (P : w_P) (t : Nat) (x1 : Int32) (post : Nat → w_V → w_P → Prop) : Prop :=
  (wJ7_append_2 ad T L V P t x1 (fun (r1 : Nat) (V2 : w_V) (P3 : w_P) => (post t V2 P3)))
-- J7_getValue
def wJ7_getValue (ad : Nat → Nat) (T L : Nat → Nat) (V : w_V) (P : w_P) (t : Nat) (post : Nat → Prop) : Prop :=
  (∃ b1 a3 k4 n5 : Nat, P t 0 = some b1 ∧ hArr T L b1 a3 k4 n5 1 ∧ n5 < 2147483648 ∧ (post b1))
-- J7_length
def wJ7_length (ad : Nat → Nat) (T L : Nat → Nat) (V : w_V) (P : w_P) (t : Nat) (post : Int32 → Prop) : Prop :=
  (post (V t 0 3))
-- J10_compress_2
def wJ10_compress_2 (ad : Nat → Nat) (T L : Nat → Nat) (V : w_V) (P : w_P) (a0 k0 n0 : Nat) (x1 : Int32) (a2 k2 n2 : Nat) (x3 : Int32) (x4 : Int32) (post : Int32 → w_V → Prop) : Prop :=
  False
-- J10_coderFromArrayLen
def wJ10_coderFromArrayLen (ad : Nat → Nat) (T L : Nat → Nat) (V : w_V) (P : w_P) (a0 k0 n0 : Nat) (x1 : Int32) (post : Int32 → Prop) : Prop :=
  (narrow .byte (.int ((((x1 - (nI n0)) : Int32).toUInt32 >>> ((31 : Int32).toUInt32 &&& Int32.toUInt32 31)).toInt32 : Int32).toInt8.toInt32) = .int ((((x1 - (nI n0)) : Int32).toUInt32 >>> ((31 : Int32).toUInt32 &&& Int32.toUInt32 31)).toInt32 : Int32).toInt8.toInt32 ∧ (post ((((x1 - (nI n0)) : Int32).toUInt32 >>> ((31 : Int32).toUInt32 &&& Int32.toUInt32 31)).toInt32 : Int32).toInt8.toInt32))
-- J10_putCharSB
def wJ10_putCharSB (ad : Nat → Nat) (T L : Nat → Nat) (V : w_V) (P : w_P) (a0 k0 n0 : Nat) (x1 : Int32) (x2 : Int32) (post : Prop) : Prop :=
  False
-- J14_checkIndex
def jJ14_checkIndex_9 (ad : Nat → Nat) (T L : Nat → Nat) (V : w_V) (P : w_P) (x2 : Option Nat) (x0 : Int32) (x1 : Int32) (post : Int32 → Prop) : Prop :=
  False
def wJ14_checkIndex (ad : Nat → Nat) (T L : Nat → Nat) (V : w_V) (P : w_P) (x0 : Int32) (x1 : Int32) (x2 : Option Nat) (post : Int32 → Prop) : Prop :=
  (if (x0 < 0 : Prop) then (jJ14_checkIndex_9 ad T L V P x2 x0 x1 post) else (if (x0 < x1 : Prop) then (post x0) else (jJ14_checkIndex_9 ad T L V P x2 x0 x1 post)))
-- J9_checkIndex
def wJ9_checkIndex (ad : Nat → Nat) (T L : Nat → Nat) (V : w_V) (P : w_P) (x0 : Int32) (x1 : Int32) (post : Prop) : Prop :=
  (∀ s1 : Option Nat, (wJ14_checkIndex ad T L V P x0 x1 s1 (fun (r2 : Int32) => (post))))
-- J10_checkIndex
def wJ10_checkIndex (ad : Nat → Nat) (T L : Nat → Nat) (V : w_V) (P : w_P) (x0 : Int32) (a1 k1 n1 : Nat) (post : Prop) : Prop :=
  False
-- J10_charAt
def wJ10_charAt (ad : Nat → Nat) (T L : Nat → Nat) (V : w_V) (P : w_P) (a0 k0 n0 : Nat) (x1 : Int32) (post : Int32 → Prop) : Prop :=
  False
-- J15_canEncode
def wJ15_canEncode (ad : Nat → Nat) (T L : Nat → Nat) (V : w_V) (P : w_P) (x0 : Int32) (post : Int32 → Prop) : Prop :=
  (if (255 < x0 : Prop) then (post 0) else (post 1))
-- J15_equals
def lJ15_equals_9 (ad : Nat → Nat) (T L : Nat → Nat) (V : w_V) (P : w_P) (a0 k0 n0 : Nat) (a1 k1 n1 : Nat) (post : Int32 → Prop) : Nat → Int32 → Prop
  | 0, _ => False
  | n + 1, x2 =>
  (if ((nI n0) ≤ x2 : Prop) then (post 1) else (∃ i1 : Nat, i1 < n0 ∧ x2 = nI i1 ∧ (∃ i4 : Nat, i4 < n1 ∧ x2 = nI i4 ∧ (if ((V a0 k0 i1) = (V a1 k1 i4) : Prop) then ((lJ15_equals_9 ad T L V P a0 k0 n0 a1 k1 n1 post n) (x2 + 1)) else (post 0)))))
def wJ15_equals (ad : Nat → Nat) (T L : Nat → Nat) (V : w_V) (P : w_P) (a0 k0 n0 : Nat) (a1 k1 n1 : Nat) (post : Int32 → Prop) : Prop :=
  (if ((nI n0) = (nI n1) : Prop) then (∃ n7, lJ15_equals_9 ad T L V P a0 k0 n0 a1 k1 n1 post n7 0) else (post 0))
-- J15_charAt
def wJ15_charAt (ad : Nat → Nat) (T L : Nat → Nat) (V : w_V) (P : w_P) (a0 k0 n0 : Nat) (x1 : Int32) (post : Int32 → Prop) : Prop :=
  (wJ9_checkIndex ad T L V P x1 (nI n0) (∃ i4 : Nat, i4 < n0 ∧ x1 = nI i4 ∧ (narrow .char (.int ((((V a0 k0 i4) &&& 255) : Int32).toUInt32 % 65536).toInt32) = .int ((((V a0 k0 i4) &&& 255) : Int32).toUInt32 % 65536).toInt32 ∧ (post ((((V a0 k0 i4) &&& 255) : Int32).toUInt32 % 65536).toInt32))))
-- J16_bitCount
def wJ16_bitCount (ad : Nat → Nat) (T L : Nat → Nat) (V : w_V) (P : w_P) (x0 : Int32) (post : Int32 → Prop) : Prop :=
  (post ((((((((x0 - (((x0 : Int32).toUInt32 >>> ((1 : Int32).toUInt32 &&& Int32.toUInt32 31)).toInt32 &&& 1431655765)) &&& 858993459) + ((((x0 - (((x0 : Int32).toUInt32 >>> ((1 : Int32).toUInt32 &&& Int32.toUInt32 31)).toInt32 &&& 1431655765)) : Int32).toUInt32 >>> ((2 : Int32).toUInt32 &&& Int32.toUInt32 31)).toInt32 &&& 858993459)) + (((((x0 - (((x0 : Int32).toUInt32 >>> ((1 : Int32).toUInt32 &&& Int32.toUInt32 31)).toInt32 &&& 1431655765)) &&& 858993459) + ((((x0 - (((x0 : Int32).toUInt32 >>> ((1 : Int32).toUInt32 &&& Int32.toUInt32 31)).toInt32 &&& 1431655765)) : Int32).toUInt32 >>> ((2 : Int32).toUInt32 &&& Int32.toUInt32 31)).toInt32 &&& 858993459)) : Int32).toUInt32 >>> ((4 : Int32).toUInt32 &&& Int32.toUInt32 31)).toInt32) &&& 252645135) + (((((((x0 - (((x0 : Int32).toUInt32 >>> ((1 : Int32).toUInt32 &&& Int32.toUInt32 31)).toInt32 &&& 1431655765)) &&& 858993459) + ((((x0 - (((x0 : Int32).toUInt32 >>> ((1 : Int32).toUInt32 &&& Int32.toUInt32 31)).toInt32 &&& 1431655765)) : Int32).toUInt32 >>> ((2 : Int32).toUInt32 &&& Int32.toUInt32 31)).toInt32 &&& 858993459)) + (((((x0 - (((x0 : Int32).toUInt32 >>> ((1 : Int32).toUInt32 &&& Int32.toUInt32 31)).toInt32 &&& 1431655765)) &&& 858993459) + ((((x0 - (((x0 : Int32).toUInt32 >>> ((1 : Int32).toUInt32 &&& Int32.toUInt32 31)).toInt32 &&& 1431655765)) : Int32).toUInt32 >>> ((2 : Int32).toUInt32 &&& Int32.toUInt32 31)).toInt32 &&& 858993459)) : Int32).toUInt32 >>> ((4 : Int32).toUInt32 &&& Int32.toUInt32 31)).toInt32) &&& 252645135) : Int32).toUInt32 >>> ((8 : Int32).toUInt32 &&& Int32.toUInt32 31)).toInt32) + ((((((((x0 - (((x0 : Int32).toUInt32 >>> ((1 : Int32).toUInt32 &&& Int32.toUInt32 31)).toInt32 &&& 1431655765)) &&& 858993459) + ((((x0 - (((x0 : Int32).toUInt32 >>> ((1 : Int32).toUInt32 &&& Int32.toUInt32 31)).toInt32 &&& 1431655765)) : Int32).toUInt32 >>> ((2 : Int32).toUInt32 &&& Int32.toUInt32 31)).toInt32 &&& 858993459)) + (((((x0 - (((x0 : Int32).toUInt32 >>> ((1 : Int32).toUInt32 &&& Int32.toUInt32 31)).toInt32 &&& 1431655765)) &&& 858993459) + ((((x0 - (((x0 : Int32).toUInt32 >>> ((1 : Int32).toUInt32 &&& Int32.toUInt32 31)).toInt32 &&& 1431655765)) : Int32).toUInt32 >>> ((2 : Int32).toUInt32 &&& Int32.toUInt32 31)).toInt32 &&& 858993459)) : Int32).toUInt32 >>> ((4 : Int32).toUInt32 &&& Int32.toUInt32 31)).toInt32) &&& 252645135) + (((((((x0 - (((x0 : Int32).toUInt32 >>> ((1 : Int32).toUInt32 &&& Int32.toUInt32 31)).toInt32 &&& 1431655765)) &&& 858993459) + ((((x0 - (((x0 : Int32).toUInt32 >>> ((1 : Int32).toUInt32 &&& Int32.toUInt32 31)).toInt32 &&& 1431655765)) : Int32).toUInt32 >>> ((2 : Int32).toUInt32 &&& Int32.toUInt32 31)).toInt32 &&& 858993459)) + (((((x0 - (((x0 : Int32).toUInt32 >>> ((1 : Int32).toUInt32 &&& Int32.toUInt32 31)).toInt32 &&& 1431655765)) &&& 858993459) + ((((x0 - (((x0 : Int32).toUInt32 >>> ((1 : Int32).toUInt32 &&& Int32.toUInt32 31)).toInt32 &&& 1431655765)) : Int32).toUInt32 >>> ((2 : Int32).toUInt32 &&& Int32.toUInt32 31)).toInt32 &&& 858993459)) : Int32).toUInt32 >>> ((4 : Int32).toUInt32 &&& Int32.toUInt32 31)).toInt32) &&& 252645135) : Int32).toUInt32 >>> ((8 : Int32).toUInt32 &&& Int32.toUInt32 31)).toInt32) : Int32).toUInt32 >>> ((16 : Int32).toUInt32 &&& Int32.toUInt32 31)).toInt32) &&& 63))
-- J18_checkIndex
def wJ18_checkIndex (ad : Nat → Nat) (T L : Nat → Nat) (V : w_V) (P : w_P) (x0 : Int32) (x1 : Int32) (post : Int32 → Prop) : Prop :=
  (wJ14_checkIndex ad T L V P x0 x1 none (fun (r1 : Int32) => (post r1)))
-- J2_add_2
def jJ2_add_2_11 (ad : Nat → Nat) (T L : Nat → Nat) (V : w_V) (P : w_P) (t : Nat) (x1 : Nat) (x2 : Nat) (x2 : Nat) (x3 : Int32) (post : w_V → w_P → Prop) : Prop :=
  (∃ i1 : Nat, i1 < L x2 ∧ L x2 < 2147483648 ∧ x3 = nI i1 ∧ oT T x1 ∧ (∀ P6 : w_P, P6 = (up2 P x2 i1 (some x1)) → (∀ V7 : w_V, V7 = (up3 V t 0 2 (x3 + 1)) → (post V7 P6))))
def wJ2_add_2 (ad : Nat → Nat) (T L : Nat → Nat) (V : w_V) (P : w_P) (t : Nat) (x1 : Nat) (x2 : Nat) (x3 : Int32) (post : w_V → w_P → Prop) : Prop :=
  (if (x3 = (nI (L x2)) : Prop) then False else (jJ2_add_2_11 ad T L V P t x1 x2 x2 x3 post))
-- J2_add
def wJ2_add (ad : Nat → Nat) (T L : Nat → Nat) (V : w_V) (P : w_P) (t : Nat) (x1 : Nat) (post : Int32 → w_V → w_P → Prop) : Prop :=
  (∀ V1 : w_V, V1 = (up3 V t 0 0 ((V t 0 0) + 1)) → (∃ b2 : Nat, P t 1 = some b2 ∧ T b2 = 2004 ∧ (wJ2_add_2 ad T L V1 P t x1 b2 (V1 t 0 2) (fun (V6 : w_V) (P7 : w_P) => (post 1 V6 P7)))))
-- J2_grow
def wJ2_grow (ad : Nat → Nat) (T L : Nat → Nat) (V : w_V) (P : w_P) (t : Nat) (post : Nat → Prop) : Prop :=
  False
-- J2_size
def wJ2_size (ad : Nat → Nat) (T L : Nat → Nat) (V : w_V) (P : w_P) (t : Nat) (post : Int32 → Prop) : Prop :=
  (post (V t 0 2))
-- J2_elementData
def wJ2_elementData (ad : Nat → Nat) (T L : Nat → Nat) (V : w_V) (P : w_P) (t : Nat) (x1 : Int32) (post : Nat → Prop) : Prop :=
  (∃ b1 : Nat, P t 1 = some b1 ∧ T b1 = 2004 ∧ (∃ i4 b8 : Nat, i4 < L b1 ∧ L b1 < 2147483648 ∧ x1 = nI i4 ∧ P b1 i4 = some b8 ∧ (post b8)))
-- J2_get
def wJ2_get (ad : Nat → Nat) (T L : Nat → Nat) (V : w_V) (P : w_P) (t : Nat) (x1 : Int32) (post : Nat → Prop) : Prop :=
  (wJ18_checkIndex ad T L V P x1 (V t 0 2) (fun (r1 : Int32) => (wJ2_elementData ad T L V P t x1 (fun (r4 : Nat) => (post r4)))))
-- J2_fastRemove
def jJ2_fastRemove_34 (ad : Nat → Nat) (T L : Nat → Nat) (V : w_V) (P : w_P) (t : Nat) (x1 : Nat) (x3 : Int32) (post : w_V → w_P → Prop) : Prop :=
  (∀ V2 : w_V, V2 = (up3 V t 0 2 x3) → (∃ i3 : Nat, i3 < L x1 ∧ L x1 < 2147483648 ∧ x3 = nI i3 ∧ (∀ P8 : w_P, P8 = (up2 P x1 i3 none) → (post V2 P8))))
def wJ2_fastRemove (ad : Nat → Nat) (T L : Nat → Nat) (V : w_V) (P : w_P) (t : Nat) (x1 : Nat) (x2 : Int32) (post : w_V → w_P → Prop) : Prop :=
  (∀ V1 : w_V, V1 = (up3 V t 0 0 ((V t 0 0) + 1)) → (if (((V1 t 0 2) - 1) ≤ x2 : Prop) then (jJ2_fastRemove_34 ad T L V1 P t x1 ((V1 t 0 2) - 1) post) else (∃ i9 j10 m11 : Nat, (x2 + 1) = nI i9 ∧ x2 = nI j10 ∧ (((V1 t 0 2) - 1) - x2) = nI m11 ∧ i9 + m11 ≤ L x1 ∧ j10 + m11 ≤ L x1 ∧ L x1 < 2147483648 ∧ L x1 < 2147483648 ∧ (∀ i v, i < m11 → P x1 (i9 + i) = some v → oT T v) ∧ (∀ P20 : w_P, P20 = (up1 P x1 (va_cpy (P x1) (P x1) i9 j10 m11)) → (jJ2_fastRemove_34 ad T L V1 P20 t x1 ((V1 t 0 2) - 1) post)))))
-- J2_remove
def wJ2_remove (ad : Nat → Nat) (T L : Nat → Nat) (V : w_V) (P : w_P) (t : Nat) (x1 : Int32) (post : Nat → w_V → w_P → Prop) : Prop :=
  (wJ18_checkIndex ad T L V P x1 (V t 0 2) (fun (r1 : Int32) => (∃ b4 : Nat, P t 1 = some b4 ∧ T b4 = 2004 ∧ (∃ i7 b11 : Nat, i7 < L b4 ∧ L b4 < 2147483648 ∧ x1 = nI i7 ∧ P b4 i7 = some b11 ∧ (wJ2_fastRemove ad T L V P t b4 x1 (fun (V14 : w_V) (P15 : w_P) => (post b11 V14 P15)))))))
-- J7_inflate
def wJ7_inflate (ad : Nat → Nat) (T L : Nat → Nat) (V : w_V) (P : w_P) (t : Nat) (post : w_V → w_P → Prop) : Prop :=
  (wJ7_isLatin1 ad T L V P t (fun (r1 : Int32) => (if (r1 = 0 : Prop) then (post V P) else (∃ b4 a6 k7 n8 : Nat, P t 0 = some b4 ∧ hArr T L b4 a6 k7 n8 1 ∧ n8 < 2147483648 ∧ False))))
-- J7_append_3
def jJ7_append_3_56 (ad : Nat → Nat) (T L : Nat → Nat) (V : w_V) (P : w_P) (t : Nat) (x1 : Int32) (post : Nat → w_V → w_P → Prop) : Prop :=
  (∃ b10 a12 k13 n14 : Nat, P t 0 = some b10 ∧ hArr T L b10 a12 k13 n14 1 ∧ n14 < 2147483648 ∧ (∀ V17 : w_V, V17 = (up3 V t 0 3 ((V t 0 3) + 1)) → False))
def jJ7_append_3_45 (ad : Nat → Nat) (T L : Nat → Nat) (V : w_V) (P : w_P) (t : Nat) (x1 : Int32) (post : Nat → w_V → w_P → Prop) : Prop :=
  (wJ7_isLatin1 ad T L V P t (fun (r7 : Int32) => (if (r7 = 0 : Prop) then (jJ7_append_3_56 ad T L V P t x1 post) else (wJ7_inflate ad T L V P t (fun (V19 : w_V) (P20 : w_P) => (jJ7_append_3_56 ad T L V19 P20 t x1 post))))))
def jJ7_append_3_75 (ad : Nat → Nat) (T L : Nat → Nat) (V : w_V) (P : w_P) (t : Nat) (post : Nat → w_V → w_P → Prop) : Prop :=
  (post t V P)
def wJ7_append_3 (ad : Nat → Nat) (T L : Nat → Nat) (V : w_V) (P : w_P) (t : Nat) (x1 : Int32) (post : Nat → w_V → w_P → Prop) : Prop :=
  (wJ7_ensureCapacityInternal ad T L V P t ((V t 0 3) + 1) (fun (V2 : w_V) (P3 : w_P) => (wJ7_isLatin1 ad T L V2 P3 t (fun (r4 : Int32) => (if (r4 = 0 : Prop) then (jJ7_append_3_45 ad T L V2 P3 t x1 post) else (wJ15_canEncode ad T L V2 P3 x1 (fun (r21 : Int32) => (if (r21 = 0 : Prop) then (jJ7_append_3_45 ad T L V2 P3 t x1 post) else (∃ b24 a26 k27 n28 : Nat, P3 t 0 = some b24 ∧ hArr T L b24 a26 k27 n28 1 ∧ n28 < 2147483648 ∧ (∀ V31 : w_V, V31 = (up3 V2 t 0 3 ((V2 t 0 3) + 1)) → (∃ i32 : Nat, i32 < n28 ∧ (V2 t 0 3) = nI i32 ∧ (∀ V35 : w_V, V35 = (up3 V31 a26 k27 i32 (vp_nar .byte (x1 : Int32).toInt8.toInt32)) → (jJ7_append_3_75 ad T L V35 P3 t post)))))))))))))
-- J8_length
def wJ8_length (ad : Nat → Nat) (T L : Nat → Nat) (V : w_V) (P : w_P) (t : Nat) (post : Int32 → Prop) : Prop :=
  (wJ7_length ad T L V P t (fun (r1 : Int32) => (post r1)))
-- J8_append_3
def wJ8_append_3 (ad : Nat → Nat) (T L : Nat → Nat) (V : w_V) (P : w_P) (t : Nat) (x1 : Int32) (post : Nat → w_V → w_P → Prop) : Prop :=
  (wJ7_append_3 ad T L V P t x1 (fun (r1 : Nat) (V2 : w_V) (P3 : w_P) => (post t V2 P3)))
-- J15m_equals
def lJ15m_equals_9 (ad : Nat → Nat) (T L : Nat → Nat) (V : w_V) (P : w_P) (a0 k0 n0 : Nat) (x1 : Nat) (tx1 : List Nat) (post : Int32 → Prop) : Nat → Int32 → Prop
  | 0, _ => False
  | n + 1, x2 =>
  (if ((nI n0) ≤ x2 : Prop) then (post 1) else (∃ i1 : Nat, i1 < n0 ∧ x2 = nI i1 ∧ (∃ i4 : Nat, i4 < tx1.length ∧ x2 = nI i4 ∧ (if ((V a0 k0 i1) = (nI (tx1.getD i4 0)) : Prop) then ((lJ15m_equals_9 ad T L V P a0 k0 n0 x1 tx1 post n) (x2 + 1)) else (post 0)))))
def wJ15m_equals (ad : Nat → Nat) (T L : Nat → Nat) (V : w_V) (P : w_P) (a0 k0 n0 : Nat) (x1 : Nat) (tx1 : List Nat) (post : Int32 → Prop) : Prop :=
  (if ((nI n0) = (nI tx1.length) : Prop) then (∃ n7, lJ15m_equals_9 ad T L V P a0 k0 n0 x1 tx1 post n7 0) else (post 0))
-- J15k_charAt
def wJ15k_charAt (ad : Nat → Nat) (T L : Nat → Nat) (V : w_V) (P : w_P) (x0 : Nat) (tx0 : List Nat) (x1 : Int32) (post : Int32 → Prop) : Prop :=
  (wJ9_checkIndex ad T L V P x1 (nI tx0.length) (∃ i4 : Nat, i4 < tx0.length ∧ x1 = nI i4 ∧ (narrow .char (.int ((((nI (tx0.getD i4 0)) &&& 255) : Int32).toUInt32 % 65536).toInt32) = .int ((((nI (tx0.getD i4 0)) &&& 255) : Int32).toUInt32 % 65536).toInt32 ∧ (post ((((nI (tx0.getD i4 0)) &&& 255) : Int32).toUInt32 % 65536).toInt32))))
-- J9_isLatin1
def wJ9_isLatin1 (ad : Nat → Nat) (T L : Nat → Nat) (V : w_V) (P : w_P) (t : Nat) (post : Int32 → Prop) : Prop :=
  (if ((V t 0 1) = 0 : Prop) then (post 1) else (post 0))
-- J9k_isLatin1
def wJ9k_isLatin1 (ad : Nat → Nat) (T L : Nat → Nat) (V : w_V) (P : w_P) (x0 : Nat) (tx0 : List Nat) (post : Int32 → Prop) : Prop :=
  (post 1)
-- J9_charAt
def wJ9_charAt (ad : Nat → Nat) (T L : Nat → Nat) (V : w_V) (P : w_P) (t : Nat) (x1 : Int32) (post : Int32 → Prop) : Prop :=
  (wJ9_isLatin1 ad T L V P t (fun (r1 : Int32) => (if (r1 = 0 : Prop) then (∃ b4 a6 k7 n8 : Nat, P t 0 = some b4 ∧ hArr T L b4 a6 k7 n8 1 ∧ n8 < 2147483648 ∧ False) else (∃ b11 a13 k14 n15 : Nat, P t 0 = some b11 ∧ hArr T L b11 a13 k14 n15 1 ∧ n15 < 2147483648 ∧ (wJ15_charAt ad T L V P a13 k14 n15 x1 (fun (r18 : Int32) => (narrow .char (.int r18) = .int r18 ∧ (post r18))))))))
-- X2_measures
def jX2_measures_45 (ad : Nat → Nat) (T L : Nat → Nat) (V : w_V) (P : w_P) (t : Nat) (x1 : Int32) (t0 : Int32) (t1 : Int32) (post : w_V → Prop) (kb : Int32 → w_V → Prop) : Prop :=
  (∃ i4 : Nat, i4 < 81 ∧ t1 = nI i4 ∧ (∀ V7 : w_V, V7 = (up3 V t 6 i4 t0) → (kb (x1 + 1) V7)))
def lX2_measures_2 (ad : Nat → Nat) (T L : Nat → Nat) (P : w_P) (t : Nat) (post : w_V → Prop) (ke_52 : w_V → Prop) : Nat → Int32 → w_V → Prop
  | 0, _, _ => False
  | n + 1, x1, V =>
  (if (81 ≤ x1 : Prop) then (ke_52 V) else (if ((x1 - x1 / 10 * 10) = 0 : Prop) then (jX2_measures_45 ad T L V P t x1 0 x1 post (lX2_measures_2 ad T L P t post ke_52 n)) else (∃ i1 : Nat, i1 < 81 ∧ x1 = nI i1 ∧ (if ((V t 5 i1) ≤ 0 : Prop) then (jX2_measures_45 ad T L V P t x1 9999 x1 post (lX2_measures_2 ad T L P t post ke_52 n)) else (∃ i8 : Nat, i8 < 81 ∧ x1 = nI i8 ∧ (jX2_measures_45 ad T L V P t x1 (V t 5 i8) x1 post (lX2_measures_2 ad T L P t post ke_52 n)))))))
def lX2_measures_74 (ad : Nat → Nat) (T L : Nat → Nat) (P : w_P) (t : Nat) (x1 : Int32) (x2 : Int32) (post : w_V → Prop) (ke_136 : w_V → Prop) : Nat → Int32 → w_V → Prop
  | 0, _, _ => False
  | n + 1, x3, V =>
  (if ((V t 0 0) ≤ x3 : Prop) then (ke_136 V) else (∃ i12 : Nat, i12 < 81 ∧ ((9 * x2) + x3) = nI i12 ∧ (∃ i15 : Nat, i15 < 81 ∧ ((9 * x2) + x1) = nI i15 ∧ (∃ i18 : Nat, i18 < 81 ∧ ((9 * x1) + x3) = nI i18 ∧ (∃ i21 : Nat, i21 < 81 ∧ ((9 * x2) + x3) = nI i21 ∧ (∀ V24 : w_V, V24 = (up3 V t 6 i21 (if ((V t 6 i15) + (V t 6 i18)) < (V t 6 i12) then ((V t 6 i15) + (V t 6 i18)) else (V t 6 i12))) → ((lX2_measures_74 ad T L P t x1 x2 post ke_136 n) (x3 + 1) V24)))))))
def lX2_measures_64 (ad : Nat → Nat) (T L : Nat → Nat) (P : w_P) (t : Nat) (x1 : Int32) (post : w_V → Prop) (ke_142 : w_V → Prop) : Nat → Int32 → w_V → Prop
  | 0, _, _ => False
  | n + 1, x2, V =>
  (if ((V t 0 0) ≤ x2 : Prop) then (ke_142 V) else (∃ n26, lX2_measures_74 ad T L P t x1 x2 post (fun (V25 : w_V) => ((lX2_measures_64 ad T L P t x1 post ke_142 n) (x2 + 1) V25)) n26 0 V))
def lX2_measures_54 (ad : Nat → Nat) (T L : Nat → Nat) (P : w_P) (t : Nat) (post : w_V → Prop) : Nat → Int32 → w_V → Prop
  | 0, _, _ => False
  | n + 1, x1, V =>
  (if ((V t 0 0) ≤ x1 : Prop) then (post V) else (∃ n28, lX2_measures_64 ad T L P t x1 post (fun (V27 : w_V) => ((lX2_measures_54 ad T L P t post n) (x1 + 1) V27)) n28 0 V))
def wX2_measures (ad : Nat → Nat) (T L : Nat → Nat) (V : w_V) (P : w_P) (t : Nat) (post : w_V → Prop) : Prop :=
  (∃ n30, lX2_measures_2 ad T L P t post (fun (V11 : w_V) => (∃ n29, lX2_measures_54 ad T L P t post n29 0 V11)) n30 0 V)
-- X6_begins
def lX6_begins_2 (ad : Nat → Nat) (T L : Nat → Nat) (P : w_P) (t : Nat) (x1 : Nat) (post : w_V → Prop) (ke_39 : w_V → Prop) : Nat → Int32 → w_V → Prop
  | 0, _, _ => False
  | n + 1, x2, V =>
  (∃ b1 : Nat, P x1 6 = some b1 ∧ T b1 = 16 ∧ (wJ2_size ad T L V P b1 (fun (r4 : Int32) => (if (r4 ≤ x2 : Prop) then (ke_39 V) else (∃ b7 : Nat, P x1 6 = some b7 ∧ T b7 = 16 ∧ (wJ2_get ad T L V P b7 x2 (fun (r10 : Nat) => (jT T r10 ∧ (∃ i14 : Nat, i14 < 5 ∧ x2 = nI i14 ∧ (∀ V17 : w_V, V17 = (up3 V t 1 i14 (V r10 0 0)) → ((lX6_begins_2 ad T L P t x1 post ke_39 n) (x2 + 1) V17)))))))))))
def wX6_begins (ad : Nat → Nat) (T L : Nat → Nat) (V : w_V) (P : w_P) (t : Nat) (x1 : Nat) (post : w_V → Prop) : Prop :=
  (∃ n27, lX6_begins_2 ad T L P t x1 post (fun (V18 : w_V) => (∀ V19 : w_V, V19 = (up3 V18 t 0 4 (V18 x1 0 3)) → (∀ V20 : w_V, V20 = (up3 V19 t 0 5 0) → (∀ V21 : w_V, V21 = (up3 V20 t 0 6 0) → (∀ V22 : w_V, V22 = (up3 V21 t 0 7 0) → (∀ V23 : w_V, V23 = (up3 V22 t 0 8 0) → (∀ V24 : w_V, V24 = (up3 V23 t 0 9 0) → (∀ V25 : w_V, V25 = (up3 V24 t 0 10 0) → (∀ V26 : w_V, V26 = (up3 V25 t 0 11 (-1)) → (post V26)))))))))) n27 0 V)
-- X1_lay
def lX1_lay_3 (ad : Nat → Nat) (T L : Nat → Nat) (P : w_P) (t : Nat) (x1 : Int32) (post : w_V → Prop) : Nat → Int32 → w_V → Prop
  | 0, _, _ => False
  | n + 1, x2, V =>
  (if (x2 < 0 : Prop) then (post V) else (∃ i1 : Nat, i1 < 600 ∧ (V t 0 8) = nI i1 ∧ (∀ V4 : w_V, V4 = (up3 V t 8 i1 (vp_nar .byte (((x1 : Int32) >>> ((x2 : Int32) &&& 31)) : Int32).toInt8.toInt32)) → (∀ V5 : w_V, V5 = (up3 V4 t 0 8 ((V4 t 0 8) + 1)) → ((lX1_lay_3 ad T L P t x1 post n) (x2 + (-8)) V5)))))
def wX1_lay (ad : Nat → Nat) (T L : Nat → Nat) (V : w_V) (P : w_P) (t : Nat) (x1 : Int32) (post : w_V → Prop) : Prop :=
  (∃ n6, lX1_lay_3 ad T L P t x1 post n6 24 V)
-- X1_feed
def wX1_feed (ad : Nat → Nat) (T L : Nat → Nat) (V : w_V) (P : w_P) (t : Nat) (x1 : Int32) (x2 : Int32) (x3 : Int32) (x4 : Int32) (x5 : Int32) (post : Int32 → w_V → Prop) : Prop :=
  (if (((V t 0 8) + 20) ≤ 600 : Prop) then (wX1_lay ad T L V P t x1 (fun (V2 : w_V) => (wX1_lay ad T L V2 P t x2 (fun (V5 : w_V) => (wX1_lay ad T L V5 P t x3 (fun (V8 : w_V) => (wX1_lay ad T L V8 P t x4 (fun (V11 : w_V) => (wX1_lay ad T L V11 P t x5 (fun (V14 : w_V) => (post (V14 t 0 8) V14))))))))))) else (post (-1) V))
-- X1_fault
def wX1_fault (ad : Nat → Nat) (T L : Nat → Nat) (V : w_V) (P : w_P) (t : Nat) (post : Int32 → Prop) : Prop :=
  (post (V t 0 9))
-- X6_like
def wX6_like (ad : Nat → Nat) (T L : Nat → Nat) (V : w_V) (P : w_P) (t : Nat) (x1 : Nat) (post : w_V → Prop) : Prop :=
  (∃ i1 j2 m3 : Nat, 0 = nI i1 ∧ 0 = nI j2 ∧ 5 = nI m3 ∧ i1 + m3 ≤ 5 ∧ j2 + m3 ≤ 5 ∧ (∀ i, i < m3 → fits .int (.int (V x1 1 (i1 + i))) = true) ∧ (∀ V10 : w_V, V10 = (up1 V t (up1 (V t) 1 (va_cpy (V x1 1) (V t 1) i1 j2 m3))) → (∃ i11 j12 m13 : Nat, 0 = nI i11 ∧ 0 = nI j12 ∧ (nI 15) = nI m13 ∧ i11 + m13 ≤ 15 ∧ j12 + m13 ≤ 15 ∧ (∀ i, i < m13 → fits .int (.int (V10 x1 2 (i11 + i))) = true) ∧ (∀ V20 : w_V, V20 = (up1 V10 t (up1 (V10 t) 2 (va_cpy (V10 x1 2) (V10 t 2) i11 j12 m13))) → (∃ i21 j22 m23 : Nat, 0 = nI i21 ∧ 0 = nI j22 ∧ (nI 12) = nI m23 ∧ i21 + m23 ≤ 12 ∧ j22 + m23 ≤ 12 ∧ (∀ i, i < m23 → fits .int (.int (V20 x1 3 (i21 + i))) = true) ∧ (∀ V30 : w_V, V30 = (up1 V20 t (up1 (V20 t) 3 (va_cpy (V20 x1 3) (V20 t 3) i21 j22 m23))) → (∃ i31 j32 m33 : Nat, 0 = nI i31 ∧ 0 = nI j32 ∧ (nI 18) = nI m33 ∧ i31 + m33 ≤ 18 ∧ j32 + m33 ≤ 18 ∧ (∀ i, i < m33 → fits .int (.int (V30 x1 4 (i31 + i))) = true) ∧ (∀ V40 : w_V, V40 = (up1 V30 t (up1 (V30 t) 4 (va_cpy (V30 x1 4) (V30 t 4) i31 j32 m33))) → (∀ V41 : w_V, V41 = (up3 V40 t 0 4 (V40 x1 0 4)) → (∀ V42 : w_V, V42 = (up3 V41 t 0 5 (V41 x1 0 5)) → (∀ V43 : w_V, V43 = (up3 V42 t 0 6 (V42 x1 0 6)) → (∀ V44 : w_V, V44 = (up3 V43 t 0 7 (V43 x1 0 7)) → (∀ V45 : w_V, V45 = (up3 V44 t 0 8 (V44 x1 0 8)) → (∀ V46 : w_V, V46 = (up3 V45 t 0 9 (V45 x1 0 9)) → (∀ V47 : w_V, V47 = (up3 V46 t 0 10 (V46 x1 0 10)) → (∀ V48 : w_V, V48 = (up3 V47 t 0 11 (V47 x1 0 11)) → (post V48)))))))))))))))))
-- X1_undo
def wX1_undo (ad : Nat → Nat) (T L : Nat → Nat) (V : w_V) (P : w_P) (t : Nat) (post : Int32 → w_V → Prop) : Prop :=
  (∃ b1 : Nat, P t 1 = some b1 ∧ T b1 = 5 ∧ (if ((V b1 0 6) = 0 : Prop) then (post (-1) V) else (∃ b4 : Nat, P t 1 = some b4 ∧ T b4 = 5 ∧ (∀ V7 : w_V, V7 = (up3 V b4 0 6 ((V b4 0 6) - 1)) → (∃ b8 : Nat, P t 3 = some b8 ∧ T b8 = 6 ∧ (∃ b11 : Nat, P t 1 = some b11 ∧ T b11 = 5 ∧ (∃ b14 : Nat, P b11 1 = some b14 ∧ T b14 = 16 ∧ (∃ b17 : Nat, P t 1 = some b17 ∧ T b17 = 5 ∧ (wJ2_get ad T L V7 P b14 (V7 b17 0 6) (fun (r20 : Nat) => (T r20 = 6 ∧ (wX6_like ad T L V7 P b8 r20 (fun (V25 : w_V) => (∃ b27 : Nat, P t 1 = some b27 ∧ T b27 = 5 ∧ (post (V25 b27 0 6) V25)))))))))))))))
-- X1_forget
def wX1_forget (ad : Nat → Nat) (T L : Nat → Nat) (V : w_V) (P : w_P) (t : Nat) (post : Int32 → w_V → Prop) : Prop :=
  (∃ b1 : Nat, P t 1 = some b1 ∧ T b1 = 5 ∧ (if ((V b1 0 7) = 0 : Prop) then (post (-1) V) else (∃ b4 : Nat, P t 1 = some b4 ∧ T b4 = 5 ∧ (∀ V7 : w_V, V7 = (up3 V b4 0 7 ((V b4 0 7) - 1)) → (∃ b8 : Nat, P t 1 = some b8 ∧ T b8 = 5 ∧ (post (V7 b8 0 7) V7))))))
-- X5_like
def lX5_like_13 (ad : Nat → Nat) (T L : Nat → Nat) (P : w_P) (t : Nat) (x1 : Nat) (post : w_V → Prop) (ke_52 : w_V → Prop) : Nat → Int32 → w_V → Prop
  | 0, _, _ => False
  | n + 1, x2, V =>
  (if ((V x1 0 6) ≤ x2 : Prop) then (ke_52 V) else (∃ b10 : Nat, P t 1 = some b10 ∧ T b10 = 16 ∧ (wJ2_get ad T L V P b10 x2 (fun (r13 : Nat) => (T r13 = 6 ∧ (∃ b17 : Nat, P x1 1 = some b17 ∧ T b17 = 16 ∧ (wJ2_get ad T L V P b17 x2 (fun (r20 : Nat) => (T r20 = 6 ∧ (wX6_like ad T L V P r13 r20 (fun (V25 : w_V) => ((lX5_like_13 ad T L P t x1 post ke_52 n) (x2 + 1) V25))))))))))))
def wX5_like (ad : Nat → Nat) (T L : Nat → Nat) (V : w_V) (P : w_P) (t : Nat) (x1 : Nat) (post : w_V → Prop) : Prop :=
  (∃ b1 : Nat, P t 0 = some b1 ∧ T b1 = 6 ∧ (∃ b4 : Nat, P x1 0 = some b4 ∧ T b4 = 6 ∧ (wX6_like ad T L V P b1 b4 (fun (V8 : w_V) => (∃ n70, lX5_like_13 ad T L P t x1 post (fun (V27 : w_V) => (∃ i28 j29 m30 : Nat, 0 = nI i28 ∧ 0 = nI j29 ∧ 8 = nI m30 ∧ i28 + m30 ≤ 8 ∧ j29 + m30 ≤ 8 ∧ (∀ i, i < m30 → fits .int (.int (V27 x1 3 (i28 + i))) = true) ∧ (∀ V37 : w_V, V37 = (up1 V27 t (up1 (V27 t) 3 (va_cpy (V27 x1 3) (V27 t 3) i28 j29 m30))) → (∃ i38 j39 m40 : Nat, 0 = nI i38 ∧ 0 = nI j39 ∧ 8 = nI m40 ∧ i38 + m40 ≤ 8 ∧ j39 + m40 ≤ 8 ∧ (∀ i, i < m40 → fits .int (.int (V37 x1 4 (i38 + i))) = true) ∧ (∀ V47 : w_V, V47 = (up1 V37 t (up1 (V37 t) 4 (va_cpy (V37 x1 4) (V37 t 4) i38 j39 m40))) → (∃ i48 j49 m50 : Nat, 0 = nI i48 ∧ 0 = nI j49 ∧ 8 = nI m50 ∧ i48 + m50 ≤ 8 ∧ j49 + m50 ≤ 8 ∧ (∀ i, i < m50 → fits .boolean (.int (V47 x1 6 (i48 + i))) = true) ∧ (∀ V57 : w_V, V57 = (up1 V47 t (up1 (V47 t) 6 (va_cpy (V47 x1 6) (V47 t 6) i48 j49 m50))) → (∃ i58 j59 m60 : Nat, 0 = nI i58 ∧ 0 = nI j59 ∧ (nI 3) = nI m60 ∧ i58 + m60 ≤ 3 ∧ j59 + m60 ≤ 3 ∧ (∀ i, i < m60 → fits .int (.int (V57 x1 5 (i58 + i))) = true) ∧ (∀ V67 : w_V, V67 = (up1 V57 t (up1 (V57 t) 5 (va_cpy (V57 x1 5) (V57 t 5) i58 j59 m60))) → (∀ V68 : w_V, V68 = (up3 V67 t 0 6 (V67 x1 0 6)) → (∀ V69 : w_V, V69 = (up3 V68 t 0 7 (V68 x1 0 7)) → (post V69)))))))))))) n70 0 V8)))))
-- X1_image
def wX1_image (ad : Nat → Nat) (T L : Nat → Nat) (V : w_V) (P : w_P) (t : Nat) (post : w_V → Prop) : Prop :=
  (∃ b1 : Nat, P t 2 = some b1 ∧ T b1 = 5 ∧ (∃ b4 : Nat, P t 1 = some b4 ∧ T b4 = 5 ∧ (wX5_like ad T L V P b1 b4 (fun (V8 : w_V) => (∀ V10 : w_V, V10 = (up3 V8 t 0 6 1) → (post V10))))))
-- X1_restore
def wX1_restore (ad : Nat → Nat) (T L : Nat → Nat) (V : w_V) (P : w_P) (t : Nat) (post : Int32 → w_V → Prop) : Prop :=
  (if ((V t 0 6) = 0 : Prop) then (post 0 V) else (∃ b1 : Nat, P t 1 = some b1 ∧ T b1 = 5 ∧ (∃ b4 : Nat, P t 2 = some b4 ∧ T b4 = 5 ∧ (wX5_like ad T L V P b1 b4 (fun (V8 : w_V) => (post 1 V8))))))
-- X9_byteAt
def wX9_byteAt (ad : Nat → Nat) (T L : Nat → Nat) (V : w_V) (P : w_P) (t : Nat) (x1 : Int32) (post : Int32 → Prop) : Prop :=
  (if ((V t 0 1) ≤ x1 : Prop) then (post 0) else (∃ b1 a3 k4 n5 : Nat, P t 0 = some b1 ∧ hArr T L b1 a3 k4 n5 1 ∧ n5 < 2147483648 ∧ (∃ i8 : Nat, i8 < n5 ∧ x1 = nI i8 ∧ (post ((V a3 k4 i8) &&& 255)))))
-- X9_isDigit
def wX9_isDigit (ad : Nat → Nat) (T L : Nat → Nat) (V : w_V) (P : w_P) (x0 : Int32) (post : Int32 → Prop) : Prop :=
  (if (x0 < 48 : Prop) then (post 0) else (if (57 < x0 : Prop) then (post 0) else (post 1)))
-- X9_isLetter
def wX9_isLetter (ad : Nat → Nat) (T L : Nat → Nat) (V : w_V) (P : w_P) (x0 : Int32) (post : Int32 → Prop) : Prop :=
  (if (x0 < 97 : Prop) then (post 0) else (if (122 < x0 : Prop) then (post 0) else (post 1)))
-- X9_isSign
def wX9_isSign (ad : Nat → Nat) (T L : Nat → Nat) (V : w_V) (P : w_P) (x0 : Int32) (post : Int32 → Prop) : Prop :=
  (if (x0 = 59 : Prop) then (post 1) else (if (x0 = 40 : Prop) then (post 1) else (if (x0 = 41 : Prop) then (post 1) else (if (x0 = 43 : Prop) then (post 1) else (if (x0 = 45 : Prop) then (post 1) else (if (x0 = 42 : Prop) then (post 1) else (if (x0 = 47 : Prop) then (post 1) else (if (x0 = 60 : Prop) then (post 1) else (if (x0 = 61 : Prop) then (post 1) else (post 0))))))))))
-- J9m_equals
def jJ9m_equals_36 (ad : Nat → Nat) (T L : Nat → Nat) (V : w_V) (P : w_P) (t : Nat) (x1 : Nat) (tx1 : List Nat) (x2 : Nat) (txx2 : List Nat) (post : Int32 → Prop) : Prop :=
  (∃ b1 a3 k4 n5 : Nat, P t 0 = some b1 ∧ hArr T L b1 a3 k4 n5 1 ∧ n5 < 2147483648 ∧ (∀ v8 : Nat, (wJ15m_equals ad T L V P a3 k4 n5 v8 txx2 (fun (r10 : Int32) => (if (r10 = 0 : Prop) then (post 0) else (post 1))))))
def wJ9m_equals (ad : Nat → Nat) (T L : Nat → Nat) (V : w_V) (P : w_P) (t : Nat) (x1 : Nat) (tx1 : List Nat) (post : Int32 → Prop) : Prop :=
  (if (t = x1 : Prop) then (post 1) else (if ((V t 0 1) = 0 : Prop) then (jJ9m_equals_36 ad T L V P t x1 tx1 x1 tx1 post) else (post 0)))
-- X9_is
def jX9_is_20 (ad : Nat → Nat) (T L : Nat → Nat) (V : w_V) (P : w_P) (t : Nat) (x1 : Nat) (tx1 : List Nat) (post : Int32 → Prop) : Prop :=
  (∃ b4 : Nat, P t 7 = some b4 ∧ T b4 = 18 ∧ (wJ9m_equals ad T L V P b4 x1 tx1 (fun (r7 : Int32) => (if (r7 = 0 : Prop) then (post 0) else (post 1)))))
def wX9_is (ad : Nat → Nat) (T L : Nat → Nat) (V : w_V) (P : w_P) (t : Nat) (x1 : Nat) (tx1 : List Nat) (post : Int32 → Prop) : Prop :=
  (∃ b1 : Nat, P t 6 = some b1 ∧ (if (b1 = (ad 5) : Prop) then (jX9_is_20 ad T L V P t x1 tx1 post) else (∃ b10 : Nat, P t 6 = some b10 ∧ (if (b10 = (ad 7) : Prop) then (jX9_is_20 ad T L V P t x1 tx1 post) else (post 0)))))
-- J9k_charAt
def wJ9k_charAt (ad : Nat → Nat) (T L : Nat → Nat) (V : w_V) (P : w_P) (x0 : Nat) (tx0 : List Nat) (x1 : Int32) (post : Int32 → Prop) : Prop :=
  (wJ9k_isLatin1 ad T L V P x0 tx0 (fun (r1 : Int32) => (if (r1 = 0 : Prop) then (∀ v4 : Nat, False) else (∀ v6 : Nat, (wJ15k_charAt ad T L V P v6 tx0 x1 (fun (r8 : Int32) => (narrow .char (.int r8) = .int r8 ∧ (post r8))))))))
-- X9_valueOf
def jX9_valueOf_72 (ad : Nat → Nat) (T L : Nat → Nat) (V : w_V) (P : w_P) (x0 : Nat) (post : Option Nat → Prop) : Prop :=
  (post none)
def jX9_valueOf_72b (ad : Nat → Nat) (T L : Nat → Nat) (V : w_V) (P : w_P) (x0 : Nat) (post : Option Nat → Prop) : Prop :=
  (post (some (ad 4)))
def wX9_valueOf (ad : Nat → Nat) (T L : Nat → Nat) (V : w_V) (P : w_P) (x0 : Nat) (post : Option Nat → Prop) : Prop :=
  (∀ s1 : Nat, T s1 = 0 → (wJ9m_equals ad T L V P x0 s1 [112, 114, 111, 111, 102] (fun (r3 : Int32) => (if (r3 = 0 : Prop) then (∀ s6 : Nat, T s6 = 0 → (wJ9m_equals ad T L V P x0 s6 [104, 97, 114, 115, 104] (fun (r8 : Int32) => (if (r8 = 0 : Prop) then (∀ s11 : Nat, T s11 = 0 → (wJ9m_equals ad T L V P x0 s11 [100, 97, 121] (fun (r13 : Int32) => (if (r13 = 0 : Prop) then (∀ s16 : Nat, T s16 = 0 → (wJ9m_equals ad T L V P x0 s16 [116, 111, 119, 110] (fun (r18 : Int32) => (if (r18 = 0 : Prop) then (∀ s21 : Nat, T s21 = 0 → (wJ9m_equals ad T L V P x0 s21 [115, 97, 105, 100] (fun (r23 : Int32) => (if (r23 = 0 : Prop) then (jX9_valueOf_72 ad T L V P x0 post) else (jX9_valueOf_72b ad T L V P x0 post))))) else (post (some (ad 3))))))) else (post (some (ad 2))))))) else (post (some (ad 1))))))) else (post (some (ad 0)))))))
-- X1_cases
def wX1_cases (ad : Nat → Nat) (T L : Nat → Nat) (V : w_V) (P : w_P) (t : Nat) (post : Int32 → Prop) : Prop :=
  (∃ b1 : Nat, P t 0 = some b1 ∧ T b1 = 3 ∧ (∃ b4 : Nat, P b1 7 = some b4 ∧ T b4 = 16 ∧ (wJ2_size ad T L V P b4 (fun (r7 : Int32) => (post r7)))))
-- X7_cases
def wX7_cases (ad : Nat → Nat) (T L : Nat → Nat) (V : w_V) (P : w_P) (t : Nat) (post : Int32 → Prop) : Prop :=
  (∃ b1 : Nat, P t 0 = some b1 ∧ T b1 = 3 ∧ (∃ b4 : Nat, P b1 7 = some b4 ∧ T b4 = 16 ∧ (wJ2_size ad T L V P b4 (fun (r7 : Int32) => (post r7)))))
-- X16_town
def jX16_town_21 (ad : Nat → Nat) (T L : Nat → Nat) (V : w_V) (P : w_P) (t : Nat) (t0 : Int32) (at1 kt1 nt1 : Nat) (post : Int32 → Prop) : Prop :=
  (∃ i8 : Nat, i8 < nt1 ∧ t0 = nI i8 ∧ (post (V at1 kt1 i8)))
def wX16_town (ad : Nat → Nat) (T L : Nat → Nat) (V : w_V) (P : w_P) (t : Nat) (x1 : Int32) (x2 : Int32) (post : Int32 → Prop) : Prop :=
  (∃ b1 a3 k4 n5 : Nat, P t 2 = some b1 ∧ hArr T L b1 a3 k4 n5 0 ∧ n5 < 2147483648 ∧ (if (x2 = 0 : Prop) then (jX16_town_21 ad T L V P t x1 a3 k4 n5 post) else (∃ b11 a13 k14 n15 : Nat, P t 2 = some b11 ∧ hArr T L b11 a13 k14 n15 0 ∧ n15 < 2147483648 ∧ (jX16_town_21 ad T L V P t (((nI n15) - 1) - x1) a3 k4 n5 post))))
-- X7_judges
def wX7_judges (ad : Nat → Nat) (T L : Nat → Nat) (V : w_V) (P : w_P) (t : Nat) (post : Int32 → Prop) : Prop :=
  (∃ b1 : Nat, P t 0 = some b1 ∧ T b1 = 3 ∧ (∃ b4 : Nat, P b1 6 = some b4 ∧ T b4 = 16 ∧ (wJ2_size ad T L V P b4 (fun (r7 : Int32) => (post r7)))))
-- X16_towns
def wX16_towns (ad : Nat → Nat) (T L : Nat → Nat) (V : w_V) (P : w_P) (t : Nat) (post : Int32 → Prop) : Prop :=
  (∃ b1 a3 k4 n5 : Nat, P t 2 = some b1 ∧ hArr T L b1 a3 k4 n5 0 ∧ n5 < 2147483648 ∧ (post (nI n5)))
-- X7_towns
def wX7_towns (ad : Nat → Nat) (T L : Nat → Nat) (V : w_V) (P : w_P) (t : Nat) (x1 : Int32) (post : Int32 → Prop) : Prop :=
  (∃ b1 : Nat, P t 0 = some b1 ∧ T b1 = 3 ∧ (∃ b4 : Nat, P b1 6 = some b4 ∧ T b4 = 16 ∧ (wJ2_get ad T L V P b4 x1 (fun (r7 : Nat) => (jT T r7 ∧ (wX16_towns ad T L V P r7 (fun (r11 : Int32) => (post r11))))))))
-- X7_goes
def jX7_goes_112 (ad : Nat → Nat) (T L : Nat → Nat) (V : w_V) (P : w_P) (t : Nat) (x1 : Int32) (x2 : Int32) (x3 : Int32) (x4 : Int32) (x5 : Int32) (post : w_V → Prop) (kb : Int32 → Int32 → w_V → Prop) : Prop :=
  (∃ i29 : Nat, i29 < 35 ∧ ((7 * x1) + x4) = nI i29 ∧ (∀ V32 : w_V, V32 = (up3 V t 3 i29 x5) → (∃ i33 : Nat, i33 < 35 ∧ ((7 * x1) + x4) = nI i33 ∧ (∀ V36 : w_V, V36 = (up3 V32 t 4 i33 x3) → (kb x3 (x4 + 1) V36)))))
def lX7_goes_44 (ad : Nat → Nat) (T L : Nat → Nat) (P : w_P) (t : Nat) (x1 : Int32) (x2 : Int32) (post : w_V → Prop) (ke_145 : w_V → Prop) : Nat → Int32 → Int32 → w_V → Prop
  | 0, _, _, _ => False
  | n + 1, x3, x4, V =>
  (wX7_towns ad T L V P t x1 (fun (r13 : Int32) => (if (r13 ≤ x4 : Prop) then (ke_145 V) else (∃ b16 : Nat, P t 0 = some b16 ∧ T b16 = 3 ∧ (∃ b19 : Nat, P b16 6 = some b19 ∧ T b19 = 16 ∧ (wJ2_get ad T L V P b19 x1 (fun (r22 : Nat) => (jT T r22 ∧ (wX16_town ad T L V P r22 x4 x2 (fun (r26 : Int32) => (if (x4 ≤ 0 : Prop) then (jX7_goes_112 ad T L V P t x1 x2 x3 x4 r26 post (lX7_goes_44 ad T L P t x1 x2 post ke_145 n)) else (∃ b37 : Nat, P t 0 = some b37 ∧ T b37 = 3 ∧ (∃ i40 : Nat, i40 < 35 ∧ (((7 * x1) + x4) - 1) = nI i40 ∧ (∃ i43 : Nat, i43 < 81 ∧ ((9 * (V t 3 i40)) + r26) = nI i43 ∧ (jX7_goes_112 ad T L V P t x1 x2 (x3 + (V b37 5 i43)) x4 r26 post (lX7_goes_44 ad T L P t x1 x2 post ke_145 n))))))))))))))))
def jX7_goes_30 (ad : Nat → Nat) (T L : Nat → Nat) (V : w_V) (P : w_P) (t : Nat) (x1 : Int32) (t0 : Int32) (post : w_V → Prop) (kb : Int32 → w_V → Prop) : Prop :=
  (∃ b7 : Nat, P t 1 = some b7 ∧ T b7 = 6 ∧ (∃ i10 : Nat, i10 < 5 ∧ x1 = nI i10 ∧ (∃ n47, lX7_goes_44 ad T L P t x1 t0 post (fun (V46 : w_V) => (kb (x1 + 1) V46)) n47 (V b7 1 i10) 0 V)))
def lX7_goes_2 (ad : Nat → Nat) (T L : Nat → Nat) (P : w_P) (t : Nat) (post : w_V → Prop) : Nat → Int32 → w_V → Prop
  | 0, _, _ => False
  | n + 1, x1, V =>
  (wX7_judges ad T L V P t (fun (r1 : Int32) => (if (r1 ≤ x1 : Prop) then (post V) else (∃ b4 : Nat, P t 1 = some b4 ∧ T b4 = 6 ∧ (if (((((V b4 0 8) : Int32) >>> ((x1 : Int32) &&& 31)) &&& 1) = 1 : Prop) then (jX7_goes_30 ad T L V P t x1 1 post (lX7_goes_2 ad T L P t post n)) else (jX7_goes_30 ad T L V P t x1 0 post (lX7_goes_2 ad T L P t post n)))))))
def wX7_goes (ad : Nat → Nat) (T L : Nat → Nat) (V : w_V) (P : w_P) (t : Nat) (post : w_V → Prop) : Prop :=
  (∃ n48, lX7_goes_2 ad T L P t post n48 0 V)
-- X16_says
def wX16_says (ad : Nat → Nat) (T L : Nat → Nat) (V : w_V) (P : w_P) (t : Nat) (x1 : Int32) (post : Int32 → Prop) : Prop :=
  (nB x1 ∧ (post x1))
-- X18_says
def wX18_says (ad : Nat → Nat) (T L : Nat → Nat) (V : w_V) (P : w_P) (t : Nat) (x1 : Int32) (post : Int32 → Prop) : Prop :=
  (wX16_says ad T L V P t x1 (fun (r1 : Int32) => (if (r1 = 0 : Prop) then (post 1) else (post 0))))
-- X3_sees
def wX3_sees (ad : Nat → Nat) (T L : Nat → Nat) (V : w_V) (P : w_P) (t : Nat) (x1 : Nat) (x2 : Int32) (post : w_V → Prop) : Prop :=
  (∃ i1 : Nat, i1 < 5 ∧ x1 = ad i1 ∧ (∃ i4 : Nat, i4 < 5 ∧ (nI i1) = nI i4 ∧ (∀ V7 : w_V, V7 = (up3 V t 1 i4 x2) → (post V7))))
-- X2_byLaw
def wX2_byLaw (ad : Nat → Nat) (T L : Nat → Nat) (V : w_V) (P : w_P) (t : Nat) (x1 : Nat) (x2 : Int32) (x3 : Int32) (x4 : Int32) (x5 : Int32) (post : Int32 → w_V → Prop) : Prop :=
  (((P t 8) = none → (if (x2 ≤ 4 : Prop) then (post 0 V) else (post 1 V))) ∧ (∀ b1 : Nat, (P t 8) = some b1 → (∃ b4 : Nat, P t 9 = some b4 ∧ T b4 = 4 ∧ (wX3_sees ad T L V P b4 (ad 0) x2 (fun (V8 : w_V) => (∃ b10 : Nat, P t 9 = some b10 ∧ T b10 = 4 ∧ (wX3_sees ad T L V8 P b10 (ad 1) (V8 x1 0 1) (fun (V14 : w_V) => (∃ b16 : Nat, P t 9 = some b16 ∧ T b16 = 4 ∧ (wX3_sees ad T L V14 P b16 (ad 2) x3 (fun (V20 : w_V) => (∃ b22 : Nat, P t 9 = some b22 ∧ T b22 = 4 ∧ (wX3_sees ad T L V20 P b22 (ad 3) x4 (fun (V26 : w_V) => (∃ b28 : Nat, P t 9 = some b28 ∧ T b28 = 4 ∧ (wX3_sees ad T L V26 P b28 (ad 4) x5 (fun (V32 : w_V) => (∃ b34 : Nat, P t 8 = some b34 ∧ eT T b34 ∧ (∃ b37 : Nat, P t 9 = some b37 ∧ T b37 = 4 ∧ (w_by ad T L V32 P 620 b34 b37 (fun (r40 : Int32) => (if (r40 ≤ 0 : Prop) then (post 0 V32) else (post 1 V32)))))))))))))))))))))))
-- X6_isFeast
def jX6_isFeast_52 (ad : Nat → Nat) (T L : Nat → Nat) (V : w_V) (P : w_P) (t : Nat) (x1 : Int32) (x2 : Int32) (x3 : Int32) (post : Int32 → Prop) (kb : Int32 → Prop) : Prop :=
  (kb (x3 + 1))
def lX6_isFeast_2 (ad : Nat → Nat) (T L : Nat → Nat) (V : w_V) (P : w_P) (t : Nat) (x1 : Int32) (x2 : Int32) (post : Int32 → Prop) : Nat → Int32 → Prop
  | 0, _ => False
  | n + 1, x3 =>
  (if ((V t 0 6) ≤ x3 : Prop) then (post 0) else (∃ i1 : Nat, i1 < 12 ∧ (3 * x3) = nI i1 ∧ (if ((V t 3 i1) = x1 : Prop) then (∃ i4 : Nat, i4 < 12 ∧ ((3 * x3) + 1) = nI i4 ∧ (if (x2 < (V t 3 i4) : Prop) then (jX6_isFeast_52 ad T L V P t x1 x2 x3 post (lX6_isFeast_2 ad T L V P t x1 x2 post n)) else (∃ i7 : Nat, i7 < 12 ∧ ((3 * x3) + 2) = nI i7 ∧ (if ((V t 3 i7) < x2 : Prop) then (jX6_isFeast_52 ad T L V P t x1 x2 x3 post (lX6_isFeast_2 ad T L V P t x1 x2 post n)) else (post 1))))) else (jX6_isFeast_52 ad T L V P t x1 x2 x3 post (lX6_isFeast_2 ad T L V P t x1 x2 post n)))))
def wX6_isFeast (ad : Nat → Nat) (T L : Nat → Nat) (V : w_V) (P : w_P) (t : Nat) (x1 : Int32) (x2 : Int32) (post : Int32 → Prop) : Prop :=
  (∃ n10, lX6_isFeast_2 ad T L V P t x1 x2 post n10 0)
-- X7_at
def lX7_at_2 (ad : Nat → Nat) (T L : Nat → Nat) (V : w_V) (P : w_P) (t : Nat) (x1 : Int32) (x2 : Int32) (post : Int32 → Prop) (ke_26 : Int32 → Prop) : Nat → Int32 → Prop
  | 0, _ => False
  | n + 1, x3 =>
  (wX7_towns ad T L V P t x1 (fun (r1 : Int32) => (if (r1 ≤ x3 : Prop) then (post (-1)) else (∃ i4 : Nat, i4 < 35 ∧ ((7 * x1) + x3) = nI i4 ∧ (if ((V t 4 i4) = x2 : Prop) then (ke_26 x3) else ((lX7_at_2 ad T L V P t x1 x2 post ke_26 n) (x3 + 1)))))))
def wX7_at (ad : Nat → Nat) (T L : Nat → Nat) (V : w_V) (P : w_P) (t : Nat) (x1 : Int32) (x2 : Int32) (post : Int32 → Prop) : Prop :=
  (∃ n11, lX7_at_2 ad T L V P t x1 x2 post (fun (y7 : Int32) => (∃ i8 : Nat, i8 < 35 ∧ ((7 * x1) + y7) = nI i8 ∧ (post (V t 3 i8)))) n11 0)
-- X7_saidAhead
def jX7_saidAhead_47 (ad : Nat → Nat) (T L : Nat → Nat) (V : w_V) (P : w_P) (t : Nat) (x1 : Int32) (x2 : Int32) (x3 : Int32) (x4 : Int32) (post : Int32 → Prop) (kb : Int32 → Int32 → Prop) : Prop :=
  (kb x3 (x4 + 1))
def lX7_saidAhead_5 (ad : Nat → Nat) (T L : Nat → Nat) (V : w_V) (P : w_P) (t : Nat) (x1 : Int32) (x2 : Int32) (post : Int32 → Prop) : Nat → Int32 → Int32 → Prop
  | 0, _, _ => False
  | n + 1, x3, x4 =>
  (wX7_judges ad T L V P t (fun (r1 : Int32) => (if (r1 ≤ x4 : Prop) then (post x3) else (∃ i4 : Nat, i4 < 30 ∧ ((5 * x1) + x4) = nI i4 ∧ (if ((V t 5 i4) = (-1) : Prop) then (jX7_saidAhead_47 ad T L V P t x1 x2 x3 x4 post (lX7_saidAhead_5 ad T L V P t x1 x2 post n)) else (∃ i7 : Nat, i7 < 30 ∧ ((5 * x1) + x4) = nI i7 ∧ (if (x2 ≤ (V t 6 i7) : Prop) then (jX7_saidAhead_47 ad T L V P t x1 x2 x3 x4 post (lX7_saidAhead_5 ad T L V P t x1 x2 post n)) else (jX7_saidAhead_47 ad T L V P t x1 x2 (x3 + 1) x4 post (lX7_saidAhead_5 ad T L V P t x1 x2 post n)))))))))
def wX7_saidAhead (ad : Nat → Nat) (T L : Nat → Nat) (V : w_V) (P : w_P) (t : Nat) (x1 : Int32) (x2 : Int32) (post : Int32 → Prop) : Prop :=
  (∃ n10, lX7_saidAhead_5 ad T L V P t x1 x2 post n10 0 0)
-- X7_hears
def jX7_hears_156 (ad : Nat → Nat) (T L : Nat → Nat) (V : w_V) (P : w_P) (t : Nat) (x1 : Int32) (x2 : Int32) (x3 : Int32) (x4 : Int32) (post : w_V → Prop) (kb : Int32 → w_V → Prop) : Prop :=
  (kb (x4 + 1) V)
def jX7_hears_139 (ad : Nat → Nat) (T L : Nat → Nat) (V : w_V) (P : w_P) (t : Nat) (x1 : Int32) (x2 : Int32) (x3 : Int32) (x4 : Int32) (x6 : Int32) (t0 : Int32) (t1 : Int32) (post : w_V → Prop) (kb : Int32 → w_V → Prop) : Prop :=
  (∃ i55 : Nat, i55 < 30 ∧ t1 = nI i55 ∧ (∀ V58 : w_V, V58 = (up3 V t 5 i55 t0) → (∃ i59 : Nat, i59 < 30 ∧ x6 = nI i59 ∧ (∀ V62 : w_V, V62 = (up3 V58 t 6 i59 x2) → (∃ i63 : Nat, i63 < 30 ∧ x6 = nI i63 ∧ (∀ V66 : w_V, V66 = (up3 V62 t 7 i63 x3) → (jX7_hears_156 ad T L V66 P t x1 x2 x3 x4 post kb)))))))
def lX7_hears_28 (ad : Nat → Nat) (T L : Nat → Nat) (P : w_P) (t : Nat) (x1 : Int32) (x2 : Int32) (x3 : Int32) (post : w_V → Prop) : Nat → Int32 → w_V → Prop
  | 0, _, _ => False
  | n + 1, x4, V =>
  (wX7_cases ad T L V P t (fun (r10 : Int32) => (if (r10 ≤ x4 : Prop) then (post V) else (∃ b13 : Nat, P t 0 = some b13 ∧ T b13 = 3 ∧ (∃ b16 : Nat, P b13 7 = some b16 ∧ T b16 = 16 ∧ (wJ2_get ad T L V P b16 x4 (fun (r19 : Nat) => (∃ a22 k23 n24 : Nat, hArr T L r19 a22 k23 n24 0 ∧ n24 < 2147483648 ∧ (∃ i27 : Nat, i27 < n24 ∧ x3 = nI i27 ∧ (if ((V a22 k23 i27) = (-1) : Prop) then (jX7_hears_156 ad T L V P t x1 x2 x3 x4 post (lX7_hears_28 ad T L P t x1 x2 x3 post n)) else (∃ i30 : Nat, i30 < 30 ∧ ((5 * x4) + x1) = nI i30 ∧ (if ((V t 5 i30) = (-1) : Prop) then (∃ b33 : Nat, P t 0 = some b33 ∧ T b33 = 3 ∧ (∃ b36 : Nat, P b33 6 = some b36 ∧ T b36 = 16 ∧ (wJ2_get ad T L V P b36 x1 (fun (r39 : Nat) => (jT T r39 ∧ (∃ b43 : Nat, P t 0 = some b43 ∧ T b43 = 3 ∧ (wX7_saidAhead ad T L V P t x4 x2 (fun (r46 : Int32) => (wX2_byLaw ad T L V P b43 r39 (V a22 k23 i27) x2 x3 r46 (fun (r49 : Int32) (V50 : w_V) => ((T r39 = 13 → (wX16_says ad T L V50 P r39 r49 (fun (r52 : Int32) => (if (r52 = 0 : Prop) then (jX7_hears_139 ad T L V50 P t x1 x2 x3 x4 ((5 * x4) + x1) 0 ((5 * x4) + x1) post (lX7_hears_28 ad T L P t x1 x2 x3 post n)) else (jX7_hears_139 ad T L V50 P t x1 x2 x3 x4 ((5 * x4) + x1) 1 ((5 * x4) + x1) post (lX7_hears_28 ad T L P t x1 x2 x3 post n)))))) ∧ (T r39 = 14 → (wX16_says ad T L V50 P r39 r49 (fun (r52 : Int32) => (if (r52 = 0 : Prop) then (jX7_hears_139 ad T L V50 P t x1 x2 x3 x4 ((5 * x4) + x1) 0 ((5 * x4) + x1) post (lX7_hears_28 ad T L P t x1 x2 x3 post n)) else (jX7_hears_139 ad T L V50 P t x1 x2 x3 x4 ((5 * x4) + x1) 1 ((5 * x4) + x1) post (lX7_hears_28 ad T L P t x1 x2 x3 post n)))))) ∧ (T r39 = 15 → (wX18_says ad T L V50 P r39 r49 (fun (r52 : Int32) => (if (r52 = 0 : Prop) then (jX7_hears_139 ad T L V50 P t x1 x2 x3 x4 ((5 * x4) + x1) 0 ((5 * x4) + x1) post (lX7_hears_28 ad T L P t x1 x2 x3 post n)) else (jX7_hears_139 ad T L V50 P t x1 x2 x3 x4 ((5 * x4) + x1) 1 ((5 * x4) + x1) post (lX7_hears_28 ad T L P t x1 x2 x3 post n))))))))))))))))) else (jX7_hears_156 ad T L V P t x1 x2 x3 x4 post (lX7_hears_28 ad T L P t x1 x2 x3 post n))))))))))))))
def wX7_hears (ad : Nat → Nat) (T L : Nat → Nat) (V : w_V) (P : w_P) (t : Nat) (x1 : Int32) (x2 : Int32) (post : w_V → Prop) : Prop :=
  (wX7_at ad T L V P t x1 x2 (fun (r1 : Int32) => (if (r1 = (-1) : Prop) then (post V) else (∃ b4 : Nat, P t 1 = some b4 ∧ T b4 = 6 ∧ (wX6_isFeast ad T L V P b4 r1 x2 (fun (r7 : Int32) => (if (r7 = 0 : Prop) then (∃ n67, lX7_hears_28 ad T L P t x1 x2 r1 post n67 0 V) else (post V))))))))
-- X16_hears
def wX16_hears (ad : Nat → Nat) (T L : Nat → Nat) (V : w_V) (P : w_P) (t : Nat) (post : Int32 → Prop) : Prop :=
  (post 1)
-- X17_hears
def wX17_hears (ad : Nat → Nat) (T L : Nat → Nat) (V : w_V) (P : w_P) (t : Nat) (post : Int32 → Prop) : Prop :=
  (wX16_hears ad T L V P t (fun (r1 : Int32) => (if (r1 = 0 : Prop) then (post 1) else (post 0))))
-- X7_hears_2
def jX7_hears_2_37 (ad : Nat → Nat) (T L : Nat → Nat) (V : w_V) (P : w_P) (t : Nat) (t0 : Int32) (t1 : Int32) (post : Int32 → Prop) : Prop :=
  (if (t1 = t0 : Prop) then (post 0) else (post 1))
def wX7_hears_2 (ad : Nat → Nat) (T L : Nat → Nat) (V : w_V) (P : w_P) (t : Nat) (x1 : Int32) (post : Int32 → Prop) : Prop :=
  (∃ b1 : Nat, P t 0 = some b1 ∧ T b1 = 3 ∧ (∃ b4 : Nat, P b1 6 = some b4 ∧ T b4 = 16 ∧ (wJ2_get ad T L V P b4 x1 (fun (r7 : Nat) => (jT T r7 ∧ ((T r7 = 13 → (wX16_hears ad T L V P r7 (fun (r11 : Int32) => (∃ b14 : Nat, P t 1 = some b14 ∧ T b14 = 6 ∧ (if (((((V b14 0 9) : Int32) >>> ((x1 : Int32) &&& 31)) &&& 1) = 1 : Prop) then (jX7_hears_2_37 ad T L V P t 1 r11 post) else (jX7_hears_2_37 ad T L V P t 0 r11 post)))))) ∧ (T r7 = 14 → (wX17_hears ad T L V P r7 (fun (r11 : Int32) => (∃ b14 : Nat, P t 1 = some b14 ∧ T b14 = 6 ∧ (if (((((V b14 0 9) : Int32) >>> ((x1 : Int32) &&& 31)) &&& 1) = 1 : Prop) then (jX7_hears_2_37 ad T L V P t 1 r11 post) else (jX7_hears_2_37 ad T L V P t 0 r11 post)))))) ∧ (T r7 = 15 → (wX16_hears ad T L V P r7 (fun (r11 : Int32) => (∃ b14 : Nat, P t 1 = some b14 ∧ T b14 = 6 ∧ (if (((((V b14 0 9) : Int32) >>> ((x1 : Int32) &&& 31)) &&& 1) = 1 : Prop) then (jX7_hears_2_37 ad T L V P t 1 r11 post) else (jX7_hears_2_37 ad T L V P t 0 r11 post))))))))))))
-- X2_far
def wX2_far (ad : Nat → Nat) (T L : Nat → Nat) (V : w_V) (P : w_P) (t : Nat) (x1 : Int32) (x2 : Int32) (post : Int32 → Prop) : Prop :=
  (∃ i1 : Nat, i1 < 81 ∧ ((9 * x1) + x2) = nI i1 ∧ (post (V t 6 i1)))
-- X2_news
def wX2_news (ad : Nat → Nat) (T L : Nat → Nat) (V : w_V) (P : w_P) (t : Nat) (x1 : Int32) (x2 : Int32) (post : Int32 → Prop) : Prop :=
  (wX2_far ad T L V P t x1 x2 (fun (r1 : Int32) => (if (r1 < 9999 : Prop) then (wX2_far ad T L V P t x1 x2 (fun (r4 : Int32) => (post (((r4 * (V t 0 2)) + 9) / 10)))) else (post 9999))))
-- X7_isReached
def jX7_isReached_63 (ad : Nat → Nat) (T L : Nat → Nat) (V : w_V) (P : w_P) (t : Nat) (x1 : Int32) (x2 : Int32) (x3 : Int32) (x4 : Int32) (x5 : Int32) (post : Int32 → Prop) (kb : Int32 → Prop) : Prop :=
  (kb (x5 + 1))
def lX7_isReached_3 (ad : Nat → Nat) (T L : Nat → Nat) (V : w_V) (P : w_P) (t : Nat) (x1 : Int32) (x2 : Int32) (x3 : Int32) (x4 : Int32) (post : Int32 → Prop) : Nat → Int32 → Prop
  | 0, _ => False
  | n + 1, x5 =>
  (wX7_towns ad T L V P t x1 (fun (r1 : Int32) => (if (r1 ≤ x5 : Prop) then (post 0) else (∃ i4 : Nat, i4 < 35 ∧ ((7 * x1) + x5) = nI i4 ∧ (if (x2 < (V t 4 i4) : Prop) then (jX7_isReached_63 ad T L V P t x1 x2 x3 x4 x5 post (lX7_isReached_3 ad T L V P t x1 x2 x3 x4 post n)) else (∃ b7 : Nat, P t 0 = some b7 ∧ T b7 = 3 ∧ (∃ i10 : Nat, i10 < 35 ∧ ((7 * x1) + x5) = nI i10 ∧ (wX2_news ad T L V P b7 x3 (V t 3 i10) (fun (r13 : Int32) => (if ((V t 4 i4) < (x4 + r13) : Prop) then (jX7_isReached_63 ad T L V P t x1 x2 x3 x4 x5 post (lX7_isReached_3 ad T L V P t x1 x2 x3 x4 post n)) else (post 1)))))))))))
def wX7_isReached (ad : Nat → Nat) (T L : Nat → Nat) (V : w_V) (P : w_P) (t : Nat) (x1 : Int32) (x2 : Int32) (x3 : Int32) (x4 : Int32) (post : Int32 → Prop) : Prop :=
  (∃ n16, lX7_isReached_3 ad T L V P t x1 x2 x3 x4 post n16 0)
-- X7_isVoided
def jX7_isVoided_122 (ad : Nat → Nat) (T L : Nat → Nat) (V : w_V) (P : w_P) (t : Nat) (x1 : Int32) (x2 : Int32) (x3 : Int32) (x4 : Int32) (post : Int32 → Prop) (kb : Int32 → Prop) : Prop :=
  (kb (x4 + 1))
def lX7_isVoided_52 (ad : Nat → Nat) (T L : Nat → Nat) (V : w_V) (P : w_P) (t : Nat) (x1 : Int32) (x2 : Int32) (x3 : Int32) (post : Int32 → Prop) (ke_128 : Prop) : Nat → Int32 → Prop
  | 0, _ => False
  | n + 1, x4 =>
  (wX7_judges ad T L V P t (fun (r10 : Int32) => (if (r10 ≤ x4 : Prop) then ke_128 else (if (x4 = x2 : Prop) then (jX7_isVoided_122 ad T L V P t x1 x2 x3 x4 post (lX7_isVoided_52 ad T L V P t x1 x2 x3 post ke_128 n)) else (∃ i13 : Nat, i13 < 30 ∧ ((5 * x1) + x4) = nI i13 ∧ (if ((V t 5 i13) = (-1) : Prop) then (jX7_isVoided_122 ad T L V P t x1 x2 x3 x4 post (lX7_isVoided_52 ad T L V P t x1 x2 x3 post ke_128 n)) else (∃ i16 : Nat, i16 < 30 ∧ ((5 * x1) + x4) = nI i16 ∧ (if (x3 ≤ (V t 6 i16) : Prop) then (jX7_isVoided_122 ad T L V P t x1 x2 x3 x4 post (lX7_isVoided_52 ad T L V P t x1 x2 x3 post ke_128 n)) else (∃ i19 : Nat, i19 < 30 ∧ ((5 * x1) + x4) = nI i19 ∧ (∃ i22 : Nat, i22 < 30 ∧ ((5 * x1) + x4) = nI i22 ∧ (wX7_isReached ad T L V P t x2 x3 (V t 7 i19) (V t 6 i22) (fun (r25 : Int32) => (if (r25 = 0 : Prop) then (jX7_isVoided_122 ad T L V P t x1 x2 x3 x4 post (lX7_isVoided_52 ad T L V P t x1 x2 x3 post ke_128 n)) else (post 1))))))))))))))
def jX7_isVoided_198 (ad : Nat → Nat) (T L : Nat → Nat) (V : w_V) (P : w_P) (t : Nat) (x1 : Int32) (x2 : Int32) (x3 : Int32) (x4 : Int32) (post : Int32 → Prop) (kb : Int32 → Prop) : Prop :=
  (kb (x4 + 1))
def lX7_isVoided_131 (ad : Nat → Nat) (T L : Nat → Nat) (V : w_V) (P : w_P) (t : Nat) (x1 : Int32) (x2 : Int32) (x3 : Int32) (post : Int32 → Prop) : Nat → Int32 → Prop
  | 0, _ => False
  | n + 1, x4 =>
  (∃ b28 : Nat, P t 1 = some b28 ∧ T b28 = 6 ∧ (if ((V b28 0 5) ≤ x4 : Prop) then (post 0) else (∃ b31 : Nat, P t 1 = some b31 ∧ T b31 = 6 ∧ (∃ i34 : Nat, i34 < 15 ∧ (3 * x4) = nI i34 ∧ (if ((V b31 2 i34) = x1 : Prop) then (∃ b37 : Nat, P t 1 = some b37 ∧ T b37 = 6 ∧ (∃ i40 : Nat, i40 < 15 ∧ ((3 * x4) + 1) = nI i40 ∧ (∃ b43 : Nat, P t 1 = some b43 ∧ T b43 = 6 ∧ (∃ i46 : Nat, i46 < 15 ∧ ((3 * x4) + 2) = nI i46 ∧ (wX7_isReached ad T L V P t x2 x3 (V b37 2 i40) (V b43 2 i46) (fun (r49 : Int32) => (if (r49 = 0 : Prop) then (jX7_isVoided_198 ad T L V P t x1 x2 x3 x4 post (lX7_isVoided_131 ad T L V P t x1 x2 x3 post n)) else (post 1)))))))) else (jX7_isVoided_198 ad T L V P t x1 x2 x3 x4 post (lX7_isVoided_131 ad T L V P t x1 x2 x3 post n)))))))
def jX7_isVoided_38 (ad : Nat → Nat) (T L : Nat → Nat) (V : w_V) (P : w_P) (t : Nat) (x1 : Int32) (x2 : Int32) (post : Int32 → Prop) : Prop :=
  (∃ i7 : Nat, i7 < 30 ∧ ((5 * x1) + x2) = nI i7 ∧ (∃ n53, lX7_isVoided_52 ad T L V P t x1 x2 (V t 6 i7) post ((∃ n52, lX7_isVoided_131 ad T L V P t x1 x2 (V t 6 i7) post n52 0)) n53 0))
def wX7_isVoided (ad : Nat → Nat) (T L : Nat → Nat) (V : w_V) (P : w_P) (t : Nat) (x1 : Int32) (x2 : Int32) (post : Int32 → Prop) : Prop :=
  (wX7_hears_2 ad T L V P t x2 (fun (r1 : Int32) => (if (r1 = 0 : Prop) then (post 0) else (∃ b4 : Nat, P t 1 = some b4 ∧ T b4 = 6 ∧ (if ((V b4 0 11) = x1 : Prop) then (∃ b54 : Nat, P t 1 = some b54 ∧ T b54 = 6 ∧ (if (((((V b54 0 10) : Int32) >>> ((x2 : Int32) &&& 31)) &&& 1) = 1 : Prop) then (post 1) else (jX7_isVoided_38 ad T L V P t x1 x2 post))) else (jX7_isVoided_38 ad T L V P t x1 x2 post))))))
-- X7_isFlooded
def jX7_isFlooded_103 (ad : Nat → Nat) (T L : Nat → Nat) (V : w_V) (P : w_P) (t : Nat) (x1 : Int32) (x2 : Int32) (x3 : Int32) (x4 : Int32) (post : Int32 → Prop) (kb : Int32 → Prop) : Prop :=
  (kb (x4 + 1))
def lX7_isFlooded_3 (ad : Nat → Nat) (T L : Nat → Nat) (V : w_V) (P : w_P) (t : Nat) (x1 : Int32) (x2 : Int32) (x3 : Int32) (post : Int32 → Prop) : Nat → Int32 → Prop
  | 0, _ => False
  | n + 1, x4 =>
  (∃ b1 : Nat, P t 1 = some b1 ∧ T b1 = 6 ∧ (if ((V b1 0 7) ≤ x4 : Prop) then (post 0) else (∃ b4 : Nat, P t 1 = some b4 ∧ T b4 = 6 ∧ (∃ i7 : Nat, i7 < 18 ∧ (3 * x4) = nI i7 ∧ (∃ b10 : Nat, P t 1 = some b10 ∧ T b10 = 6 ∧ (∃ i13 : Nat, i13 < 18 ∧ ((3 * x4) + 1) = nI i13 ∧ (if ((V b10 4 i13) = x3 : Prop) then (∃ b16 : Nat, P t 0 = some b16 ∧ T b16 = 3 ∧ (wX2_far ad T L V P b16 x1 (V b4 4 i7) (fun (r19 : Int32) => (∃ b22 : Nat, P t 1 = some b22 ∧ T b22 = 6 ∧ (∃ i25 : Nat, i25 < 18 ∧ ((3 * x4) + 2) = nI i25 ∧ (if ((V b22 4 i25) < r19 : Prop) then (jX7_isFlooded_103 ad T L V P t x1 x2 x3 x4 post (lX7_isFlooded_3 ad T L V P t x1 x2 x3 post n)) else (∃ b28 : Nat, P t 0 = some b28 ∧ T b28 = 3 ∧ (wX2_far ad T L V P b28 x2 (V b4 4 i7) (fun (r31 : Int32) => (∃ b34 : Nat, P t 1 = some b34 ∧ T b34 = 6 ∧ (∃ i37 : Nat, i37 < 18 ∧ ((3 * x4) + 2) = nI i37 ∧ (if ((V b34 4 i37) < r31 : Prop) then (jX7_isFlooded_103 ad T L V P t x1 x2 x3 x4 post (lX7_isFlooded_3 ad T L V P t x1 x2 x3 post n)) else (post 1))))))))))))) else (jX7_isFlooded_103 ad T L V P t x1 x2 x3 x4 post (lX7_isFlooded_3 ad T L V P t x1 x2 x3 post n)))))))))
def wX7_isFlooded (ad : Nat → Nat) (T L : Nat → Nat) (V : w_V) (P : w_P) (t : Nat) (x1 : Int32) (x2 : Int32) (x3 : Int32) (post : Int32 → Prop) : Prop :=
  (∃ n40, lX7_isFlooded_3 ad T L V P t x1 x2 x3 post n40 0)
-- X7_meets
def jX7_meets_94 (ad : Nat → Nat) (T L : Nat → Nat) (V : w_V) (P : w_P) (t : Nat) (x1 : Int32) (x2 : Int32) (x3 : Int32) (post : Int32 → Prop) (kb : Int32 → Prop) : Prop :=
  (kb (x3 + 1))
def jX7_meets_78 (ad : Nat → Nat) (T L : Nat → Nat) (V : w_V) (P : w_P) (t : Nat) (x1 : Int32) (x2 : Int32) (x3 : Int32) (x4 : Int32) (x5 : Int32) (x6 : Int32) (post : Int32 → Prop) (kb : Int32 → Prop) : Prop :=
  (wX7_isFlooded ad T L V P t x5 x6 x4 (fun (r13 : Int32) => (if (r13 = 0 : Prop) then (jX7_meets_94 ad T L V P t x1 x2 x3 post kb) else (post x4))))
def lX7_meets_2 (ad : Nat → Nat) (T L : Nat → Nat) (V : w_V) (P : w_P) (t : Nat) (x1 : Int32) (x2 : Int32) (post : Int32 → Prop) : Nat → Int32 → Prop
  | 0, _ => False
  | n + 1, x3 =>
  (wX7_towns ad T L V P t x1 (fun (r1 : Int32) => (if (r1 ≤ x3 : Prop) then (post 9999) else (∃ i4 : Nat, i4 < 35 ∧ ((7 * x1) + x3) = nI i4 ∧ (∃ i7 : Nat, i7 < 35 ∧ ((7 * x1) + x3) = nI i7 ∧ (wX7_at ad T L V P t x2 (V t 4 i4) (fun (r10 : Int32) => (if (r10 = (-1) : Prop) then (jX7_meets_94 ad T L V P t x1 x2 x3 post (lX7_meets_2 ad T L V P t x1 x2 post n)) else (if ((V t 3 i7) = r10 : Prop) then (∃ b16 : Nat, P t 1 = some b16 ∧ T b16 = 6 ∧ (if (((((V b16 0 4) : Int32) >>> (((V t 3 i7) : Int32) &&& 31)) &&& 1) = 1 : Prop) then (post (V t 4 i4)) else (jX7_meets_78 ad T L V P t x1 x2 x3 (V t 4 i4) (V t 3 i7) r10 post (lX7_meets_2 ad T L V P t x1 x2 post n)))) else (jX7_meets_78 ad T L V P t x1 x2 x3 (V t 4 i4) (V t 3 i7) r10 post (lX7_meets_2 ad T L V P t x1 x2 post n)))))))))))
def wX7_meets (ad : Nat → Nat) (T L : Nat → Nat) (V : w_V) (P : w_P) (t : Nat) (x1 : Int32) (x2 : Int32) (post : Int32 → Prop) : Prop :=
  (∃ n19, lX7_meets_2 ad T L V P t x1 x2 post n19 0)
-- X7_areApart
def wX7_areApart (ad : Nat → Nat) (T L : Nat → Nat) (V : w_V) (P : w_P) (t : Nat) (x1 : Int32) (x2 : Int32) (x3 : Int32) (x4 : Int32) (post : Int32 → Prop) : Prop :=
  (∃ i1 : Nat, i1 < 30 ∧ ((5 * x1) + x2) = nI i1 ∧ (∃ i4 : Nat, i4 < 30 ∧ ((5 * x1) + x3) = nI i4 ∧ (if ((V t 7 i1) = (V t 7 i4) : Prop) then (post 0) else (∃ i7 : Nat, i7 < 25 ∧ ((5 * x2) + x3) = nI i7 ∧ (if ((V t 8 i7) ≤ x4 : Prop) then (post 0) else (post 1))))))
-- X7_isOne
def wX7_isOne (ad : Nat → Nat) (T L : Nat → Nat) (V : w_V) (P : w_P) (t : Nat) (x1 : Int32) (x2 : Int32) (x3 : Int32) (post : Int32 → Prop) : Prop :=
  (∃ i1 : Nat, i1 < 30 ∧ ((5 * x1) + x2) = nI i1 ∧ (if ((V t 5 i1) = 1 : Prop) then (∃ i4 : Nat, i4 < 30 ∧ ((5 * x1) + x2) = nI i4 ∧ (if ((V t 11 i4) = 0 : Prop) then (∃ i7 : Nat, i7 < 30 ∧ ((5 * x1) + x2) = nI i7 ∧ (if (x3 < (V t 6 i7) : Prop) then (post 0) else (post 1))) else (post 0))) else (post 0)))
-- X7_three
def jX7_three_131 (ad : Nat → Nat) (T L : Nat → Nat) (V : w_V) (P : w_P) (t : Nat) (x1 : Int32) (x2 : Int32) (x3 : Int32) (x4 : Int32) (post : Int32 → Prop) (kb : Int32 → Prop) : Prop :=
  (kb (x4 + 1))
def jX7_three_125 (ad : Nat → Nat) (T L : Nat → Nat) (V : w_V) (P : w_P) (t : Nat) (x1 : Int32) (x2 : Int32) (x3 : Int32) (x4 : Int32) (x5 : Int32) (post : Int32 → Prop) (kb : Int32 → Prop) : Prop :=
  (kb (x5 + 1))
def lX7_three_66 (ad : Nat → Nat) (T L : Nat → Nat) (V : w_V) (P : w_P) (t : Nat) (x1 : Int32) (x2 : Int32) (x3 : Int32) (x4 : Int32) (post : Int32 → Prop) (ke_111 : Int32 → Prop) (ke_131 : Prop) : Nat → Int32 → Prop
  | 0, _ => False
  | n + 1, x5 =>
  (wX7_judges ad T L V P t (fun (r16 : Int32) => (if (r16 ≤ x5 : Prop) then ke_131 else (wX7_isOne ad T L V P t x1 x5 x2 (fun (r19 : Int32) => (if (r19 = 0 : Prop) then (jX7_three_125 ad T L V P t x1 x2 x3 x4 x5 post (lX7_three_66 ad T L V P t x1 x2 x3 x4 post ke_111 ke_131 n)) else (wX7_areApart ad T L V P t x1 x3 x5 x2 (fun (r22 : Int32) => (if (r22 = 0 : Prop) then (jX7_three_125 ad T L V P t x1 x2 x3 x4 x5 post (lX7_three_66 ad T L V P t x1 x2 x3 x4 post ke_111 ke_131 n)) else (wX7_areApart ad T L V P t x1 x4 x5 x2 (fun (r25 : Int32) => (if (r25 = 0 : Prop) then (jX7_three_125 ad T L V P t x1 x2 x3 x4 x5 post (lX7_three_66 ad T L V P t x1 x2 x3 x4 post ke_111 ke_131 n)) else (ke_111 x5)))))))))))))
def lX7_three_15 (ad : Nat → Nat) (T L : Nat → Nat) (V : w_V) (P : w_P) (t : Nat) (x1 : Int32) (x2 : Int32) (x3 : Int32) (post : Int32 → Prop) (ke_111 : Int32 → Int32 → Prop) (ke_137 : Prop) : Nat → Int32 → Prop
  | 0, _ => False
  | n + 1, x4 =>
  (wX7_judges ad T L V P t (fun (r4 : Int32) => (if (r4 ≤ x4 : Prop) then ke_137 else (wX7_isOne ad T L V P t x1 x3 x2 (fun (r7 : Int32) => (if (r7 = 0 : Prop) then (jX7_three_131 ad T L V P t x1 x2 x3 x4 post (lX7_three_15 ad T L V P t x1 x2 x3 post ke_111 ke_137 n)) else (wX7_isOne ad T L V P t x1 x4 x2 (fun (r10 : Int32) => (if (r10 = 0 : Prop) then (jX7_three_131 ad T L V P t x1 x2 x3 x4 post (lX7_three_15 ad T L V P t x1 x2 x3 post ke_111 ke_137 n)) else (wX7_areApart ad T L V P t x1 x3 x4 x2 (fun (r13 : Int32) => (if (r13 = 0 : Prop) then (jX7_three_131 ad T L V P t x1 x2 x3 x4 post (lX7_three_15 ad T L V P t x1 x2 x3 post ke_111 ke_137 n)) else (∃ n29, lX7_three_66 ad T L V P t x1 x2 x3 x4 post (fun (y28 : Int32) => (ke_111 x4 y28)) ((jX7_three_131 ad T L V P t x1 x2 x3 x4 post (lX7_three_15 ad T L V P t x1 x2 x3 post ke_111 ke_137 n))) n29 (x4 + 1))))))))))))))
def lX7_three_2 (ad : Nat → Nat) (T L : Nat → Nat) (V : w_V) (P : w_P) (t : Nat) (x1 : Int32) (x2 : Int32) (post : Int32 → Prop) (ke_111 : Int32 → Int32 → Int32 → Prop) : Nat → Int32 → Prop
  | 0, _ => False
  | n + 1, x3 =>
  (wX7_judges ad T L V P t (fun (r1 : Int32) => (if (r1 ≤ x3 : Prop) then (post 0) else (∃ n32, lX7_three_15 ad T L V P t x1 x2 x3 post (fun (y30 : Int32) (y31 : Int32) => (ke_111 x3 y30 y31)) (((lX7_three_2 ad T L V P t x1 x2 post ke_111 n) (x3 + 1))) n32 (x3 + 1)))))
def wX7_three (ad : Nat → Nat) (T L : Nat → Nat) (V : w_V) (P : w_P) (t : Nat) (x1 : Int32) (x2 : Int32) (post : Int32 → Prop) : Prop :=
  (∃ n36, lX7_three_2 ad T L V P t x1 x2 post (fun (y33 : Int32) (y34 : Int32) (y35 : Int32) => (post ((((1 : Int32) <<< ((y33 : Int32) &&& 31)) ||| ((1 : Int32) <<< ((y34 : Int32) &&& 31))) ||| ((1 : Int32) <<< ((y35 : Int32) &&& 31))))) n36 0)
-- X7_all
def lX7_all_6 (ad : Nat → Nat) (T L : Nat → Nat) (P : w_P) (t : Nat) (post : Int32 → w_V → Prop) (ke_46 : w_V → Prop) : Nat → Int32 → w_V → Prop
  | 0, _, _ => False
  | n + 1, x1, V =>
  (if (30 ≤ x1 : Prop) then (ke_46 V) else (∃ i4 : Nat, i4 < 30 ∧ x1 = nI i4 ∧ (∀ V7 : w_V, V7 = (up3 V t 5 i4 (-1)) → (∃ i8 : Nat, i8 < 30 ∧ x1 = nI i8 ∧ (∀ V11 : w_V, V11 = (up3 V7 t 6 i8 (-1)) → (∃ i12 : Nat, i12 < 30 ∧ x1 = nI i12 ∧ (∀ V15 : w_V, V15 = (up3 V11 t 7 i12 (-1)) → (∃ i16 : Nat, i16 < 30 ∧ x1 = nI i16 ∧ (∀ V19 : w_V, V19 = (up3 V15 t 11 i16 (vp_nar .boolean 0)) → ((lX7_all_6 ad T L P t post ke_46 n) (x1 + 1) V19))))))))))
def lX7_all_57 (ad : Nat → Nat) (T L : Nat → Nat) (P : w_P) (t : Nat) (x1 : Int32) (post : Int32 → w_V → Prop) (ke_77 : w_V → Prop) : Nat → Int32 → w_V → Prop
  | 0, _, _ => False
  | n + 1, x2, V =>
  (wX7_judges ad T L V P t (fun (r21 : Int32) => (if (r21 ≤ x2 : Prop) then (ke_77 V) else (wX7_hears ad T L V P t x2 x1 (fun (V25 : w_V) => ((lX7_all_57 ad T L P t x1 post ke_77 n) (x2 + 1) V25))))))
def lX7_all_48 (ad : Nat → Nat) (T L : Nat → Nat) (P : w_P) (t : Nat) (post : Int32 → w_V → Prop) (ke_83 : w_V → Prop) : Nat → Int32 → w_V → Prop
  | 0, _, _ => False
  | n + 1, x1, V =>
  (if (140 ≤ x1 : Prop) then (ke_83 V) else (∃ n28, lX7_all_57 ad T L P t x1 post (fun (V27 : w_V) => ((lX7_all_48 ad T L P t post ke_83 n) (x1 + 1) V27)) n28 0 V))
def jX7_all_129 (ad : Nat → Nat) (T L : Nat → Nat) (V : w_V) (P : w_P) (t : Nat) (x1 : Int32) (x2 : Int32) (t0 : Int32) (t1 : Int32) (post : Int32 → w_V → Prop) (kb : Int32 → w_V → Prop) : Prop :=
  (∃ i39 : Nat, i39 < 25 ∧ t1 = nI i39 ∧ (∀ V42 : w_V, V42 = (up3 V t 8 i39 t0) → (kb (x2 + 1) V42)))
def lX7_all_95 (ad : Nat → Nat) (T L : Nat → Nat) (P : w_P) (t : Nat) (x1 : Int32) (post : Int32 → w_V → Prop) (ke_136 : w_V → Prop) : Nat → Int32 → w_V → Prop
  | 0, _, _ => False
  | n + 1, x2, V =>
  (wX7_judges ad T L V P t (fun (r33 : Int32) => (if (r33 ≤ x2 : Prop) then (ke_136 V) else (if (x1 = x2 : Prop) then (jX7_all_129 ad T L V P t x1 x2 9999 ((5 * x1) + x2) post (lX7_all_95 ad T L P t x1 post ke_136 n)) else (wX7_meets ad T L V P t x1 x2 (fun (r36 : Int32) => (jX7_all_129 ad T L V P t x1 x2 r36 ((5 * x1) + x2) post (lX7_all_95 ad T L P t x1 post ke_136 n))))))))
def lX7_all_85 (ad : Nat → Nat) (T L : Nat → Nat) (P : w_P) (t : Nat) (post : Int32 → w_V → Prop) (ke_142 : w_V → Prop) : Nat → Int32 → w_V → Prop
  | 0, _, _ => False
  | n + 1, x1, V =>
  (wX7_judges ad T L V P t (fun (r30 : Int32) => (if (r30 ≤ x1 : Prop) then (ke_142 V) else (∃ n44, lX7_all_95 ad T L P t x1 post (fun (V43 : w_V) => ((lX7_all_85 ad T L P t post ke_142 n) (x1 + 1) V43)) n44 0 V))))
def jX7_all_194 (ad : Nat → Nat) (T L : Nat → Nat) (V : w_V) (P : w_P) (t : Nat) (x1 : Int32) (x2 : Int32) (x3 : Int32) (post : Int32 → w_V → Prop) (kb : Int32 → w_V → Prop) : Prop :=
  (kb (x3 + 1) V)
def lX7_all_156 (ad : Nat → Nat) (T L : Nat → Nat) (P : w_P) (t : Nat) (x1 : Int32) (x2 : Int32) (post : Int32 → w_V → Prop) (ke_200 : w_V → Prop) : Nat → Int32 → w_V → Prop
  | 0, _, _ => False
  | n + 1, x3, V =>
  (wX7_judges ad T L V P t (fun (r49 : Int32) => (if (r49 ≤ x3 : Prop) then (ke_200 V) else (∃ i52 : Nat, i52 < 30 ∧ ((5 * x2) + x3) = nI i52 ∧ (if ((V t 5 i52) = (-1) : Prop) then (jX7_all_194 ad T L V P t x1 x2 x3 post (lX7_all_156 ad T L P t x1 x2 post ke_200 n)) else (wX7_isVoided ad T L V P t x2 x3 (fun (r55 : Int32) => (∃ i58 : Nat, i58 < 30 ∧ ((5 * x2) + x3) = nI i58 ∧ (∀ V61 : w_V, V61 = (up3 V t 11 i58 (vp_nar .boolean r55)) → (jX7_all_194 ad T L V61 P t x1 x2 x3 post (lX7_all_156 ad T L P t x1 x2 post ke_200 n)))))))))))
def jX7_all_267 (ad : Nat → Nat) (T L : Nat → Nat) (V : w_V) (P : w_P) (t : Nat) (x1 : Int32) (x2 : Int32) (x3 : Int32) (post : Int32 → w_V → Prop) (kb : Int32 → Int32 → w_V → Prop) : Prop :=
  (kb x1 (x3 + 1) V)
def lX7_all_216 (ad : Nat → Nat) (T L : Nat → Nat) (P : w_P) (t : Nat) (x2 : Int32) (post : Int32 → w_V → Prop) (ke_273 : Int32 → w_V → Prop) : Nat → Int32 → Int32 → w_V → Prop
  | 0, _, _, _ => False
  | n + 1, x1, x3, V =>
  (if (140 ≤ x3 : Prop) then (ke_273 x1 V) else (∃ i71 : Nat, i71 < 6 ∧ x2 = nI i71 ∧ (if ((V t 9 i71) = (-1) : Prop) then (wX7_three ad T L V P t x2 x3 (fun (r74 : Int32) => (if (r74 = 0 : Prop) then (jX7_all_267 ad T L V P t x1 x2 x3 post (lX7_all_216 ad T L P t x2 post ke_273 n)) else (∃ i77 : Nat, i77 < 6 ∧ x2 = nI i77 ∧ (∀ V80 : w_V, V80 = (up3 V t 9 i77 x3) → (∃ i81 : Nat, i81 < 6 ∧ x2 = nI i81 ∧ (∀ V84 : w_V, V84 = (up3 V80 t 10 i81 r74) → (jX7_all_267 ad T L V84 P t (x1 + 1) x2 x3 post (lX7_all_216 ad T L P t x2 post ke_273 n))))))))) else (ke_273 x1 V))))
def jX7_all_273 (ad : Nat → Nat) (T L : Nat → Nat) (V : w_V) (P : w_P) (t : Nat) (x1 : Int32) (x2 : Int32) (post : Int32 → w_V → Prop) (kb : Int32 → Int32 → w_V → Prop) : Prop :=
  (kb x1 (x2 + 1) V)
def lX7_all_146 (ad : Nat → Nat) (T L : Nat → Nat) (P : w_P) (t : Nat) (post : Int32 → w_V → Prop) : Nat → Int32 → Int32 → w_V → Prop
  | 0, _, _, _ => False
  | n + 1, x1, x2, V =>
  (wX7_cases ad T L V P t (fun (r46 : Int32) => (if (r46 ≤ x2 : Prop) then (post x1 V) else (∃ n88, lX7_all_156 ad T L P t x1 x2 post (fun (V62 : w_V) => (∃ i63 : Nat, i63 < 6 ∧ x2 = nI i63 ∧ (∀ V66 : w_V, V66 = (up3 V62 t 9 i63 (-1)) → (∃ i67 : Nat, i67 < 6 ∧ x2 = nI i67 ∧ (∀ V70 : w_V, V70 = (up3 V66 t 10 i67 0) → (∃ n87, lX7_all_216 ad T L P t x2 post (fun (y85 : Int32) (V86 : w_V) => (jX7_all_273 ad T L V86 P t y85 x2 post (lX7_all_146 ad T L P t post n))) n87 x1 0 V70)))))) n88 0 V))))
def wX7_all (ad : Nat → Nat) (T L : Nat → Nat) (V : w_V) (P : w_P) (t : Nat) (post : Int32 → w_V → Prop) : Prop :=
  (wX7_goes ad T L V P t (fun (V2 : w_V) => (∃ n92, lX7_all_6 ad T L P t post (fun (V20 : w_V) => (∃ n91, lX7_all_48 ad T L P t post (fun (V29 : w_V) => (∃ n90, lX7_all_85 ad T L P t post (fun (V45 : w_V) => (∃ n89, lX7_all_146 ad T L P t post n89 0 0 V45)) n90 0 V29)) n91 0 V20)) n92 0 V2)))
-- X1_tries
def wX1_tries (ad : Nat → Nat) (T L : Nat → Nat) (V : w_V) (P : w_P) (t : Nat) (post : Int32 → w_V → Prop) : Prop :=
  (∃ b1 : Nat, P t 4 = some b1 ∧ T b1 = 6 ∧ (∃ b4 : Nat, P t 3 = some b4 ∧ T b4 = 6 ∧ (wX6_like ad T L V P b1 b4 (fun (V8 : w_V) => (∃ b10 : Nat, P t 5 = some b10 ∧ T b10 = 7 ∧ (wX7_all ad T L V8 P b10 (fun (r13 : Int32) (V14 : w_V) => (post r13 V14))))))))
-- X1_within
def wX1_within (ad : Nat → Nat) (T L : Nat → Nat) (V : w_V) (P : w_P) (x0 : Int32) (x1 : Int32) (x2 : Int32) (post : Int32 → Prop) : Prop :=
  (if (x0 < x1 : Prop) then (post 0) else (if (x2 < x0 : Prop) then (post 0) else (post 1)))
-- X16_kind
def wX16_kind (ad : Nat → Nat) (T L : Nat → Nat) (V : w_V) (P : w_P) (t : Nat) (post : Int32 → Prop) : Prop :=
  (post 0)
-- X18_kind
def wX18_kind (ad : Nat → Nat) (T L : Nat → Nat) (V : w_V) (P : w_P) (t : Nat) (post : Int32 → Prop) : Prop :=
  (wX16_kind ad T L V P t (fun (r1 : Int32) => (post (r1 + 2))))
-- X17_kind
def wX17_kind (ad : Nat → Nat) (T L : Nat → Nat) (V : w_V) (P : w_P) (t : Nat) (post : Int32 → Prop) : Prop :=
  (wX16_kind ad T L V P t (fun (r1 : Int32) => (post (r1 + 1))))
-- X1_refuses
def wX1_refuses (ad : Nat → Nat) (T L : Nat → Nat) (V : w_V) (P : w_P) (t : Nat) (x1 : Int32) (post : Int32 → w_V → Prop) : Prop :=
  (∃ b1 : Nat, P t 1 = some b1 ∧ T b1 = 5 ∧ (∃ i4 : Nat, i4 < 3 ∧ x1 = nI i4 ∧ (∃ i7 : Nat, i7 < 3 ∧ x1 = nI i7 ∧ (∀ V10 : w_V, V10 = (up3 V b1 5 i7 ((V b1 5 i4) + 1)) → (post (-1) V10)))))
-- X5_keeps
def jX5_keeps_38 (ad : Nat → Nat) (T L : Nat → Nat) (V : w_V) (P : w_P) (t : Nat) (post : w_V → w_P → Prop) : Prop :=
  (∃ b1 : Nat, P t 1 = some b1 ∧ T b1 = 16 ∧ (wJ2_get ad T L V P b1 (V t 0 6) (fun (r4 : Nat) => (T r4 = 6 ∧ (∃ b8 : Nat, P t 0 = some b8 ∧ T b8 = 6 ∧ (wX6_like ad T L V P r4 b8 (fun (V12 : w_V) => (∀ V14 : w_V, V14 = (up3 V12 t 0 6 ((V12 t 0 6) + 1)) → (post V14 P)))))))))
def wX5_keeps (ad : Nat → Nat) (T L : Nat → Nat) (V : w_V) (P : w_P) (t : Nat) (post : w_V → w_P → Prop) : Prop :=
  (if ((V t 0 6) = 40 : Prop) then (∃ b15 : Nat, P t 1 = some b15 ∧ T b15 = 16 ∧ (∃ b18 : Nat, P t 1 = some b18 ∧ T b18 = 16 ∧ (wJ2_remove ad T L V P b18 0 (fun (r21 : Nat) (V22 : w_V) (P23 : w_P) => (T r21 = 6 ∧ (wJ2_add ad T L V22 P23 b15 r21 (fun (r25 : Int32) (V26 : w_V) (P27 : w_P) => (∀ V28 : w_V, V28 = (up3 V26 t 0 6 ((V26 t 0 6) - 1)) → (jX5_keeps_38 ad T L V28 P27 t post))))))))) else (jX5_keeps_38 ad T L V P t post))
-- X6_puts
def wX6_puts (ad : Nat → Nat) (T L : Nat → Nat) (V : w_V) (P : w_P) (a0 k0 n0 : Nat) (x1 : Int32) (x2 : Int32) (x3 : Int32) (x4 : Int32) (post : w_V → Prop) : Prop :=
  (∃ i1 : Nat, i1 < n0 ∧ (3 * x1) = nI i1 ∧ (∀ V4 : w_V, V4 = (up3 V a0 k0 i1 x2) → (∃ i5 : Nat, i5 < n0 ∧ ((3 * x1) + 1) = nI i5 ∧ (∀ V8 : w_V, V8 = (up3 V4 a0 k0 i5 x3) → (∃ i9 : Nat, i9 < n0 ∧ ((3 * x1) + 2) = nI i9 ∧ (∀ V12 : w_V, V12 = (up3 V8 a0 k0 i9 x4) → (post V12)))))))
-- X6_sends
def wX6_sends (ad : Nat → Nat) (T L : Nat → Nat) (V : w_V) (P : w_P) (t : Nat) (x1 : Int32) (x2 : Int32) (x3 : Int32) (post : w_V → Prop) : Prop :=
  (wX6_puts ad T L V P t 2 15 (V t 0 5) x1 x2 x3 (fun (V2 : w_V) => (∀ V4 : w_V, V4 = (up3 V2 t 0 5 ((V2 t 0 5) + 1)) → (post V4))))
-- X6_feasts
def wX6_feasts (ad : Nat → Nat) (T L : Nat → Nat) (V : w_V) (P : w_P) (t : Nat) (x1 : Int32) (x2 : Int32) (x3 : Int32) (post : w_V → Prop) : Prop :=
  (wX6_puts ad T L V P t 3 12 (V t 0 6) x1 x2 x3 (fun (V2 : w_V) => (∀ V4 : w_V, V4 = (up3 V2 t 0 6 ((V2 t 0 6) + 1)) → (post V4))))
-- X6_floods
def wX6_floods (ad : Nat → Nat) (T L : Nat → Nat) (V : w_V) (P : w_P) (t : Nat) (x1 : Int32) (x2 : Int32) (x3 : Int32) (post : w_V → Prop) : Prop :=
  (wX6_puts ad T L V P t 4 18 (V t 0 7) x1 x2 x3 (fun (V2 : w_V) => (∀ V4 : w_V, V4 = (up3 V2 t 0 7 ((V2 t 0 7) + 1)) → (post V4))))
-- X1_isGuilty
def wX1_isGuilty (ad : Nat → Nat) (T L : Nat → Nat) (V : w_V) (P : w_P) (t : Nat) (x1 : Int32) (post : Int32 → w_V → Prop) : Prop :=
  (∃ b1 : Nat, P t 5 = some b1 ∧ T b1 = 7 ∧ (wX7_all ad T L V P b1 (fun (r4 : Int32) (V5 : w_V) => (∃ b7 : Nat, P t 5 = some b7 ∧ T b7 = 7 ∧ (∃ i10 : Nat, i10 < 6 ∧ x1 = nI i10 ∧ (if ((V5 b7 9 i10) = (-1) : Prop) then (post 0 V5) else (post 1 V5)))))))
-- X1_isGuiltyNow
def wX1_isGuiltyNow (ad : Nat → Nat) (T L : Nat → Nat) (V : w_V) (P : w_P) (t : Nat) (x1 : Int32) (post : Int32 → w_V → Prop) : Prop :=
  (∃ b1 : Nat, P t 4 = some b1 ∧ T b1 = 6 ∧ (∃ b4 : Nat, P t 3 = some b4 ∧ T b4 = 6 ∧ (wX6_like ad T L V P b1 b4 (fun (V8 : w_V) => (wX1_isGuilty ad T L V8 P t x1 (fun (r10 : Int32) (V11 : w_V) => (nB r10 ∧ (post r10 V11))))))))
-- X1_reaches
def jX1_reaches_47 (ad : Nat → Nat) (T L : Nat → Nat) (V : w_V) (P : w_P) (t : Nat) (x1 : Int32) (x2 : Int32) (post : Int32 → Prop) (kb : Int32 → Prop) : Prop :=
  (kb (x2 + 1))
def lX1_reaches_2 (ad : Nat → Nat) (T L : Nat → Nat) (V : w_V) (P : w_P) (t : Nat) (x1 : Int32) (post : Int32 → Prop) : Nat → Int32 → Prop
  | 0, _ => False
  | n + 1, x2 =>
  (∃ b1 : Nat, P t 0 = some b1 ∧ T b1 = 3 ∧ (∃ b4 : Nat, P b1 6 = some b4 ∧ T b4 = 16 ∧ (wJ2_size ad T L V P b4 (fun (r7 : Int32) => (if (r7 ≤ x2 : Prop) then (post 1) else (if ((((x1 : Int32) >>> ((x2 : Int32) &&& 31)) &&& 1) = 1 : Prop) then (∃ b10 : Nat, P t 0 = some b10 ∧ T b10 = 3 ∧ (∃ b13 : Nat, P b10 6 = some b13 ∧ T b13 = 16 ∧ (wJ2_get ad T L V P b13 x2 (fun (r16 : Nat) => (jT T r16 ∧ ((T r16 = 13 → (wX16_hears ad T L V P r16 (fun (r20 : Int32) => (if (r20 = 0 : Prop) then (post 0) else (jX1_reaches_47 ad T L V P t x1 x2 post (lX1_reaches_2 ad T L V P t x1 post n)))))) ∧ (T r16 = 14 → (wX17_hears ad T L V P r16 (fun (r20 : Int32) => (if (r20 = 0 : Prop) then (post 0) else (jX1_reaches_47 ad T L V P t x1 x2 post (lX1_reaches_2 ad T L V P t x1 post n)))))) ∧ (T r16 = 15 → (wX16_hears ad T L V P r16 (fun (r20 : Int32) => (if (r20 = 0 : Prop) then (post 0) else (jX1_reaches_47 ad T L V P t x1 x2 post (lX1_reaches_2 ad T L V P t x1 post n)))))))))))) else (jX1_reaches_47 ad T L V P t x1 x2 post (lX1_reaches_2 ad T L V P t x1 post n))))))))
def wX1_reaches (ad : Nat → Nat) (T L : Nat → Nat) (V : w_V) (P : w_P) (t : Nat) (x1 : Int32) (post : Int32 → Prop) : Prop :=
  (∃ n23, lX1_reaches_2 ad T L V P t x1 post n23 0)
-- X1_isSeen
def lX1_isSeen_10 (ad : Nat → Nat) (T L : Nat → Nat) (P : w_P) (t : Nat) (post : Int32 → w_V → Prop) : Nat → Int32 → w_V → Prop
  | 0, _, _ => False
  | n + 1, x1, V =>
  (∃ b7 : Nat, P t 1 = some b7 ∧ T b7 = 5 ∧ (if ((V b7 0 7) ≤ x1 : Prop) then (post 1 V) else (∃ b10 : Nat, P t 5 = some b10 ∧ T b10 = 7 ∧ (∃ b13 : Nat, P t 1 = some b13 ∧ T b13 = 5 ∧ (∃ i16 : Nat, i16 < 8 ∧ x1 = nI i16 ∧ (∃ b19 : Nat, P t 1 = some b19 ∧ T b19 = 5 ∧ (∃ i22 : Nat, i22 < 8 ∧ x1 = nI i22 ∧ (∃ i25 : Nat, i25 < 30 ∧ ((5 * (V b13 3 i16)) + (V b19 4 i22)) = nI i25 ∧ (∃ b28 : Nat, P t 1 = some b28 ∧ T b28 = 5 ∧ (∃ i31 : Nat, i31 < 8 ∧ x1 = nI i31 ∧ (if ((V b10 11 i25) = (V b28 6 i31) : Prop) then ((lX1_isSeen_10 ad T L P t post n) (x1 + 1) V) else (post 0 V))))))))))))
def wX1_isSeen (ad : Nat → Nat) (T L : Nat → Nat) (V : w_V) (P : w_P) (t : Nat) (post : Int32 → w_V → Prop) : Prop :=
  (∃ b1 : Nat, P t 5 = some b1 ∧ T b1 = 7 ∧ (wX7_all ad T L V P b1 (fun (r4 : Int32) (V5 : w_V) => (∃ n34, lX1_isSeen_10 ad T L P t post n34 0 V5))))
-- X1_wins
def jX1_wins_41 (ad : Nat → Nat) (T L : Nat → Nat) (V : w_V) (P : w_P) (t : Nat) (x1 : Int32) (x3 : Int32) (post : Int32 → w_V → Prop) : Prop :=
  (∃ b23 : Nat, P t 4 = some b23 ∧ T b23 = 6 ∧ (∀ V26 : w_V, V26 = (up3 V b23 0 11 x1) → (∃ b27 : Nat, P t 4 = some b27 ∧ T b27 = 6 ∧ (∀ V30 : w_V, V30 = (up3 V26 b27 0 10 ((1 : Int32) <<< ((x3 : Int32) &&& 31))) → (wX1_isGuilty ad T L V30 P t x1 (fun (r31 : Int32) (V32 : w_V) => (nB r31 ∧ (post r31 V32))))))))
def wX1_wins (ad : Nat → Nat) (T L : Nat → Nat) (V : w_V) (P : w_P) (t : Nat) (x1 : Int32) (x2 : Int32) (x3 : Int32) (post : Int32 → w_V → Prop) : Prop :=
  (∃ b1 : Nat, P t 4 = some b1 ∧ T b1 = 6 ∧ (∃ b4 : Nat, P t 3 = some b4 ∧ T b4 = 6 ∧ (wX6_like ad T L V P b1 b4 (fun (V8 : w_V) => (∃ b10 : Nat, P t 0 = some b10 ∧ T b10 = 3 ∧ (∃ b13 : Nat, P b10 6 = some b13 ∧ T b13 = 16 ∧ (wJ2_get ad T L V8 P b13 x2 (fun (r16 : Nat) => (jT T r16 ∧ ((T r16 = 13 → (wX16_hears ad T L V8 P r16 (fun (r20 : Int32) => (if (r20 = 0 : Prop) then (jX1_wins_41 ad T L V8 P t x1 x3 post) else (∃ b34 : Nat, P t 4 = some b34 ∧ T b34 = 6 ∧ (∀ V37 : w_V, V37 = (up3 V8 b34 0 9 ((1 : Int32) <<< ((x2 : Int32) &&& 31))) → (jX1_wins_41 ad T L V37 P t x1 x3 post))))))) ∧ (T r16 = 14 → (wX17_hears ad T L V8 P r16 (fun (r20 : Int32) => (if (r20 = 0 : Prop) then (jX1_wins_41 ad T L V8 P t x1 x3 post) else (∃ b34 : Nat, P t 4 = some b34 ∧ T b34 = 6 ∧ (∀ V37 : w_V, V37 = (up3 V8 b34 0 9 ((1 : Int32) <<< ((x2 : Int32) &&& 31))) → (jX1_wins_41 ad T L V37 P t x1 x3 post))))))) ∧ (T r16 = 15 → (wX16_hears ad T L V8 P r16 (fun (r20 : Int32) => (if (r20 = 0 : Prop) then (jX1_wins_41 ad T L V8 P t x1 x3 post) else (∃ b34 : Nat, P t 4 = some b34 ∧ T b34 = 6 ∧ (∀ V37 : w_V, V37 = (up3 V8 b34 0 9 ((1 : Int32) <<< ((x2 : Int32) &&& 31))) → (jX1_wins_41 ad T L V37 P t x1 x3 post)))))))))))))))))
-- X1_draw
def wX1_draw (ad : Nat → Nat) (T L : Nat → Nat) (V : w_V) (P : w_P) (t : Nat) (x1 : Int32) (post : Int32 → w_V → Prop) : Prop :=
  (∀ V1 : w_V, V1 = (up3 V t 0 10 (((V t 0 10) * 1103515245) + 12345)) → (¬ x1 = 0 ∧ (post (((((V1 t 0 10) : Int32) >>> ((16 : Int32) &&& 31)) &&& 32767) - ((((V1 t 0 10) : Int32) >>> ((16 : Int32) &&& 31)) &&& 32767) / x1 * x1) V1)))
