/-! printed by gen/mgen.py out of the given decode rows: the WPs of ApartBenchModel -/
set_option maxRecDepth 100000
-- thrown
def wM_thrown (sg : MS) (post : Int32 → Prop) : Prop :=
  (post (sg 0 2))
-- feed
def jM_feed_76 (sg : MS) (x1 : Int32) (x2 : Int32) (x3 : Int32) (x4 : Int32) (x5 : Int32) (x6 : Int32) (t0 : Int32) (post : Int32 → MS → Prop) (kb : Int32 → MS → Prop) : Prop :=
  (∃ i1 : Nat, i1 < 600 ∧ (sg 0 14) = nI i1 ∧ (kb (x6 + 1) (s2 (s2 sg 14 i1 (((t0 : Int32) >>> (((24 - (8 * (x6 - x6 / 4 * 4))) : Int32) &&& 31)) &&& 255)) 0 14 (((s2 sg 14 i1 (((t0 : Int32) >>> (((24 - (8 * (x6 - x6 / 4 * 4))) : Int32) &&& 31)) &&& 255)) 0 14) + 1))))
def lM_feed_23 (x1 : Int32) (x2 : Int32) (x3 : Int32) (x4 : Int32) (x5 : Int32) (post : Int32 → MS → Prop) : Nat → Int32 → MS → Prop
  | 0, _, _ => False
  | n + 1, x6, sg =>
  (if (20 ≤ x6 : Prop) then (post (sg 0 14) sg) else (if (4 ≤ x6 : Prop) then (if (8 ≤ x6 : Prop) then (if (12 ≤ x6 : Prop) then (if (16 ≤ x6 : Prop) then (jM_feed_76 sg x1 x2 x3 x4 x5 x6 x5 post (lM_feed_23 x1 x2 x3 x4 x5 post n)) else (jM_feed_76 sg x1 x2 x3 x4 x5 x6 x4 post (lM_feed_23 x1 x2 x3 x4 x5 post n))) else (jM_feed_76 sg x1 x2 x3 x4 x5 x6 x3 post (lM_feed_23 x1 x2 x3 x4 x5 post n))) else (jM_feed_76 sg x1 x2 x3 x4 x5 x6 x2 post (lM_feed_23 x1 x2 x3 x4 x5 post n))) else (jM_feed_76 sg x1 x2 x3 x4 x5 x6 x1 post (lM_feed_23 x1 x2 x3 x4 x5 post n))))
def wM_feed (sg : MS) (x1 : Int32) (x2 : Int32) (x3 : Int32) (x4 : Int32) (x5 : Int32) (post : Int32 → MS → Prop) : Prop :=
  (if ((((s2 sg 0 2 0) 0 14) + 20) ≤ 600 : Prop) then (∃ n4, lM_feed_23 x1 x2 x3 x4 x5 post n4 0 (s2 sg 0 2 0)) else (post (-1) (s2 sg 0 2 0)))
-- fail
def wM_fail (sg : MS) (x1 : Int32) (post : Int32 → MS → Prop) : Prop :=
  (post 0 (s2 sg 0 2 x1))
-- is
def jM_is_75 (sg : MS) (tx1 : List Nat) (x3 : Int32) (t0 : Int32) (post : Int32 → Prop) (kb : Int32 → Int32 → Prop) : Prop :=
  (kb t0 (x3 + 1))
def lM_is_39 (sg : MS) (tx1 : List Nat) (post : Int32 → Prop) : Nat → Int32 → Int32 → Prop
  | 0, _, _ => False
  | n + 1, x2, x3 =>
  (if (x2 = 0 : Prop) then (nB x2 ∧ (post x2)) else (if ((nI tx1.length) ≤ x3 : Prop) then (nB x2 ∧ (post x2)) else (∃ i1 : Nat, i1 < tx1.length ∧ x3 = nI i1 ∧ (∃ i4 : Nat, i4 < 600 ∧ ((sg 0 19) + x3) = nI i4 ∧ (if ((nI (tx1.getD i1 0)) = (sg 14 i4) : Prop) then (jM_is_75 sg tx1 x3 1 post (lM_is_39 sg tx1 post n)) else (jM_is_75 sg tx1 x3 0 post (lM_is_39 sg tx1 post n)))))))
def jM_is_36 (sg : MS) (tx1 : List Nat) (t0 : Int32) (post : Int32 → Prop) : Prop :=
  (∃ n7, lM_is_39 sg tx1 post n7 t0 0)
def jM_is_35 (sg : MS) (tx1 : List Nat) (post : Int32 → Prop) : Prop :=
  (jM_is_36 sg tx1 0 post)
def wM_is (sg : MS) (tx1 : List Nat) (post : Int32 → Prop) : Prop :=
  (if ((sg 0 21) = 0 : Prop) then (if ((sg 0 17) = 1 : Prop) then (if ((nI tx1.length) = ((sg 0 20) - (sg 0 19)) : Prop) then (jM_is_36 sg tx1 1 post) else (jM_is_35 sg tx1 post)) else (jM_is_35 sg tx1 post)) else (jM_is_35 sg tx1 post))
-- isMarked
def wM_isMarked (sg : MS) (x1 : Int32) (post : Int32 → Prop) : Prop :=
  (if ((sg 0 21) = 0 : Prop) then (if ((sg 0 17) = 3 : Prop) then (∃ i1 : Nat, i1 < 600 ∧ (sg 0 19) = nI i1 ∧ (if ((sg 14 i1) = x1 : Prop) then (post 1) else (post 0))) else (post 0)) else (post 0))
-- byteAt
def wM_byteAt (sg : MS) (x1 : Int32) (post : Int32 → Prop) : Prop :=
  (if ((sg 0 16) ≤ x1 : Prop) then (post (-1)) else (∃ i1 : Nat, i1 < 600 ∧ x1 = nI i1 ∧ (post (sg 14 i1))))
-- isDigit
def wM_isDigit (sg : MS) (x0 : Int32) (post : Int32 → Prop) : Prop :=
  (if (x0 < 48 : Prop) then (post 0) else (if (57 < x0 : Prop) then (post 0) else (post 1)))
-- isLetter
def wM_isLetter (sg : MS) (x0 : Int32) (post : Int32 → Prop) : Prop :=
  (if (x0 < 97 : Prop) then (post 0) else (if (122 < x0 : Prop) then (post 0) else (post 1)))
-- isMark
def wM_isMark (sg : MS) (x0 : Int32) (post : Int32 → Prop) : Prop :=
  (if (x0 = 59 : Prop) then (post 1) else (if (x0 = 40 : Prop) then (post 1) else (if (x0 = 41 : Prop) then (post 1) else (if (x0 = 43 : Prop) then (post 1) else (if (x0 = 45 : Prop) then (post 1) else (if (x0 = 42 : Prop) then (post 1) else (if (x0 = 47 : Prop) then (post 1) else (if (x0 = 60 : Prop) then (post 1) else (if (x0 = 61 : Prop) then (post 1) else (post 0))))))))))
-- stepOn
def jM_stepOn_26 (sg : MS) (post : MS → Prop) (kb : MS → Prop) : Prop :=
  (kb (s2 sg 0 15 ((sg 0 15) + 1)))
def lM_stepOn_0 (post : MS → Prop) (ke_39 : MS → Prop) : Nat → MS → Prop
  | 0, _ => False
  | n + 1, sg =>
  (wM_byteAt sg (sg 0 15) (fun (r1 : Int32) => (if (r1 = 32 : Prop) then (jM_stepOn_26 sg post (lM_stepOn_0 post ke_39 n)) else (wM_byteAt sg (sg 0 15) (fun (r3 : Int32) => (if (r3 = 10 : Prop) then (jM_stepOn_26 sg post (lM_stepOn_0 post ke_39 n)) else (ke_39 sg)))))))
def jM_stepOn_212 (sg : MS) (post : MS → Prop) : Prop :=
  (post (s2 sg 0 20 (sg 0 15)))
def jM_stepOn_209 (sg : MS) (t0 : Int32) (post : MS → Prop) : Prop :=
  (jM_stepOn_212 (s2 sg 0 17 t0) post)
def lM_stepOn_123 (post : MS → Prop) (ke_178 : MS → Prop) : Nat → MS → Prop
  | 0, _ => False
  | n + 1, sg =>
  (wM_byteAt sg (sg 0 15) (fun (r14 : Int32) => (wM_isDigit sg r14 (fun (r16 : Int32) => (if (r16 = 0 : Prop) then (ke_178 sg) else (wM_byteAt sg (sg 0 15) (fun (r18 : Int32) => ((lM_stepOn_123 post ke_178 n) (s2 (s2 sg 0 18 (if (((10 * (sg 0 18)) + r18) - 48) < 100000 then (((10 * (sg 0 18)) + r18) - 48) else 100000)) 0 15 (((s2 sg 0 18 (if (((10 * (sg 0 18)) + r18) - 48) < 100000 then (((10 * (sg 0 18)) + r18) - 48) else 100000)) 0 15) + 1))))))))))
def lM_stepOn_76 (post : MS → Prop) (ke_103 : MS → Prop) : Nat → MS → Prop
  | 0, _ => False
  | n + 1, sg =>
  (wM_byteAt sg (sg 0 15) (fun (r22 : Int32) => (wM_isLetter sg r22 (fun (r24 : Int32) => (if (r24 = 0 : Prop) then (ke_103 sg) else ((lM_stepOn_76 post ke_103 n) (s2 sg 0 15 ((sg 0 15) + 1))))))))
def wM_stepOn (sg : MS) (post : MS → Prop) : Prop :=
  (∃ n28, lM_stepOn_0 post (fun (g5 : MS) => (wM_byteAt (s2 g5 0 19 (g5 0 15)) ((s2 g5 0 19 (g5 0 15)) 0 15) (fun (r6 : Int32) => (if (r6 = (-1) : Prop) then (jM_stepOn_212 (s2 (s2 g5 0 19 (g5 0 15)) 0 17 0) post) else (wM_isLetter (s2 g5 0 19 (g5 0 15)) r6 (fun (r8 : Int32) => (if (r8 = 0 : Prop) then (wM_isDigit (s2 g5 0 19 (g5 0 15)) r6 (fun (r10 : Int32) => (if (r10 = 0 : Prop) then (wM_isMark (s2 (s2 g5 0 19 (g5 0 15)) 0 15 (((s2 g5 0 19 (g5 0 15)) 0 15) + 1)) r6 (fun (r12 : Int32) => (if (r12 = 0 : Prop) then (jM_stepOn_209 (s2 (s2 g5 0 19 (g5 0 15)) 0 15 (((s2 g5 0 19 (g5 0 15)) 0 15) + 1)) 4 post) else (jM_stepOn_209 (s2 (s2 g5 0 19 (g5 0 15)) 0 15 (((s2 g5 0 19 (g5 0 15)) 0 15) + 1)) 3 post)))) else (∃ n21, lM_stepOn_123 post (fun (g20 : MS) => (jM_stepOn_212 (s2 g20 0 17 2) post)) n21 (s2 (s2 g5 0 19 (g5 0 15)) 0 18 0))))) else (∃ n27, lM_stepOn_76 post (fun (g26 : MS) => (jM_stepOn_212 (s2 g26 0 17 1) post)) n27 (s2 g5 0 19 (g5 0 15)))))))))) n28 sg)
-- wrong
def wM_wrong (sg : MS) (x1 : Int32) (post : MS → Prop) : Prop :=
  (if ((sg 0 21) = 0 : Prop) then (post (s2 (s2 sg 0 21 x1) 0 22 ((s2 sg 0 21 x1) 0 19))) else (post sg))
-- mark
def jM_mark_20 (sg : MS) (post : MS → Prop) : Prop :=
  (if ((sg 0 21) = 0 : Prop) then (wM_stepOn sg (fun (g2 : MS) => (post g2))) else (post sg))
def wM_mark (sg : MS) (x1 : Int32) (post : MS → Prop) : Prop :=
  (if ((sg 0 21) = 0 : Prop) then (wM_isMarked sg x1 (fun (r3 : Int32) => (if (r3 = 0 : Prop) then (wM_wrong sg 1 (fun (g6 : MS) => (jM_mark_20 g6 post))) else (jM_mark_20 sg post)))) else (jM_mark_20 sg post))
-- another
def jM_another_18 (sg : MS) (post : Int32 → MS → Prop) : Prop :=
  (if ((sg 0 21) = 0 : Prop) then (wM_stepOn sg (fun (g5 : MS) => (post 1 g5))) else (post 0 sg))
def wM_another (sg : MS) (x1 : Int32) (x2 : Int32) (post : Int32 → MS → Prop) : Prop :=
  (∃ i1 : Nat, i1 < 14 ∧ (7 + x1) = nI i1 ∧ (if ((sg 4 i1) = x2 : Prop) then (wM_wrong sg 2 (fun (g7 : MS) => (jM_another_18 g7 post))) else (jM_another_18 sg post)))
-- numberNow
def jM_numberNow_59 (sg : MS) (post : Int32 → MS → Prop) : Prop :=
  (if ((sg 0 21) = 0 : Prop) then (post (sg 0 18) sg) else (post 0 sg))
def jM_numberNow_54 (sg : MS) (post : Int32 → MS → Prop) : Prop :=
  (wM_wrong sg 2 (fun (g2 : MS) => (jM_numberNow_59 g2 post)))
def wM_numberNow (sg : MS) (x1 : Int32) (x2 : Int32) (post : Int32 → MS → Prop) : Prop :=
  (if ((sg 0 21) = 0 : Prop) then (if ((sg 0 17) = 2 : Prop) then (if (4 < ((sg 0 20) - (sg 0 19)) : Prop) then (jM_numberNow_54 sg post) else (if ((sg 0 18) < x1 : Prop) then (jM_numberNow_54 sg post) else (if ((sg 0 18) ≤ x2 : Prop) then (jM_numberNow_59 sg post) else (jM_numberNow_54 sg post)))) else (wM_wrong sg 1 (fun (g4 : MS) => (jM_numberNow_59 g4 post)))) else (post 0 sg))
-- readNumber
def wM_readNumber (sg : MS) (x1 : Int32) (x2 : Int32) (post : Int32 → MS → Prop) : Prop :=
  (wM_numberNow sg x1 x2 (fun (r1 : Int32) (g2 : MS) => (if ((g2 0 21) = 0 : Prop) then (wM_stepOn g2 (fun (g4 : MS) => (post r1 g4))) else (post r1 g2))))
-- townNow
def jM_townNow_32 (sg : MS) (x1 : Int32) (post : Int32 → MS → Prop) : Prop :=
  (if ((sg 0 21) = 0 : Prop) then (post x1 sg) else (post 0 sg))
def wM_townNow (sg : MS) (post : Int32 → MS → Prop) : Prop :=
  (wM_numberNow sg 0 9999 (fun (r1 : Int32) (g2 : MS) => (if ((g2 0 21) = 0 : Prop) then (if (r1 < (g2 4 7) : Prop) then (jM_townNow_32 g2 r1 post) else (wM_wrong g2 3 (fun (g4 : MS) => (jM_townNow_32 g4 r1 post)))) else (jM_townNow_32 g2 r1 post))))
-- readCase
def lM_readCase_27 (x1 : Int32) (post : MS → Prop) (ke_48 : MS → Prop) : Nat → Int32 → MS → Prop
  | 0, _, _ => False
  | n + 1, x2, sg =>
  (if (9 ≤ x2 : Prop) then (ke_48 sg) else (∃ i3 : Nat, i3 < 108 ∧ (x1 + x2) = nI i3 ∧ ((lM_readCase_27 x1 post ke_48 n) (x2 + 1) (s2 sg 11 i3 (-1)))))
def jM_readCase_136 (sg : MS) (x1 : Int32) (x2 : Int32) (x3 : Int32) (post : MS → Prop) (kb : Int32 → MS → Prop) : Prop :=
  (wM_readNumber sg 0 9 (fun (r9 : Int32) (g10 : MS) => (if ((g10 0 21) = 0 : Prop) then (∃ i11 : Nat, i11 < 108 ∧ (x1 + x3) = nI i11 ∧ (kb (x2 + 1) (s2 g10 11 i11 r9))) else (kb x2 g10))))
def jM_readCase_125 (sg : MS) (x1 : Int32) (x2 : Int32) (x3 : Int32) (post : MS → Prop) (kb : Int32 → MS → Prop) : Prop :=
  (if ((sg 0 21) = 0 : Prop) then (wM_stepOn sg (fun (g15 : MS) => (jM_readCase_136 g15 x1 x2 x3 post kb))) else (jM_readCase_136 sg x1 x2 x3 post kb))
def jM_readCase_96 (sg : MS) (x1 : Int32) (x2 : Int32) (post : MS → Prop) (kb : Int32 → MS → Prop) : Prop :=
  (wM_townNow sg (fun (r7 : Int32) (g8 : MS) => (if ((g8 0 21) = 0 : Prop) then (∃ i16 : Nat, i16 < 108 ∧ (x1 + r7) = nI i16 ∧ (if ((g8 11 i16) = (-1) : Prop) then (jM_readCase_125 g8 x1 x2 r7 post kb) else (wM_wrong g8 4 (fun (g20 : MS) => (jM_readCase_125 g20 x1 x2 r7 post kb))))) else (jM_readCase_125 g8 x1 x2 r7 post kb))))
def lM_readCase_70 (x1 : Int32) (post : MS → Prop) (ke_171 : MS → Prop) : Nat → Int32 → MS → Prop
  | 0, _, _ => False
  | n + 1, x2, sg =>
  (if ((sg 0 21) = 0 : Prop) then (if ((sg 0 17) = 2 : Prop) then (if (x2 = 6 : Prop) then (wM_wrong sg 2 (fun (g22 : MS) => (jM_readCase_96 g22 x1 x2 post (lM_readCase_70 x1 post ke_171 n)))) else (jM_readCase_96 sg x1 x2 post (lM_readCase_70 x1 post ke_171 n))) else (ke_171 sg)) else (ke_171 sg))
def jM_readCase_171 (sg : MS) (post : MS → Prop) : Prop :=
  (post (s2 sg 4 12 ((sg 4 12) + 1)))
def wM_readCase (sg : MS) (post : MS → Prop) : Prop :=
  (wM_another sg 5 6 (fun (r1 : Int32) (g2 : MS) => (if (r1 = 0 : Prop) then (post g2) else (∃ n31, lM_readCase_27 (9 * (6 + (g2 4 12))) post (fun (g6 : MS) => (if ((g6 0 21) = 0 : Prop) then (if ((g6 0 17) = 2 : Prop) then (∃ n26, lM_readCase_70 (9 * (6 + (g2 4 12))) post (fun (g25 : MS) => (jM_readCase_171 g25 post)) n26 0 g6) else (wM_wrong g6 1 (fun (g28 : MS) => (∃ n30, lM_readCase_70 (9 * (6 + (g2 4 12))) post (fun (g29 : MS) => (jM_readCase_171 g29 post)) n30 0 g28)))) else (∃ n24, lM_readCase_70 (9 * (6 + (g2 4 12))) post (fun (g23 : MS) => (jM_readCase_171 g23 post)) n24 0 g6))) n31 0 g2))))
-- lay
def wM_lay (sg : MS) (x1 : Int32) (post : MS → Prop) : Prop :=
  (if ((sg 0 21) = 0 : Prop) then (∃ i1 : Nat, i1 < 1200 ∧ (600 + (sg 4 13)) = nI i1 ∧ (post (s2 (s2 sg 12 i1 x1) 4 13 (((s2 sg 12 i1 x1) 4 13) + 1)))) else (post sg))
-- which
def lM_which_2 (sg : MS) (tx1 : List (List Nat)) (post : Int32 → Prop) : Nat → Int32 → Prop
  | 0, _ => False
  | n + 1, x2 =>
  (if ((nI tx1.length) ≤ x2 : Prop) then (post (-1)) else (∃ i1 : Nat, i1 < tx1.length ∧ x2 = nI i1 ∧ (wM_is sg (tx1.getD i1 []) (fun (r7 : Int32) => (if (r7 = 0 : Prop) then ((lM_which_2 sg tx1 post n) (x2 + 1)) else (post x2))))))
def wM_which (sg : MS) (tx1 : List (List Nat)) (post : Int32 → Prop) : Prop :=
  (∃ n9, lM_which_2 sg tx1 post n9 0)
-- couple
def wM_couple (sg : MS) (x0 : Int32) (x1 : Int32) (post : Int32 → Prop) : Prop :=
  (post ((9 * x0) + x1))
-- readJudge
def jM_readJudge_153 (sg : MS) (x2 : Int32) (x3 : Int32) (x4 : Int32) (post : MS → Prop) (kb : Int32 → MS → Prop) : Prop :=
  (if ((sg 0 21) = 0 : Prop) then (∃ i18 : Nat, i18 < 70 ∧ ((7 * x2) + x3) = nI i18 ∧ (wM_stepOn (s2 sg 10 i18 x4) (fun (g22 : MS) => (kb (x3 + 1) g22)))) else (kb x3 sg))
def jM_readJudge_101 (sg : MS) (x2 : Int32) (x3 : Int32) (post : MS → Prop) (kb : Int32 → MS → Prop) : Prop :=
  (wM_townNow sg (fun (r16 : Int32) (g17 : MS) => (if ((g17 0 21) = 0 : Prop) then (if (x3 ≤ 0 : Prop) then (jM_readJudge_153 g17 x2 x3 r16 post kb) else (∃ i23 : Nat, i23 < 70 ∧ (((7 * x2) + x3) - 1) = nI i23 ∧ (wM_couple g17 (g17 10 i23) r16 (fun (r26 : Int32) => (∃ i28 : Nat, i28 < 162 ∧ (81 + r26) = nI i28 ∧ (if ((g17 5 i28) = 0 : Prop) then (wM_wrong g17 6 (fun (g32 : MS) => (jM_readJudge_153 g32 x2 x3 r16 post kb))) else (jM_readJudge_153 g17 x2 x3 r16 post kb))))))) else (jM_readJudge_153 g17 x2 x3 r16 post kb))))
def lM_readJudge_75 (x2 : Int32) (post : MS → Prop) (ke_186 : Int32 → MS → Prop) : Nat → Int32 → MS → Prop
  | 0, _, _ => False
  | n + 1, x3, sg =>
  (if ((sg 0 21) = 0 : Prop) then (if ((sg 0 17) = 2 : Prop) then (if (x3 = 7 : Prop) then (wM_wrong sg 2 (fun (g34 : MS) => (jM_readJudge_101 g34 x2 x3 post (lM_readJudge_75 x2 post ke_186 n)))) else (jM_readJudge_101 sg x2 x3 post (lM_readJudge_75 x2 post ke_186 n))) else (ke_186 x3 sg)) else (ke_186 x3 sg))
def jM_readJudge_186 (sg : MS) (x2 : Int32) (x3 : Int32) (post : MS → Prop) : Prop :=
  (∃ i37 : Nat, i37 < 10 ∧ x2 = nI i37 ∧ (post (s2 (s2 sg 9 i37 x3) 4 11 (((s2 sg 9 i37 x3) 4 11) + 1))))
def wM_readJudge (sg : MS) (x1 : Int32) (post : MS → Prop) : Prop :=
  (wM_another sg 4 5 (fun (r1 : Int32) (g2 : MS) => (if (r1 = 0 : Prop) then (post g2) else (∃ i3 : Nat, i3 < 10 ∧ (5 + (g2 4 11)) = nI i3 ∧ (wM_readNumber (s2 g2 6 i3 x1) 0 60 (fun (r6 : Int32) (g7 : MS) => (∃ i8 : Nat, i8 < 10 ∧ (5 + (g2 4 11)) = nI i8 ∧ (wM_readNumber (s2 g7 7 i8 r6) 0 9 (fun (r11 : Int32) (g12 : MS) => (∃ i13 : Nat, i13 < 10 ∧ (5 + (g2 4 11)) = nI i13 ∧ (if (((s2 g12 8 i13 r11) 0 21) = 0 : Prop) then (if (((s2 g12 8 i13 r11) 0 17) = 2 : Prop) then (∃ n43, lM_readJudge_75 (5 + (g2 4 11)) post (fun (y41 : Int32) (g42 : MS) => (jM_readJudge_186 g42 (5 + (g2 4 11)) y41 post)) n43 0 (s2 g12 8 i13 r11)) else (wM_wrong (s2 g12 8 i13 r11) 1 (fun (g45 : MS) => (∃ n48, lM_readJudge_75 (5 + (g2 4 11)) post (fun (y46 : Int32) (g47 : MS) => (jM_readJudge_186 g47 (5 + (g2 4 11)) y46 post)) n48 0 g45)))) else (∃ n40, lM_readJudge_75 (5 + (g2 4 11)) post (fun (y35 : Int32) (g36 : MS) => (jM_readJudge_186 g36 (5 + (g2 4 11)) y35 post)) n40 0 (s2 g12 8 i13 r11)))))))))))))
-- readRoad
def jM_readRoad_78 (sg : MS) (x1 : Int32) (x2 : Int32) (x3 : Int32) (post : MS → Prop) : Prop :=
  (wM_readNumber sg 1 9 (fun (r7 : Int32) (g8 : MS) => (if ((g8 0 21) = 0 : Prop) then (wM_couple g8 x1 x2 (fun (r9 : Int32) => (∃ i11 : Nat, i11 < 162 ∧ (x3 + r9) = nI i11 ∧ (wM_couple (s2 g8 5 i11 r7) x2 x1 (fun (r14 : Int32) => (∃ i16 : Nat, i16 < 162 ∧ (x3 + r14) = nI i16 ∧ (post (s2 (s2 (s2 g8 5 i11 r7) 5 i16 r7) 4 9 (((s2 (s2 g8 5 i11 r7) 5 i16 r7) 4 9) + 1))))))))) else (post g8))))
def jM_readRoad_67 (sg : MS) (x1 : Int32) (x2 : Int32) (x3 : Int32) (post : MS → Prop) : Prop :=
  (if ((sg 0 21) = 0 : Prop) then (wM_stepOn sg (fun (g20 : MS) => (jM_readRoad_78 g20 x1 x2 x3 post))) else (jM_readRoad_78 sg x1 x2 x3 post))
def jM_readRoad_62 (sg : MS) (x1 : Int32) (x2 : Int32) (x3 : Int32) (post : MS → Prop) : Prop :=
  (wM_wrong sg 4 (fun (g22 : MS) => (jM_readRoad_67 g22 x1 x2 x3 post)))
def jM_readRoad_27 (sg : MS) (x1 : Int32) (post : MS → Prop) : Prop :=
  (wM_townNow sg (fun (r5 : Int32) (g6 : MS) => (if ((g6 0 21) = 0 : Prop) then (if (x1 = r5 : Prop) then (jM_readRoad_62 g6 x1 r5 81 post) else (wM_couple g6 x1 r5 (fun (r23 : Int32) => (∃ i25 : Nat, i25 < 162 ∧ (81 + r23) = nI i25 ∧ (if ((g6 5 i25) ≤ 0 : Prop) then (jM_readRoad_67 g6 x1 r5 81 post) else (jM_readRoad_62 g6 x1 r5 81 post)))))) else (jM_readRoad_67 g6 x1 r5 81 post))))
def wM_readRoad (sg : MS) (post : MS → Prop) : Prop :=
  (wM_another sg 2 14 (fun (r1 : Int32) (g2 : MS) => (if (r1 = 0 : Prop) then (post g2) else (wM_townNow g2 (fun (r3 : Int32) (g4 : MS) => (if ((g4 0 21) = 0 : Prop) then (wM_stepOn g4 (fun (g29 : MS) => (jM_readRoad_27 g29 r3 post))) else (jM_readRoad_27 g4 r3 post)))))))
-- readTown
def jM_readTown_44 (sg : MS) (post : MS → Prop) : Prop :=
  (post (s2 sg 4 7 ((sg 4 7) + 1)))
def wM_readTown (sg : MS) (post : MS → Prop) : Prop :=
  (wM_another sg 0 9 (fun (r1 : Int32) (g2 : MS) => (if (r1 = 0 : Prop) then (post g2) else (wM_is g2 [105, 110, 110] (fun (r5 : Int32) => (if (r5 = 0 : Prop) then (jM_readTown_44 g2 post) else (wM_stepOn (s2 g2 4 8 ((g2 4 8) ||| ((1 : Int32) <<< (((g2 4 7) : Int32) &&& 31)))) (fun (g8 : MS) => (jM_readTown_44 g8 post)))))))))
-- readPart
def jM_readPart_56 (sg : MS) (rE : MS → Int32 → (MS → Prop) → Prop) (x2 : Int32) (post : MS → Prop) : Prop :=
  (wM_lay sg ((-1) - x2) (fun (g13 : MS) => (if ((g13 0 21) = 0 : Prop) then (wM_stepOn g13 (fun (g15 : MS) => (post g15))) else (post g13))))
def wM_readPart (sg : MS) (rE : MS → Int32 → (MS → Prop) → Prop) (x1 : Int32) (post : MS → Prop) : Prop :=
  (if ((sg 0 21) = 0 : Prop) then (if ((sg 0 17) = 2 : Prop) then (wM_readNumber sg 0 9999 (fun (r18 : Int32) (g19 : MS) => (wM_lay g19 r18 (fun (g21 : MS) => (post g21))))) else (if ((sg 0 17) = 1 : Prop) then (wM_which sg [[112, 114, 111, 111, 102], [104, 97, 114, 115, 104], [100, 97, 121], [116, 111, 119, 110], [115, 97, 105, 100]] (fun (r10 : Int32) => (if (r10 = (-1) : Prop) then (wM_wrong sg 3 (fun (g17 : MS) => (jM_readPart_56 g17 rE r10 post))) else (jM_readPart_56 sg rE r10 post)))) else (wM_mark sg 40 (fun (g2 : MS) => (rE g2 (x1 + 1) (fun (g4 : MS) => (wM_mark g4 41 (fun (g6 : MS) => (post g6))))))))) else (post sg))
-- readProduct
def jM_readProduct_39 (sg : MS) (rE : MS → Int32 → (MS → Prop) → Prop) (x1 : Int32) (t0 : Int32) (post : MS → Prop) (kb : MS → Prop) : Prop :=
  (wM_stepOn sg (fun (g8 : MS) => (wM_readPart g8 rE x1 (fun (g10 : MS) => (wM_lay g10 t0 (fun (g12 : MS) => (kb g12)))))))
def jM_readProduct_23 (sg : MS) (rE : MS → Int32 → (MS → Prop) → Prop) (x1 : Int32) (post : MS → Prop) (kb : MS → Prop) : Prop :=
  (wM_isMarked sg 42 (fun (r5 : Int32) => (if (r5 = 0 : Prop) then (jM_readProduct_39 sg rE x1 (-23) post kb) else (jM_readProduct_39 sg rE x1 (-22) post kb))))
def lM_readProduct_5 (rE : MS → Int32 → (MS → Prop) → Prop) (x1 : Int32) (post : MS → Prop) : Nat → MS → Prop
  | 0, _ => False
  | n + 1, sg =>
  (wM_isMarked sg 42 (fun (r3 : Int32) => (if (r3 = 0 : Prop) then (wM_isMarked sg 47 (fun (r13 : Int32) => (if (r13 = 0 : Prop) then (post sg) else (jM_readProduct_23 sg rE x1 post (lM_readProduct_5 rE x1 post n))))) else (jM_readProduct_23 sg rE x1 post (lM_readProduct_5 rE x1 post n)))))
def wM_readProduct (sg : MS) (rE : MS → Int32 → (MS → Prop) → Prop) (x1 : Int32) (post : MS → Prop) : Prop :=
  (wM_readPart sg rE x1 (fun (g2 : MS) => (∃ n15, lM_readProduct_5 rE x1 post n15 g2)))
-- readSum
def jM_readSum_39 (sg : MS) (rE : MS → Int32 → (MS → Prop) → Prop) (x1 : Int32) (t0 : Int32) (post : MS → Prop) (kb : MS → Prop) : Prop :=
  (wM_stepOn sg (fun (g8 : MS) => (wM_readProduct g8 rE x1 (fun (g10 : MS) => (wM_lay g10 t0 (fun (g12 : MS) => (kb g12)))))))
def jM_readSum_23 (sg : MS) (rE : MS → Int32 → (MS → Prop) → Prop) (x1 : Int32) (post : MS → Prop) (kb : MS → Prop) : Prop :=
  (wM_isMarked sg 43 (fun (r5 : Int32) => (if (r5 = 0 : Prop) then (jM_readSum_39 sg rE x1 (-21) post kb) else (jM_readSum_39 sg rE x1 (-20) post kb))))
def lM_readSum_5 (rE : MS → Int32 → (MS → Prop) → Prop) (x1 : Int32) (post : MS → Prop) : Nat → MS → Prop
  | 0, _ => False
  | n + 1, sg =>
  (wM_isMarked sg 43 (fun (r3 : Int32) => (if (r3 = 0 : Prop) then (wM_isMarked sg 45 (fun (r13 : Int32) => (if (r13 = 0 : Prop) then (post sg) else (jM_readSum_23 sg rE x1 post (lM_readSum_5 rE x1 post n))))) else (jM_readSum_23 sg rE x1 post (lM_readSum_5 rE x1 post n)))))
def wM_readSum (sg : MS) (rE : MS → Int32 → (MS → Prop) → Prop) (x1 : Int32) (post : MS → Prop) : Prop :=
  (wM_readProduct sg rE x1 (fun (g2 : MS) => (∃ n15, lM_readSum_5 rE x1 post n15 g2)))
-- readNot
def jM_readNot_22 (sg : MS) (rE : MS → Int32 → (MS → Prop) → Prop) (x1 : Int32) (x2 : Int32) (post : MS → Prop) (kb : Int32 → MS → Prop) : Prop :=
  (if ((sg 0 21) = 0 : Prop) then (wM_stepOn sg (fun (g6 : MS) => (kb (x2 + 1) g6))) else (kb (x2 + 1) sg))
def lM_readNot_2 (rE : MS → Int32 → (MS → Prop) → Prop) (x1 : Int32) (post : MS → Prop) (ke_39 : Int32 → MS → Prop) : Nat → Int32 → MS → Prop
  | 0, _, _ => False
  | n + 1, x2, sg =>
  (wM_is sg [110, 111, 116] (fun (r3 : Int32) => (if (r3 = 0 : Prop) then (ke_39 x2 sg) else (if (x2 = 6 : Prop) then (wM_wrong sg 2 (fun (g8 : MS) => (jM_readNot_22 g8 rE x1 x2 post (lM_readNot_2 rE x1 post ke_39 n)))) else (jM_readNot_22 sg rE x1 x2 post (lM_readNot_2 rE x1 post ke_39 n))))))
def lM_readNot_95 (rE : MS → Int32 → (MS → Prop) → Prop) (x2 : Int32) (post : MS → Prop) : Nat → Int32 → MS → Prop
  | 0, _, _ => False
  | n + 1, x3, sg =>
  (if (x2 ≤ x3 : Prop) then (post sg) else (wM_lay sg (-28) (fun (g24 : MS) => ((lM_readNot_95 rE x2 post n) (x3 + 1) g24))))
def jM_readNot_93 (sg : MS) (rE : MS → Int32 → (MS → Prop) → Prop) (x2 : Int32) (post : MS → Prop) : Prop :=
  (∃ n25, lM_readNot_95 rE x2 post n25 0 sg)
def jM_readNot_78 (sg : MS) (rE : MS → Int32 → (MS → Prop) → Prop) (x1 : Int32) (x2 : Int32) (t0 : Int32) (post : MS → Prop) : Prop :=
  (wM_stepOn sg (fun (g18 : MS) => (wM_readSum g18 rE x1 (fun (g20 : MS) => (wM_lay g20 t0 (fun (g22 : MS) => (jM_readNot_93 g22 rE x2 post)))))))
def jM_readNot_62 (sg : MS) (rE : MS → Int32 → (MS → Prop) → Prop) (x1 : Int32) (x2 : Int32) (post : MS → Prop) : Prop :=
  (wM_isMarked sg 60 (fun (r15 : Int32) => (if (r15 = 0 : Prop) then (jM_readNot_78 sg rE x1 x2 (-25) post) else (jM_readNot_78 sg rE x1 x2 (-24) post))))
def wM_readNot (sg : MS) (rE : MS → Int32 → (MS → Prop) → Prop) (x1 : Int32) (post : MS → Prop) : Prop :=
  (∃ n28, lM_readNot_2 rE x1 post (fun (y9 : Int32) (g10 : MS) => (wM_readSum g10 rE x1 (fun (g12 : MS) => (wM_isMarked g12 60 (fun (r13 : Int32) => (if (r13 = 0 : Prop) then (wM_isMarked g12 61 (fun (r26 : Int32) => (if (r26 = 0 : Prop) then (jM_readNot_93 g12 rE y9 post) else (jM_readNot_62 g12 rE x1 y9 post)))) else (jM_readNot_62 g12 rE x1 y9 post))))))) n28 0 sg)
-- readAnd
def lM_readAnd_5 (rE : MS → Int32 → (MS → Prop) → Prop) (x1 : Int32) (post : MS → Prop) : Nat → MS → Prop
  | 0, _ => False
  | n + 1, sg =>
  (wM_is sg [97, 110, 100] (fun (r5 : Int32) => (if (r5 = 0 : Prop) then (post sg) else (wM_stepOn sg (fun (g8 : MS) => (wM_readNot g8 rE x1 (fun (g10 : MS) => (wM_lay g10 (-26) (fun (g12 : MS) => ((lM_readAnd_5 rE x1 post n) g12))))))))))
def wM_readAnd (sg : MS) (rE : MS → Int32 → (MS → Prop) → Prop) (x1 : Int32) (post : MS → Prop) : Prop :=
  (wM_readNot sg rE x1 (fun (g2 : MS) => (∃ n13, lM_readAnd_5 rE x1 post n13 g2)))
-- readExpression
def lM_readExpressionF_67 (rE : MS → Int32 → (MS → Prop) → Prop) (x1 : Int32) (post : MS → Prop) : Nat → MS → Prop
  | 0, _ => False
  | n + 1, sg =>
  (wM_is sg [111, 114] (fun (r5 : Int32) => (if (r5 = 0 : Prop) then (post sg) else (wM_stepOn sg (fun (g8 : MS) => (wM_readAnd g8 rE x1 (fun (g10 : MS) => (wM_lay g10 (-27) (fun (g12 : MS) => ((lM_readExpressionF_67 rE x1 post n) g12))))))))))
def jM_readExpressionF_62 (sg : MS) (rE : MS → Int32 → (MS → Prop) → Prop) (x1 : Int32) (post : MS → Prop) : Prop :=
  (wM_readAnd sg rE x1 (fun (g2 : MS) => (∃ n13, lM_readExpressionF_67 rE x1 post n13 g2)))
def jM_readExpressionF_38 (sg : MS) (rE : MS → Int32 → (MS → Prop) → Prop) (x1 : Int32) (t0 : Int32) (post : MS → Prop) : Prop :=
  (if (t0 = 0 : Prop) then (wM_wrong sg 1 (fun (g17 : MS) => (jM_readExpressionF_62 g17 rE x1 post))) else (if (x1 = 6 : Prop) then (wM_wrong sg 2 (fun (g15 : MS) => (jM_readExpressionF_62 g15 rE x1 post))) else (jM_readExpressionF_62 sg rE x1 post)))
def jM_readExpressionF_33 (sg : MS) (rE : MS → Int32 → (MS → Prop) → Prop) (x1 : Int32) (post : MS → Prop) : Prop :=
  (jM_readExpressionF_38 sg rE x1 1 post)
def wM_readExpressionF (sg : MS) (rE : MS → Int32 → (MS → Prop) → Prop) (x1 : Int32) (post : MS → Prop) : Prop :=
  (if ((sg 0 21) = 0 : Prop) then (if ((sg 0 17) = 2 : Prop) then (jM_readExpressionF_33 sg rE x1 post) else (if ((sg 0 17) = 1 : Prop) then (jM_readExpressionF_33 sg rE x1 post) else (wM_isMarked sg 40 (fun (r18 : Int32) => (if (r18 = 0 : Prop) then (jM_readExpressionF_38 sg rE x1 0 post) else (jM_readExpressionF_33 sg rE x1 post)))))) else (post sg))
def wM_readExpression : Nat → MS → Int32 → (MS → Prop) → Prop
  | 0, _, _, _ => False
  | d + 1, sg, x, post => wM_readExpressionF sg (wM_readExpression d) x post
-- readLine
def jM_readLine_163 (sg : MS) (x1 : Int32) (x2 : Int32) (post : Int32 → MS → Prop) : Prop :=
  (wM_mark sg 59 (fun (g29 : MS) => (post (x1 ||| x2) g29)))
def jM_readLine_65 (sg : MS) (x1 : Int32) (x2 : Int32) (post : Int32 → MS → Prop) : Prop :=
  (if (x2 = 1 : Prop) then (wM_readNumber sg 1 40 (fun (r40 : Int32) (g41 : MS) => (jM_readLine_163 (s2 g41 4 10 r40) x1 x2 post))) else (wM_readExpression 7 sg 0 (fun (g39 : MS) => (jM_readLine_163 g39 x1 x2 post))))
def jM_readLine_50 (sg : MS) (x1 : Int32) (x2 : Int32) (x3 : Int32) (post : Int32 → MS → Prop) : Prop :=
  (if (x2 ≤ 0 : Prop) then (if (x3 = (-1) : Prop) then (wM_is sg [116, 111, 119, 110] (fun (r16 : Int32) => (if (r16 = 0 : Prop) then (wM_is sg [114, 111, 97, 100] (fun (r20 : Int32) => (if (r20 = 0 : Prop) then (wM_is sg [99, 97, 115, 101] (fun (r24 : Int32) => (if (r24 = 0 : Prop) then (wM_wrong sg 1 (fun (g27 : MS) => (jM_readLine_163 g27 x1 x2 post))) else (wM_readCase sg (fun (g31 : MS) => (jM_readLine_163 g31 x1 x2 post)))))) else (wM_readRoad sg (fun (g33 : MS) => (jM_readLine_163 g33 x1 x2 post)))))) else (wM_readTown sg (fun (g35 : MS) => (jM_readLine_163 g35 x1 x2 post)))))) else (wM_readJudge sg x3 (fun (g37 : MS) => (jM_readLine_163 g37 x1 x2 post)))) else (if ((sg 0 21) = 0 : Prop) then (wM_stepOn sg (fun (g43 : MS) => (jM_readLine_65 g43 x1 x2 post))) else (jM_readLine_65 sg x1 x2 post)))
def jM_readLine_29 (sg : MS) (x1 : Int32) (t0 : Int32) (post : Int32 → MS → Prop) : Prop :=
  (wM_which sg [[106, 117, 100, 103, 101], [100, 101, 97, 102], [119, 105, 115, 101]] (fun (r12 : Int32) => (if ((t0 &&& x1) = 0 : Prop) then (jM_readLine_50 sg x1 t0 r12 post) else (wM_wrong sg 5 (fun (g45 : MS) => (jM_readLine_50 g45 x1 t0 r12 post))))))
def wM_readLine (sg : MS) (x1 : Int32) (post : Int32 → MS → Prop) : Prop :=
  (wM_is sg [103, 111, 115, 115, 105, 112] (fun (r3 : Int32) => (if (r3 = 0 : Prop) then (wM_is sg [108, 97, 119] (fun (r7 : Int32) => (if (r7 = 0 : Prop) then (jM_readLine_29 sg x1 0 post) else (jM_readLine_29 sg x1 2 post)))) else (jM_readLine_29 sg x1 1 post))))
-- takeHalf
def lM_takeHalf_2 (a0 n0 : Nat) (post : MS → Prop) : Nat → Int32 → MS → Prop
  | 0, _, _ => False
  | n + 1, x1, sg =>
  (if (((nI n0) / 2) ≤ x1 : Prop) then (post sg) else (∃ i1 : Nat, i1 < n0 ∧ (((nI n0) / 2) + x1) = nI i1 ∧ (∃ i4 : Nat, i4 < n0 ∧ x1 = nI i4 ∧ ((lM_takeHalf_2 a0 n0 post n) (x1 + 1) (s2 sg (a0 + 1) i4 (sg (a0 + 1) i1))))))
def wM_takeHalf (sg : MS) (a0 n0 : Nat) (post : MS → Prop) : Prop :=
  (∃ n7, lM_takeHalf_2 a0 n0 post n7 0 sg)
-- tellFar
def jM_tellFar_70 (sg : MS) (x1 : Int32) (x2 : Int32) (t0 : Int32) (t1 : Int32) (post : MS → Prop) (kb : Int32 → MS → Prop) : Prop :=
  (∃ i8 : Nat, i8 < 81 ∧ t1 = nI i8 ∧ (kb (x2 + 1) (s2 sg 25 i8 t0)))
def lM_tellFar_14 (x1 : Int32) (post : MS → Prop) (ke_77 : MS → Prop) : Nat → Int32 → MS → Prop
  | 0, _, _ => False
  | n + 1, x2, sg =>
  (if ((sg 4 0) ≤ x2 : Prop) then (ke_77 sg) else (wM_couple sg x1 x2 (fun (r1 : Int32) => (if (x1 = x2 : Prop) then (jM_tellFar_70 sg x1 x2 0 r1 post (lM_tellFar_14 x1 post ke_77 n)) else (wM_couple sg x1 x2 (fun (r3 : Int32) => (∃ i5 : Nat, i5 < 162 ∧ r3 = nI i5 ∧ (if ((sg 5 i5) ≤ 0 : Prop) then (jM_tellFar_70 sg x1 x2 100000 r1 post (lM_tellFar_14 x1 post ke_77 n)) else (wM_couple sg x1 x2 (fun (r11 : Int32) => (∃ i13 : Nat, i13 < 162 ∧ r11 = nI i13 ∧ (jM_tellFar_70 sg x1 x2 (sg 5 i13) r1 post (lM_tellFar_14 x1 post ke_77 n)))))))))))))
def lM_tellFar_2 (post : MS → Prop) (ke_83 : MS → Prop) : Nat → Int32 → MS → Prop
  | 0, _, _ => False
  | n + 1, x1, sg =>
  (if ((sg 4 0) ≤ x1 : Prop) then (ke_83 sg) else (∃ n17, lM_tellFar_14 x1 post (fun (g16 : MS) => ((lM_tellFar_2 post ke_83 n) (x1 + 1) g16)) n17 0 sg))
def lM_tellFar_109 (x1 : Int32) (x2 : Int32) (post : MS → Prop) (ke_169 : MS → Prop) : Nat → Int32 → MS → Prop
  | 0, _, _ => False
  | n + 1, x3, sg =>
  (if ((sg 4 0) ≤ x3 : Prop) then (ke_169 sg) else (wM_couple sg x2 x3 (fun (r19 : Int32) => (wM_couple sg x2 x3 (fun (r21 : Int32) => (∃ i23 : Nat, i23 < 81 ∧ r21 = nI i23 ∧ (wM_couple sg x2 x1 (fun (r26 : Int32) => (∃ i28 : Nat, i28 < 81 ∧ r26 = nI i28 ∧ (wM_couple sg x1 x3 (fun (r31 : Int32) => (∃ i33 : Nat, i33 < 81 ∧ r31 = nI i33 ∧ (∃ i36 : Nat, i36 < 81 ∧ r19 = nI i36 ∧ ((lM_tellFar_109 x1 x2 post ke_169 n) (x3 + 1) (s2 sg 25 i36 (if ((sg 25 i28) + (sg 25 i33)) < (sg 25 i23) then ((sg 25 i28) + (sg 25 i33)) else (sg 25 i23)))))))))))))))))
def lM_tellFar_97 (x1 : Int32) (post : MS → Prop) (ke_175 : MS → Prop) : Nat → Int32 → MS → Prop
  | 0, _, _ => False
  | n + 1, x2, sg =>
  (if ((sg 4 0) ≤ x2 : Prop) then (ke_175 sg) else (∃ n40, lM_tellFar_109 x1 x2 post (fun (g39 : MS) => ((lM_tellFar_97 x1 post ke_175 n) (x2 + 1) g39)) n40 0 sg))
def lM_tellFar_85 (post : MS → Prop) : Nat → Int32 → MS → Prop
  | 0, _, _ => False
  | n + 1, x1, sg =>
  (if ((sg 4 0) ≤ x1 : Prop) then (post sg) else (∃ n42, lM_tellFar_97 x1 post (fun (g41 : MS) => ((lM_tellFar_85 post n) (x1 + 1) g41)) n42 0 sg))
def wM_tellFar (sg : MS) (post : MS → Prop) : Prop :=
  (∃ n44, lM_tellFar_2 post (fun (g18 : MS) => (∃ n43, lM_tellFar_85 post n43 0 g18)) n44 0 sg)
-- takeOver
def wM_takeOver (sg : MS) (post : MS → Prop) : Prop :=
  (wM_takeHalf sg 3 14 (fun (g2 : MS) => (wM_takeHalf g2 4 162 (fun (g4 : MS) => (wM_takeHalf g4 5 10 (fun (g6 : MS) => (wM_takeHalf g6 6 10 (fun (g8 : MS) => (wM_takeHalf g8 7 10 (fun (g10 : MS) => (wM_takeHalf g10 8 10 (fun (g12 : MS) => (wM_takeHalf g12 9 70 (fun (g14 : MS) => (wM_takeHalf g14 10 108 (fun (g16 : MS) => (wM_takeHalf g16 11 1200 (fun (g18 : MS) => (wM_tellFar (s2 (s2 (s2 (s2 (s2 (s2 (s2 g18 0 29 (g18 4 1)) 0 30 0) 0 31 0) 0 32 0) 0 33 0) 0 34 0) 0 54 0) (fun (g20 : MS) => (post g20)))))))))))))))))))))
-- land
def jM_land_17 (sg : MS) (post : Int32 → MS → Prop) : Prop :=
  (wM_fail sg 1 (fun (r1 : Int32) (g2 : MS) => (post r1 g2)))
def jM_land_75 (sg : MS) (x2 : Int32) (t0 : Int32) (t1 : Int32) (post : Int32 → MS → Prop) (kb : Int32 → MS → Prop) : Prop :=
  (∃ i3 : Nat, i3 < 14 ∧ t1 = nI i3 ∧ (kb (x2 + 1) (s2 sg 4 i3 t0)))
def lM_land_50 (post : Int32 → MS → Prop) (ke_82 : MS → Prop) : Nat → Int32 → MS → Prop
  | 0, _, _ => False
  | n + 1, x2, sg =>
  (if (7 ≤ x2 : Prop) then (ke_82 sg) else (if (x2 = 3 : Prop) then (jM_land_75 sg x2 10 (7 + x2) post (lM_land_50 post ke_82 n)) else (jM_land_75 sg x2 0 (7 + x2) post (lM_land_50 post ke_82 n))))
def lM_land_84 (post : Int32 → MS → Prop) (ke_106 : MS → Prop) : Nat → Int32 → MS → Prop
  | 0, _, _ => False
  | n + 1, x2, sg =>
  (if (81 ≤ x2 : Prop) then (ke_106 sg) else (∃ i7 : Nat, i7 < 162 ∧ (81 + x2) = nI i7 ∧ ((lM_land_84 post ke_106 n) (x2 + 1) (s2 sg 5 i7 0))))
def lM_land_112 (post : Int32 → MS → Prop) (ke_135 : MS → Prop) : Nat → Int32 → MS → Prop
  | 0, _, _ => False
  | n + 1, x2, sg =>
  (if ((sg 0 21) = 0 : Prop) then (if ((sg 0 17) = 0 : Prop) then (ke_135 sg) else (wM_readLine sg x2 (fun (r13 : Int32) (g14 : MS) => ((lM_land_112 post ke_135 n) r13 g14)))) else (ke_135 sg))
def jM_land_135 (sg : MS) (post : Int32 → MS → Prop) : Prop :=
  (if ((sg 0 21) = 0 : Prop) then (wM_takeOver sg (fun (g17 : MS) => (post 0 g17))) else (post ((s2 (s2 sg 0 23 (sg 0 22)) 13 0 (((s2 sg 0 23 (sg 0 22)) 13 0) + 1)) 0 21) (s2 (s2 sg 0 23 (sg 0 22)) 13 0 (((s2 sg 0 23 (sg 0 22)) 13 0) + 1))))
def wM_land (sg : MS) (x1 : Int32) (post : Int32 → MS → Prop) : Prop :=
  (if (x1 < 0 : Prop) then (jM_land_17 (s2 sg 0 2 0) post) else (if (x1 ≤ ((s2 sg 0 2 0) 0 14) : Prop) then (∃ n20, lM_land_50 post (fun (g6 : MS) => (∃ n19, lM_land_84 post (fun (g10 : MS) => (wM_stepOn g10 (fun (g12 : MS) => (∃ n18, lM_land_112 post (fun (g15 : MS) => (jM_land_135 g15 post)) n18 0 g12)))) n19 0 g6)) n20 0 (s2 (s2 (s2 (s2 (s2 (s2 sg 0 2 0) 0 14 0) 0 16 x1) 0 15 0) 0 21 0) 0 23 (-1))) else (jM_land_17 (s2 sg 0 2 0) post)))
-- fault
def wM_fault (sg : MS) (post : Int32 → MS → Prop) : Prop :=
  (post ((s2 sg 0 2 0) 0 23) (s2 sg 0 2 0))
-- set
def jM_set_54 (sg : MS) (x1 : Int32) (t0 : Int32) (t1 : Int32) (post : MS → Prop) (kb : Int32 → MS → Prop) : Prop :=
  (kb (x1 + 1) (s2 sg 0 41 (t1 ||| t0)))
def lM_set_22 (post : MS → Prop) : Nat → Int32 → MS → Prop
  | 0, _, _ => False
  | n + 1, x1, sg =>
  (if ((sg 4 4) ≤ x1 : Prop) then (post sg) else (∃ i1 : Nat, i1 < 10 ∧ x1 = nI i1 ∧ (if ((sg 6 i1) = 1 : Prop) then (jM_set_54 sg x1 ((1 : Int32) <<< ((x1 : Int32) &&& 31)) (sg 0 41) post (lM_set_22 post n)) else (jM_set_54 sg x1 0 (sg 0 41) post (lM_set_22 post n)))))
def wM_set (sg : MS) (post : MS → Prop) : Prop :=
  (∃ n4, lM_set_22 post n4 0 (s2 (s2 (s2 (s2 sg 0 40 (-1)) 0 42 0) 0 43 (-1)) 0 41 0))
-- saidAhead
def jM_saidAhead_52 (sg : MS) (x1 : Int32) (x2 : Int32) (x4 : Int32) (t0 : Int32) (t1 : Int32) (post : Int32 → Prop) (kb : Int32 → Int32 → Prop) : Prop :=
  (kb (t1 + t0) (x4 + 1))
def jM_saidAhead_51 (sg : MS) (x1 : Int32) (x2 : Int32) (x4 : Int32) (t0 : Int32) (post : Int32 → Prop) (kb : Int32 → Int32 → Prop) : Prop :=
  (jM_saidAhead_52 sg x1 x2 x4 0 t0 post kb)
def lM_saidAhead_5 (sg : MS) (x1 : Int32) (x2 : Int32) (post : Int32 → Prop) : Nat → Int32 → Int32 → Prop
  | 0, _, _ => False
  | n + 1, x3, x4 =>
  (if ((sg 4 4) ≤ x4 : Prop) then (post x3) else (∃ i1 : Nat, i1 < 30 ∧ ((5 * x1) + x4) = nI i1 ∧ (if ((sg 45 i1) = (-1) : Prop) then (jM_saidAhead_51 sg x1 x2 x4 x3 post (lM_saidAhead_5 sg x1 x2 post n)) else (∃ i4 : Nat, i4 < 30 ∧ ((5 * x1) + x4) = nI i4 ∧ (if (x2 ≤ (sg 46 i4) : Prop) then (jM_saidAhead_51 sg x1 x2 x4 x3 post (lM_saidAhead_5 sg x1 x2 post n)) else (jM_saidAhead_52 sg x1 x2 x4 1 x3 post (lM_saidAhead_5 sg x1 x2 post n)))))))
def wM_saidAhead (sg : MS) (x1 : Int32) (x2 : Int32) (post : Int32 → Prop) : Prop :=
  (∃ n7, lM_saidAhead_5 sg x1 x2 post n7 0 0)
-- reckon
def wM_reckon (sg : MS) (x0 : Int32) (x1 : Int32) (x2 : Int32) (post : Int32 → Prop) : Prop :=
  (if x0 = (-26) then (if (x1 = 0 : Prop) then (post 0) else (if (x2 = 0 : Prop) then (post 0) else (post 1))) else (if x0 = (-25) then (if (x1 = x2 : Prop) then (post 1) else (post 0)) else (if x0 = (-24) then (if (x2 ≤ x1 : Prop) then (post 0) else (post 1)) else (if x0 = (-23) then (if (x2 = 0 : Prop) then (post 0) else (¬ x2 = 0 ∧ (post (x1 / x2)))) else (if x0 = (-22) then (post (x1 * x2)) else (if x0 = (-21) then (post (x1 - x2)) else (if x0 = (-20) then (post (x1 + x2)) else (if (x1 = 0 : Prop) then (if (x2 = 0 : Prop) then (post 0) else (post 1)) else (post 1)))))))))
-- valueNow
def jM_valueNow_118 (sg : MS) (x1 : Int32) (x2 : Int32) (post : Int32 → MS → Prop) (kb : Int32 → Int32 → MS → Prop) : Prop :=
  (kb x1 (x2 + 1) sg)
def jM_valueNow_85 (sg : MS) (x1 : Int32) (x2 : Int32) (t0 : Int32) (t1 : Int32) (post : Int32 → MS → Prop) (kb : Int32 → Int32 → MS → Prop) : Prop :=
  (∃ i18 : Nat, i18 < 64 ∧ t1 = nI i18 ∧ (jM_valueNow_118 (s2 sg 37 i18 t0) x1 x2 post kb))
def jM_valueNow_49 (sg : MS) (x1 : Int32) (x2 : Int32) (t0 : Int32) (t1 : Int32) (post : Int32 → MS → Prop) (kb : Int32 → Int32 → MS → Prop) : Prop :=
  (∃ i24 : Nat, i24 < 64 ∧ t1 = nI i24 ∧ (jM_valueNow_118 (s2 sg 37 i24 t0) (x1 + 1) x2 post kb))
def lM_valueNow_4 (post : Int32 → MS → Prop) (ke_124 : MS → Prop) : Nat → Int32 → Int32 → MS → Prop
  | 0, _, _, _ => False
  | n + 1, x1, x2, sg =>
  (if ((sg 4 6) ≤ x2 : Prop) then (ke_124 sg) else (∃ i1 : Nat, i1 < 1200 ∧ x2 = nI i1 ∧ (if ((sg 12 i1) ≤ (-20) : Prop) then (if ((sg 12 i1) = (-28) : Prop) then (∃ i15 : Nat, i15 < 64 ∧ (x1 - 1) = nI i15 ∧ (if ((sg 37 i15) = 0 : Prop) then (jM_valueNow_85 sg x1 x2 1 (x1 - 1) post (lM_valueNow_4 post ke_124 n)) else (jM_valueNow_85 sg x1 x2 0 (x1 - 1) post (lM_valueNow_4 post ke_124 n)))) else (∃ i4 : Nat, i4 < 64 ∧ ((x1 + (-1)) - 1) = nI i4 ∧ (∃ i7 : Nat, i7 < 64 ∧ (x1 + (-1)) = nI i7 ∧ (wM_reckon sg (sg 12 i1) (sg 37 i4) (sg 37 i7) (fun (r10 : Int32) => (∃ i12 : Nat, i12 < 64 ∧ ((x1 + (-1)) - 1) = nI i12 ∧ (jM_valueNow_118 (s2 sg 37 i12 r10) (x1 + (-1)) x2 post (lM_valueNow_4 post ke_124 n)))))))) else (if ((sg 12 i1) < 0 : Prop) then (∃ i21 : Nat, i21 < 5 ∧ ((-1) - (sg 12 i1)) = nI i21 ∧ (jM_valueNow_49 sg x1 x2 (sg 36 i21) x1 post (lM_valueNow_4 post ke_124 n))) else (jM_valueNow_49 sg x1 x2 (sg 12 i1) x1 post (lM_valueNow_4 post ke_124 n))))))
def wM_valueNow (sg : MS) (post : Int32 → MS → Prop) : Prop :=
  (∃ n28, lM_valueNow_4 post (fun (g27 : MS) => (post (g27 37 0) g27)) n28 0 0 sg)
-- holds
def jM_holds_115 (sg : MS) (t0 : Int32) (t1 : Int32) (post : Int32 → MS → Prop) : Prop :=
  (if (t1 = t0 : Prop) then (post 0 sg) else (post 1 sg))
def jM_holds_98 (sg : MS) (x2 : Int32) (x6 : Int32) (post : Int32 → MS → Prop) : Prop :=
  (∃ i4 : Nat, i4 < 10 ∧ x2 = nI i4 ∧ (if ((sg 6 i4) = 2 : Prop) then (jM_holds_115 sg 1 x6 post) else (jM_holds_115 sg 0 x6 post)))
def jM_holds_96 (sg : MS) (x2 : Int32) (t0 : Int32) (post : Int32 → MS → Prop) : Prop :=
  (jM_holds_98 sg x2 t0 post)
def jM_holds_24 (sg : MS) (x1 : Int32) (x2 : Int32) (x3 : Int32) (x4 : Int32) (x5 : Int32) (t0 : Int32) (post : Int32 → MS → Prop) : Prop :=
  (if ((sg 4 6) ≤ 0 : Prop) then (jM_holds_98 sg x2 t0 post) else (∃ i7 : Nat, i7 < 10 ∧ x2 = nI i7 ∧ (wM_saidAhead (s2 (s2 (s2 (s2 sg 36 0 x5) 36 1 ((s2 sg 36 0 x5) 8 i7)) 36 2 x4) 36 3 x3) x1 x4 (fun (r10 : Int32) => (wM_valueNow (s2 (s2 (s2 (s2 (s2 sg 36 0 x5) 36 1 ((s2 sg 36 0 x5) 8 i7)) 36 2 x4) 36 3 x3) 36 4 r10) (fun (r12 : Int32) (g13 : MS) => (if (r12 ≤ 0 : Prop) then (jM_holds_96 g13 x2 0 post) else (jM_holds_96 g13 x2 1 post))))))))
def wM_holds (sg : MS) (x1 : Int32) (x2 : Int32) (x3 : Int32) (x4 : Int32) (post : Int32 → MS → Prop) : Prop :=
  (∃ i1 : Nat, i1 < 108 ∧ ((9 * x1) + x3) = nI i1 ∧ (if ((sg 11 i1) ≤ 4 : Prop) then (jM_holds_24 sg x1 x2 x3 x4 (sg 11 i1) 0 post) else (jM_holds_24 sg x1 x2 x3 x4 (sg 11 i1) 1 post)))
-- isFeast
def jM_isFeast_52 (sg : MS) (x1 : Int32) (x2 : Int32) (x3 : Int32) (post : Int32 → Prop) (kb : Int32 → Prop) : Prop :=
  (kb (x3 + 1))
def lM_isFeast_2 (sg : MS) (x1 : Int32) (x2 : Int32) (post : Int32 → Prop) : Nat → Int32 → Prop
  | 0, _ => False
  | n + 1, x3 =>
  (if ((sg 0 31) ≤ x3 : Prop) then (post 0) else (∃ i1 : Nat, i1 < 12 ∧ (3 * x3) = nI i1 ∧ (if ((sg 27 i1) = x1 : Prop) then (∃ i4 : Nat, i4 < 12 ∧ ((3 * x3) + 1) = nI i4 ∧ (if (x2 < (sg 27 i4) : Prop) then (jM_isFeast_52 sg x1 x2 x3 post (lM_isFeast_2 sg x1 x2 post n)) else (∃ i7 : Nat, i7 < 12 ∧ ((3 * x3) + 2) = nI i7 ∧ (if ((sg 27 i7) < x2 : Prop) then (jM_isFeast_52 sg x1 x2 x3 post (lM_isFeast_2 sg x1 x2 post n)) else (post 1))))) else (jM_isFeast_52 sg x1 x2 x3 post (lM_isFeast_2 sg x1 x2 post n)))))
def wM_isFeast (sg : MS) (x1 : Int32) (x2 : Int32) (post : Int32 → Prop) : Prop :=
  (∃ n10, lM_isFeast_2 sg x1 x2 post n10 0)
-- hear
def jM_hear_101 (sg : MS) (x1 : Int32) (x2 : Int32) (x3 : Int32) (x4 : Int32) (post : MS → Prop) (kb : Int32 → MS → Prop) : Prop :=
  (kb (x4 + 1) sg)
def jM_hear_84 (sg : MS) (x1 : Int32) (x2 : Int32) (x3 : Int32) (x4 : Int32) (x5 : Int32) (t0 : Int32) (t1 : Int32) (post : MS → Prop) (kb : Int32 → MS → Prop) : Prop :=
  (∃ i11 : Nat, i11 < 30 ∧ t1 = nI i11 ∧ (∃ i14 : Nat, i14 < 30 ∧ x5 = nI i14 ∧ (∃ i17 : Nat, i17 < 30 ∧ x5 = nI i17 ∧ (jM_hear_101 (s2 (s2 (s2 sg 45 i11 t0) 46 i14 x3) 47 i17 x2) x1 x2 x3 x4 post kb))))
def lM_hear_3 (x1 : Int32) (x2 : Int32) (x3 : Int32) (post : MS → Prop) : Nat → Int32 → MS → Prop
  | 0, _, _ => False
  | n + 1, x4, sg =>
  (if ((sg 4 5) ≤ x4 : Prop) then (post sg) else (wM_isFeast sg x2 x3 (fun (r1 : Int32) => (if (r1 = 0 : Prop) then (∃ i3 : Nat, i3 < 108 ∧ ((9 * x4) + x2) = nI i3 ∧ (if ((sg 11 i3) = (-1) : Prop) then (jM_hear_101 sg x1 x2 x3 x4 post (lM_hear_3 x1 x2 x3 post n)) else (∃ i6 : Nat, i6 < 30 ∧ ((5 * x4) + x1) = nI i6 ∧ (if ((sg 45 i6) = (-1) : Prop) then (wM_holds sg x4 x1 x2 x3 (fun (r9 : Int32) (g10 : MS) => (if (r9 = 0 : Prop) then (jM_hear_84 g10 x1 x2 x3 x4 ((5 * x4) + x1) 0 ((5 * x4) + x1) post (lM_hear_3 x1 x2 x3 post n)) else (jM_hear_84 g10 x1 x2 x3 x4 ((5 * x4) + x1) 1 ((5 * x4) + x1) post (lM_hear_3 x1 x2 x3 post n))))) else (jM_hear_101 sg x1 x2 x3 x4 post (lM_hear_3 x1 x2 x3 post n)))))) else (post sg)))))
def wM_hear (sg : MS) (x1 : Int32) (x2 : Int32) (x3 : Int32) (post : MS → Prop) : Prop :=
  (∃ n20, lM_hear_3 x1 x2 x3 post n20 0 sg)
-- newsDays
def wM_newsDays (sg : MS) (x1 : Int32) (x2 : Int32) (post : Int32 → Prop) : Prop :=
  (wM_couple sg x1 x2 (fun (r1 : Int32) => (∃ i3 : Nat, i3 < 81 ∧ r1 = nI i3 ∧ (if ((sg 25 i3) < 100000 : Prop) then (post ((((sg 25 i3) * (sg 4 3)) + 9) / 10)) else (post 100000)))))
-- newsBy
def wM_newsBy (sg : MS) (x1 : Int32) (x2 : Int32) (x3 : Int32) (post : Int32 → Prop) : Prop :=
  (∃ i1 : Nat, i1 < 30 ∧ ((5 * x1) + x2) = nI i1 ∧ (if ((sg 45 i1) = (-1) : Prop) then (post 100000) else (∃ i4 : Nat, i4 < 30 ∧ ((5 * x1) + x2) = nI i4 ∧ (∃ i7 : Nat, i7 < 30 ∧ ((5 * x1) + x2) = nI i7 ∧ (wM_newsDays sg (sg 47 i7) x3 (fun (r10 : Int32) => (post ((sg 46 i4) + r10))))))))
-- newsByWord
def jM_newsByWord_61 (sg : MS) (x1 : Int32) (x2 : Int32) (x3 : Int32) (x4 : Int32) (post : Int32 → Prop) (kb : Int32 → Int32 → Prop) : Prop :=
  (kb x3 (x4 + 1))
def lM_newsByWord_6 (sg : MS) (x1 : Int32) (x2 : Int32) (post : Int32 → Prop) : Nat → Int32 → Int32 → Prop
  | 0, _, _ => False
  | n + 1, x3, x4 =>
  (if ((sg 0 30) ≤ x4 : Prop) then (post x3) else (∃ i1 : Nat, i1 < 15 ∧ (3 * x4) = nI i1 ∧ (if ((sg 26 i1) = x1 : Prop) then (∃ i4 : Nat, i4 < 15 ∧ ((3 * x4) + 2) = nI i4 ∧ (∃ i7 : Nat, i7 < 15 ∧ ((3 * x4) + 1) = nI i7 ∧ (wM_newsDays sg (sg 26 i7) x2 (fun (r10 : Int32) => (jM_newsByWord_61 sg x1 x2 (if ((sg 26 i4) + r10) < x3 then ((sg 26 i4) + r10) else x3) x4 post (lM_newsByWord_6 sg x1 x2 post n)))))) else (jM_newsByWord_61 sg x1 x2 x3 x4 post (lM_newsByWord_6 sg x1 x2 post n)))))
def wM_newsByWord (sg : MS) (x1 : Int32) (x2 : Int32) (post : Int32 → Prop) : Prop :=
  (∃ n12, lM_newsByWord_6 sg x1 x2 post n12 100000 0)
-- isVoided
def jM_isVoided_200 (sg : MS) (x1 : Int32) (x2 : Int32) (x3 : Int32) (x4 : Int32) (x5 : Int32) (x6 : Int32) (x7 : Int32) (post : Int32 → Prop) (kb : Int32 → Prop) : Prop :=
  (kb (x7 + 1))
def lM_isVoided_132 (sg : MS) (x1 : Int32) (x2 : Int32) (x3 : Int32) (x4 : Int32) (x5 : Int32) (x6 : Int32) (post : Int32 → Prop) (ke_206 : Prop) : Nat → Int32 → Prop
  | 0, _ => False
  | n + 1, x7 =>
  (if ((sg 4 4) ≤ x7 : Prop) then ke_206 else (if (x7 = x2 : Prop) then (jM_isVoided_200 sg x1 x2 x3 x4 x5 x6 x7 post (lM_isVoided_132 sg x1 x2 x3 x4 x5 x6 post ke_206 n)) else (∃ i21 : Nat, i21 < 30 ∧ ((5 * x1) + x7) = nI i21 ∧ (if ((sg 45 i21) = (-1) : Prop) then (jM_isVoided_200 sg x1 x2 x3 x4 x5 x6 x7 post (lM_isVoided_132 sg x1 x2 x3 x4 x5 x6 post ke_206 n)) else (∃ i24 : Nat, i24 < 30 ∧ ((5 * x1) + x7) = nI i24 ∧ (∃ i27 : Nat, i27 < 30 ∧ x3 = nI i27 ∧ (if ((sg 46 i27) ≤ (sg 46 i24) : Prop) then (jM_isVoided_200 sg x1 x2 x3 x4 x5 x6 x7 post (lM_isVoided_132 sg x1 x2 x3 x4 x5 x6 post ke_206 n)) else (wM_newsBy sg x1 x7 x5 (fun (r30 : Int32) => (if (x6 < r30 : Prop) then (jM_isVoided_200 sg x1 x2 x3 x4 x5 x6 x7 post (lM_isVoided_132 sg x1 x2 x3 x4 x5 x6 post ke_206 n)) else (post 1)))))))))))
def lM_isVoided_55 (sg : MS) (x1 : Int32) (x2 : Int32) (x3 : Int32) (post : Int32 → Prop) : Nat → Int32 → Prop
  | 0, _ => False
  | n + 1, x4 =>
  (∃ i4 : Nat, i4 < 10 ∧ x2 = nI i4 ∧ (if ((sg 9 i4) ≤ x4 : Prop) then (post 0) else (∃ i7 : Nat, i7 < 35 ∧ ((7 * x2) + x4) = nI i7 ∧ (∃ i10 : Nat, i10 < 30 ∧ x3 = nI i10 ∧ (if ((sg 46 i10) < (sg 39 i7) : Prop) then (post 0) else (∃ i13 : Nat, i13 < 35 ∧ ((7 * x2) + x4) = nI i13 ∧ (∃ i16 : Nat, i16 < 35 ∧ ((7 * x2) + x4) = nI i16 ∧ (wM_newsByWord sg x1 (sg 38 i13) (fun (r19 : Int32) => (if ((sg 39 i16) < r19 : Prop) then (∃ n32, lM_isVoided_132 sg x1 x2 x3 x4 (sg 38 i13) (sg 39 i16) post (((lM_isVoided_55 sg x1 x2 x3 post n) (x4 + 1))) n32 0) else (post 1)))))))))))
def jM_isVoided_52 (sg : MS) (x1 : Int32) (x2 : Int32) (x3 : Int32) (post : Int32 → Prop) : Prop :=
  (∃ n33, lM_isVoided_55 sg x1 x2 x3 post n33 0)
def wM_isVoided (sg : MS) (x1 : Int32) (x2 : Int32) (post : Int32 → Prop) : Prop :=
  (∃ i1 : Nat, i1 < 30 ∧ ((5 * x1) + x2) = nI i1 ∧ (if ((sg 45 i1) = (-1) : Prop) then (post 0) else (if (((((sg 0 41) : Int32) >>> ((x2 : Int32) &&& 31)) &&& 1) = 1 : Prop) then (post 0) else (if (x1 = (sg 0 43) : Prop) then (if (((((sg 0 42) : Int32) >>> ((x2 : Int32) &&& 31)) &&& 1) = 1 : Prop) then (post 1) else (jM_isVoided_52 sg x1 x2 ((5 * x1) + x2) post)) else (jM_isVoided_52 sg x1 x2 ((5 * x1) + x2) post)))))
-- isGood
def wM_isGood (sg : MS) (x1 : Int32) (x2 : Int32) (post : Int32 → Prop) : Prop :=
  (∃ i1 : Nat, i1 < 30 ∧ ((5 * x1) + x2) = nI i1 ∧ (if ((sg 45 i1) = 1 : Prop) then (∃ i4 : Nat, i4 < 30 ∧ ((5 * x1) + x2) = nI i4 ∧ (if ((sg 48 i4) = 0 : Prop) then (post 1) else (post 0))) else (post 0)))
-- three
def wM_three (sg : MS) (x1 : Int32) (x2 : Int32) (x3 : Int32) (x4 : Int32) (post : Int32 → Prop) : Prop :=
  (wM_isGood sg x1 x2 (fun (r1 : Int32) => (if (r1 = 0 : Prop) then (post 100000) else (wM_isGood sg x1 x3 (fun (r3 : Int32) => (if (r3 = 0 : Prop) then (post 100000) else (wM_isGood sg x1 x4 (fun (r5 : Int32) => (if (r5 = 0 : Prop) then (post 100000) else (∃ i7 : Nat, i7 < 30 ∧ ((5 * x1) + x2) = nI i7 ∧ (∃ i10 : Nat, i10 < 30 ∧ ((5 * x1) + x3) = nI i10 ∧ (if ((sg 47 i7) = (sg 47 i10) : Prop) then (post 100000) else (∃ i13 : Nat, i13 < 30 ∧ ((5 * x1) + x2) = nI i13 ∧ (∃ i16 : Nat, i16 < 30 ∧ ((5 * x1) + x4) = nI i16 ∧ (if ((sg 47 i13) = (sg 47 i16) : Prop) then (post 100000) else (∃ i19 : Nat, i19 < 30 ∧ ((5 * x1) + x3) = nI i19 ∧ (∃ i22 : Nat, i22 < 30 ∧ ((5 * x1) + x4) = nI i22 ∧ (if ((sg 47 i19) = (sg 47 i22) : Prop) then (post 100000) else (∃ i25 : Nat, i25 < 30 ∧ ((5 * x1) + x2) = nI i25 ∧ (∃ i28 : Nat, i28 < 30 ∧ ((5 * x1) + x3) = nI i28 ∧ (∃ i31 : Nat, i31 < 30 ∧ ((5 * x1) + x4) = nI i31 ∧ (∃ i34 : Nat, i34 < 25 ∧ ((5 * x2) + x3) = nI i34 ∧ (if ((sg 40 i34) ≤ (if (sg 46 i25) < (if (sg 46 i28) < (sg 46 i31) then (sg 46 i31) else (sg 46 i28)) then (if (sg 46 i28) < (sg 46 i31) then (sg 46 i31) else (sg 46 i28)) else (sg 46 i25)) : Prop) then (post 100000) else (∃ i37 : Nat, i37 < 25 ∧ ((5 * x2) + x4) = nI i37 ∧ (if ((sg 40 i37) ≤ (if (sg 46 i25) < (if (sg 46 i28) < (sg 46 i31) then (sg 46 i31) else (sg 46 i28)) then (if (sg 46 i28) < (sg 46 i31) then (sg 46 i31) else (sg 46 i28)) else (sg 46 i25)) : Prop) then (post 100000) else (∃ i40 : Nat, i40 < 25 ∧ ((5 * x3) + x4) = nI i40 ∧ (if ((sg 40 i40) ≤ (if (sg 46 i25) < (if (sg 46 i28) < (sg 46 i31) then (sg 46 i31) else (sg 46 i28)) then (if (sg 46 i28) < (sg 46 i31) then (sg 46 i31) else (sg 46 i28)) else (sg 46 i25)) : Prop) then (post 100000) else (post (if (sg 46 i25) < (if (sg 46 i28) < (sg 46 i31) then (sg 46 i31) else (sg 46 i28)) then (if (sg 46 i28) < (sg 46 i31) then (sg 46 i31) else (sg 46 i28)) else (sg 46 i25))))))))))))))))))))))))))))))
-- judgeCase
def jM_judgeCase_35 (sg : MS) (x1 : Int32) (x2 : Int32) (t0 : Int32) (t1 : Int32) (post : MS → Prop) (kb : Int32 → MS → Prop) : Prop :=
  (∃ i3 : Nat, i3 < 30 ∧ t1 = nI i3 ∧ (kb (x2 + 1) (s2 sg 48 i3 t0)))
def lM_judgeCase_2 (x1 : Int32) (post : MS → Prop) (ke_42 : MS → Prop) : Nat → Int32 → MS → Prop
  | 0, _, _ => False
  | n + 1, x2, sg =>
  (if ((sg 4 4) ≤ x2 : Prop) then (ke_42 sg) else (wM_isVoided sg x1 x2 (fun (r1 : Int32) => (if (r1 = 0 : Prop) then (jM_judgeCase_35 sg x1 x2 0 ((5 * x1) + x2) post (lM_judgeCase_2 x1 post ke_42 n)) else (jM_judgeCase_35 sg x1 x2 1 ((5 * x1) + x2) post (lM_judgeCase_2 x1 post ke_42 n))))))
def jM_judgeCase_150 (sg : MS) (x1 : Int32) (x2 : Int32) (x3 : Int32) (x4 : Int32) (post : MS → Prop) (kb : Int32 → MS → Prop) : Prop :=
  (kb (x4 + 1) sg)
def lM_judgeCase_88 (x1 : Int32) (x2 : Int32) (x3 : Int32) (post : MS → Prop) (ke_156 : MS → Prop) : Nat → Int32 → MS → Prop
  | 0, _, _ => False
  | n + 1, x4, sg =>
  (if ((sg 4 4) ≤ x4 : Prop) then (ke_156 sg) else (wM_three sg x1 x2 x3 x4 (fun (r13 : Int32) => (∃ i15 : Nat, i15 < 6 ∧ x1 = nI i15 ∧ (if (r13 < (sg 49 i15) : Prop) then (∃ i18 : Nat, i18 < 6 ∧ x1 = nI i18 ∧ (∃ i21 : Nat, i21 < 6 ∧ x1 = nI i21 ∧ (jM_judgeCase_150 (s2 (s2 sg 49 i18 r13) 50 i21 ((((1 : Int32) <<< ((x2 : Int32) &&& 31)) ||| ((1 : Int32) <<< ((x3 : Int32) &&& 31))) ||| ((1 : Int32) <<< ((x4 : Int32) &&& 31)))) x1 x2 x3 x4 post (lM_judgeCase_88 x1 x2 x3 post ke_156 n)))) else (jM_judgeCase_150 sg x1 x2 x3 x4 post (lM_judgeCase_88 x1 x2 x3 post ke_156 n)))))))
def lM_judgeCase_73 (x1 : Int32) (x2 : Int32) (post : MS → Prop) (ke_162 : MS → Prop) : Nat → Int32 → MS → Prop
  | 0, _, _ => False
  | n + 1, x3, sg =>
  (if ((sg 4 4) ≤ x3 : Prop) then (ke_162 sg) else (∃ n25, lM_judgeCase_88 x1 x2 x3 post (fun (g24 : MS) => ((lM_judgeCase_73 x1 x2 post ke_162 n) (x3 + 1) g24)) n25 (x3 + 1) sg))
def lM_judgeCase_59 (x1 : Int32) (post : MS → Prop) : Nat → Int32 → MS → Prop
  | 0, _, _ => False
  | n + 1, x2, sg =>
  (if ((sg 4 4) ≤ x2 : Prop) then (post sg) else (∃ n27, lM_judgeCase_73 x1 x2 post (fun (g26 : MS) => ((lM_judgeCase_59 x1 post n) (x2 + 1) g26)) n27 (x2 + 1) sg))
def wM_judgeCase (sg : MS) (x1 : Int32) (post : MS → Prop) : Prop :=
  (∃ n29, lM_judgeCase_2 x1 post (fun (g6 : MS) => (∃ i7 : Nat, i7 < 6 ∧ x1 = nI i7 ∧ (∃ i10 : Nat, i10 < 6 ∧ x1 = nI i10 ∧ (∃ n28, lM_judgeCase_59 x1 post n28 0 (s2 (s2 g6 49 i7 100000) 50 i10 0))))) n29 0 sg)
-- judgeAll
def jM_judgeAll_36 (sg : MS) (x2 : Int32) (t0 : Int32) (t1 : Int32) (post : Int32 → MS → Prop) (kb : Int32 → Int32 → MS → Prop) : Prop :=
  (kb (t1 + t0) (x2 + 1) sg)
def lM_judgeAll_4 (post : Int32 → MS → Prop) : Nat → Int32 → Int32 → MS → Prop
  | 0, _, _, _ => False
  | n + 1, x1, x2, sg =>
  (if ((sg 4 5) ≤ x2 : Prop) then (post x1 sg) else (wM_judgeCase sg x2 (fun (g2 : MS) => (∃ i3 : Nat, i3 < 6 ∧ x2 = nI i3 ∧ (if (100000 ≤ (g2 49 i3) : Prop) then (jM_judgeAll_36 g2 x2 0 x1 post (lM_judgeAll_4 post n)) else (jM_judgeAll_36 g2 x2 1 x1 post (lM_judgeAll_4 post n)))))))
def wM_judgeAll (sg : MS) (post : Int32 → MS → Prop) : Prop :=
  (∃ n6, lM_judgeAll_4 post n6 0 0 sg)
-- isMeeting
def jM_isMeeting_104 (sg : MS) (x1 : Int32) (x2 : Int32) (x3 : Int32) (x4 : Int32) (post : Int32 → Prop) (kb : Int32 → Prop) : Prop :=
  (kb (x4 + 1))
def lM_isMeeting_22 (sg : MS) (x1 : Int32) (x2 : Int32) (x3 : Int32) (post : Int32 → Prop) : Nat → Int32 → Prop
  | 0, _ => False
  | n + 1, x4 =>
  (if ((sg 0 32) ≤ x4 : Prop) then (post 0) else (∃ i1 : Nat, i1 < 18 ∧ (3 * x4) = nI i1 ∧ (∃ i4 : Nat, i4 < 18 ∧ ((3 * x4) + 2) = nI i4 ∧ (∃ i7 : Nat, i7 < 18 ∧ ((3 * x4) + 1) = nI i7 ∧ (if ((sg 28 i7) = x3 : Prop) then (wM_couple sg x1 (sg 28 i1) (fun (r10 : Int32) => (∃ i12 : Nat, i12 < 81 ∧ r10 = nI i12 ∧ (if ((sg 28 i4) < (sg 25 i12) : Prop) then (jM_isMeeting_104 sg x1 x2 x3 x4 post (lM_isMeeting_22 sg x1 x2 x3 post n)) else (wM_couple sg x2 (sg 28 i1) (fun (r15 : Int32) => (∃ i17 : Nat, i17 < 81 ∧ r15 = nI i17 ∧ (if ((sg 28 i4) < (sg 25 i17) : Prop) then (jM_isMeeting_104 sg x1 x2 x3 x4 post (lM_isMeeting_22 sg x1 x2 x3 post n)) else (post 1))))))))) else (jM_isMeeting_104 sg x1 x2 x3 x4 post (lM_isMeeting_22 sg x1 x2 x3 post n)))))))
def jM_isMeeting_19 (sg : MS) (x1 : Int32) (x2 : Int32) (x3 : Int32) (post : Int32 → Prop) : Prop :=
  (∃ n20, lM_isMeeting_22 sg x1 x2 x3 post n20 0)
def wM_isMeeting (sg : MS) (x1 : Int32) (x2 : Int32) (x3 : Int32) (post : Int32 → Prop) : Prop :=
  (if (x1 = x2 : Prop) then (if (((((sg 0 29) : Int32) >>> ((x1 : Int32) &&& 31)) &&& 1) = 1 : Prop) then (post 1) else (jM_isMeeting_19 sg x1 x2 x3 post)) else (jM_isMeeting_19 sg x1 x2 x3 post))
-- townOn
def lM_townOn_2 (sg : MS) (x1 : Int32) (x2 : Int32) (post : Int32 → Prop) (ke_27 : Int32 → Prop) : Nat → Int32 → Prop
  | 0, _ => False
  | n + 1, x3 =>
  (∃ i1 : Nat, i1 < 10 ∧ x1 = nI i1 ∧ (if ((sg 9 i1) ≤ x3 : Prop) then (post (-1)) else (∃ i4 : Nat, i4 < 35 ∧ ((7 * x1) + x3) = nI i4 ∧ (if ((sg 39 i4) = x2 : Prop) then (ke_27 x3) else ((lM_townOn_2 sg x1 x2 post ke_27 n) (x3 + 1))))))
def wM_townOn (sg : MS) (x1 : Int32) (x2 : Int32) (post : Int32 → Prop) : Prop :=
  (∃ n11, lM_townOn_2 sg x1 x2 post (fun (y7 : Int32) => (∃ i8 : Nat, i8 < 35 ∧ ((7 * x1) + y7) = nI i8 ∧ (post (sg 38 i8)))) n11 0)
-- tellMeetings
def jM_tellMeetings_111 (sg : MS) (x1 : Int32) (x2 : Int32) (x3 : Int32) (post : MS → Prop) (kb : Int32 → MS → Prop) : Prop :=
  (kb (x3 + (-1)) sg)
def lM_tellMeetings_45 (x1 : Int32) (x2 : Int32) (post : MS → Prop) (ke_117 : MS → Prop) : Nat → Int32 → MS → Prop
  | 0, _, _ => False
  | n + 1, x3, sg =>
  (if (x3 < 0 : Prop) then (ke_117 sg) else (∃ i7 : Nat, i7 < 35 ∧ ((7 * x1) + x3) = nI i7 ∧ (wM_townOn sg x2 (sg 39 i7) (fun (r10 : Int32) => (if (r10 = (-1) : Prop) then (jM_tellMeetings_111 sg x1 x2 x3 post (lM_tellMeetings_45 x1 x2 post ke_117 n)) else (∃ i12 : Nat, i12 < 35 ∧ ((7 * x1) + x3) = nI i12 ∧ (wM_isMeeting sg (sg 38 i12) r10 (sg 39 i7) (fun (r15 : Int32) => (if (r15 = 0 : Prop) then (jM_tellMeetings_111 sg x1 x2 x3 post (lM_tellMeetings_45 x1 x2 post ke_117 n)) else (∃ i17 : Nat, i17 < 25 ∧ ((5 * x1) + x2) = nI i17 ∧ (jM_tellMeetings_111 (s2 sg 40 i17 (sg 39 i7)) x1 x2 x3 post (lM_tellMeetings_45 x1 x2 post ke_117 n))))))))))))
def lM_tellMeetings_14 (x1 : Int32) (post : MS → Prop) (ke_123 : MS → Prop) : Nat → Int32 → MS → Prop
  | 0, _, _ => False
  | n + 1, x2, sg =>
  (if ((sg 4 4) ≤ x2 : Prop) then (ke_123 sg) else (∃ i1 : Nat, i1 < 25 ∧ ((5 * x1) + x2) = nI i1 ∧ (∃ i4 : Nat, i4 < 10 ∧ x1 = nI i4 ∧ (∃ n21, lM_tellMeetings_45 x1 x2 post (fun (g20 : MS) => ((lM_tellMeetings_14 x1 post ke_123 n) (x2 + 1) g20)) n21 (((s2 sg 40 i1 100000) 9 i4) - 1) (s2 sg 40 i1 100000)))))
def lM_tellMeetings_2 (post : MS → Prop) : Nat → Int32 → MS → Prop
  | 0, _, _ => False
  | n + 1, x1, sg =>
  (if ((sg 4 4) ≤ x1 : Prop) then (post sg) else (∃ n23, lM_tellMeetings_14 x1 post (fun (g22 : MS) => ((lM_tellMeetings_2 post n) (x1 + 1) g22)) n23 0 sg))
def wM_tellMeetings (sg : MS) (post : MS → Prop) : Prop :=
  (∃ n24, lM_tellMeetings_2 post n24 0 sg)
-- tellStops
def jM_tellStops_95 (sg : MS) (x1 : Int32) (x2 : Int32) (x3 : Int32) (x4 : Int32) (post : MS → Prop) (kb : Int32 → Int32 → MS → Prop) : Prop :=
  (∃ i10 : Nat, i10 < 35 ∧ ((7 * x1) + x3) = nI i10 ∧ (∃ i13 : Nat, i13 < 35 ∧ ((7 * x1) + x3) = nI i13 ∧ (kb x2 (x3 + 1) (s2 (s2 sg 38 i10 x4) 39 i13 x2))))
def jM_tellStops_61 (sg : MS) (x1 : Int32) (x2 : Int32) (x3 : Int32) (t0 : Int32) (t1 : Int32) (post : MS → Prop) (kb : Int32 → Int32 → MS → Prop) : Prop :=
  (∃ i7 : Nat, i7 < 70 ∧ (t1 + t0) = nI i7 ∧ (if (x3 ≤ 0 : Prop) then (jM_tellStops_95 sg x1 x2 x3 (sg 10 i7) post kb) else (∃ i16 : Nat, i16 < 35 ∧ (((7 * x1) + x3) - 1) = nI i16 ∧ (wM_couple sg (sg 38 i16) (sg 10 i7) (fun (r19 : Int32) => (∃ i21 : Nat, i21 < 162 ∧ r19 = nI i21 ∧ (jM_tellStops_95 sg x1 (x2 + (sg 5 i21)) x3 (sg 10 i7) post kb)))))))
def lM_tellStops_21 (x1 : Int32) (post : MS → Prop) (ke_126 : MS → Prop) : Nat → Int32 → Int32 → MS → Prop
  | 0, _, _, _ => False
  | n + 1, x2, x3, sg =>
  (∃ i4 : Nat, i4 < 10 ∧ x1 = nI i4 ∧ (if ((sg 9 i4) ≤ x3 : Prop) then (ke_126 sg) else (if (x1 = (sg 0 40) : Prop) then (∃ i24 : Nat, i24 < 10 ∧ x1 = nI i24 ∧ (jM_tellStops_61 sg x1 x2 x3 (((sg 9 i24) - 1) - x3) (7 * x1) post (lM_tellStops_21 x1 post ke_126 n))) else (jM_tellStops_61 sg x1 x2 x3 x3 (7 * x1) post (lM_tellStops_21 x1 post ke_126 n)))))
def lM_tellStops_2 (post : MS → Prop) : Nat → Int32 → MS → Prop
  | 0, _, _ => False
  | n + 1, x1, sg =>
  (if ((sg 4 4) ≤ x1 : Prop) then (post sg) else (∃ i1 : Nat, i1 < 10 ∧ x1 = nI i1 ∧ (∃ n28, lM_tellStops_21 x1 post (fun (g27 : MS) => ((lM_tellStops_2 post n) (x1 + 1) g27)) n28 (sg 7 i1) 0 sg)))
def wM_tellStops (sg : MS) (post : MS → Prop) : Prop :=
  (∃ n29, lM_tellStops_2 post n29 0 sg)
-- tell
def lM_tell_10 (post : Int32 → MS → Prop) (ke_29 : MS → Prop) : Nat → Int32 → MS → Prop
  | 0, _, _ => False
  | n + 1, x1, sg =>
  (if (30 ≤ x1 : Prop) then (ke_29 sg) else (∃ i5 : Nat, i5 < 30 ∧ x1 = nI i5 ∧ ((lM_tell_10 post ke_29 n) (x1 + 1) (s2 sg 45 i5 (-1)))))
def jM_tell_68 (sg : MS) (x1 : Int32) (x2 : Int32) (post : Int32 → MS → Prop) (kb : Int32 → MS → Prop) : Prop :=
  (kb (x2 + 1) sg)
def lM_tell_39 (x1 : Int32) (post : Int32 → MS → Prop) (ke_74 : MS → Prop) : Nat → Int32 → MS → Prop
  | 0, _, _ => False
  | n + 1, x2, sg =>
  (if ((sg 4 4) ≤ x2 : Prop) then (ke_74 sg) else (wM_townOn sg x2 x1 (fun (r9 : Int32) => (if (r9 = (-1) : Prop) then (jM_tell_68 sg x1 x2 post (lM_tell_39 x1 post ke_74 n)) else (wM_hear sg x2 r9 x1 (fun (g12 : MS) => (jM_tell_68 g12 x1 x2 post (lM_tell_39 x1 post ke_74 n))))))))
def lM_tell_31 (post : Int32 → MS → Prop) (ke_80 : MS → Prop) : Nat → Int32 → MS → Prop
  | 0, _, _ => False
  | n + 1, x1, sg =>
  (if (114 < x1 : Prop) then (ke_80 sg) else (∃ n14, lM_tell_39 x1 post (fun (g13 : MS) => ((lM_tell_31 post ke_80 n) (x1 + 1) g13)) n14 0 sg))
def wM_tell (sg : MS) (post : Int32 → MS → Prop) : Prop :=
  (wM_tellStops sg (fun (g2 : MS) => (wM_tellMeetings g2 (fun (g4 : MS) => (∃ n19, lM_tell_10 post (fun (g8 : MS) => (∃ n18, lM_tell_31 post (fun (g15 : MS) => (wM_judgeAll g15 (fun (r16 : Int32) (g17 : MS) => (post r16 g17)))) n18 0 g8)) n19 0 g4)))))
-- tellNow
def wM_tellNow (sg : MS) (post : Int32 → MS → Prop) : Prop :=
  (wM_set sg (fun (g2 : MS) => (wM_tell g2 (fun (r3 : Int32) (g4 : MS) => (post r3 g4)))))
-- count
def wM_count (sg : MS) (x1 : Int32) (post : Int32 → MS → Prop) : Prop :=
  (if x1 = 0 then (post ((s2 sg 0 2 0) 4 0) (s2 sg 0 2 0)) else (if x1 = 1 then (post ((s2 sg 0 2 0) 4 2) (s2 sg 0 2 0)) else (if x1 = 2 then (post ((s2 sg 0 2 0) 4 3) (s2 sg 0 2 0)) else (if x1 = 3 then (post ((s2 sg 0 2 0) 4 4) (s2 sg 0 2 0)) else (if x1 = 4 then (post ((s2 sg 0 2 0) 4 5) (s2 sg 0 2 0)) else (if x1 = 5 then (post ((s2 sg 0 2 0) 0 29) (s2 sg 0 2 0)) else (if x1 = 6 then (post ((s2 sg 0 2 0) 0 30) (s2 sg 0 2 0)) else (if x1 = 7 then (post ((s2 sg 0 2 0) 0 31) (s2 sg 0 2 0)) else (if x1 = 8 then (post ((s2 sg 0 2 0) 0 32) (s2 sg 0 2 0)) else (if x1 = 9 then (wM_tellNow (s2 sg 0 2 0) (fun (r3 : Int32) (g4 : MS) => (post r3 g4))) else (if x1 = 10 then (post ((s2 sg 0 2 0) 0 33) (s2 sg 0 2 0)) else (if x1 = 11 then (post ((s2 sg 0 2 0) 0 34) (s2 sg 0 2 0)) else (if x1 = 12 then (post ((s2 sg 0 2 0) 0 14) (s2 sg 0 2 0)) else (if x1 = 13 then (∃ i5 : Nat, i5 < 3 ∧ (x1 - 13) = nI i5 ∧ (post ((s2 sg 0 2 0) 13 i5) (s2 sg 0 2 0))) else (if x1 = 14 then (∃ i8 : Nat, i8 < 3 ∧ (x1 - 13) = nI i8 ∧ (post ((s2 sg 0 2 0) 13 i8) (s2 sg 0 2 0))) else (if x1 = 15 then (∃ i11 : Nat, i11 < 3 ∧ (x1 - 13) = nI i11 ∧ (post ((s2 sg 0 2 0) 13 i11) (s2 sg 0 2 0))) else (wM_fail (s2 sg 0 2 0) 1 (fun (r1 : Int32) (g2 : MS) => (post r1 g2)))))))))))))))))))
-- isIn
def wM_isIn (sg : MS) (x0 : Int64) (x2 : Int64) (x4 : Int64) (post : Int32 → Prop) : Prop :=
  (if ((lg_cmp x0 x2) < 0 : Prop) then (post 0) else (if (0 < (lg_cmp x0 x4) : Prop) then (post 0) else (post 1)))
-- isTown
def wM_isTown (sg : MS) (x1 : Int32) (post : Int32 → Prop) : Prop :=
  (wM_isIn sg x1.toInt64 0 ((sg 4 0) - 1).toInt64 (fun (r1 : Int32) => (nB r1 ∧ (post r1))))
-- orNone
def wM_orNone (sg : MS) (x0 : Int32) (post : Int32 → Prop) : Prop :=
  (if (x0 < 100000 : Prop) then (post x0) else (post (-1)))
-- far
def jM_far_30 (sg : MS) (post : Int32 → MS → Prop) : Prop :=
  (wM_fail sg 1 (fun (r3 : Int32) (g4 : MS) => (post r3 g4)))
def jM_far_59 (sg : MS) (t0 : Int32) (post : Int32 → MS → Prop) : Prop :=
  (wM_orNone sg t0 (fun (r9 : Int32) => (post r9 sg)))
def wM_far (sg : MS) (x1 : Int32) (x2 : Int32) (x3 : Int32) (post : Int32 → MS → Prop) : Prop :=
  (wM_isTown (s2 sg 0 2 0) x1 (fun (r1 : Int32) => (if (r1 = 0 : Prop) then (jM_far_30 (s2 sg 0 2 0) post) else (wM_isTown (s2 sg 0 2 0) x2 (fun (r5 : Int32) => (if (r5 = 0 : Prop) then (jM_far_30 (s2 sg 0 2 0) post) else (if (x3 < 0 : Prop) then (jM_far_30 (s2 sg 0 2 0) post) else (if (x3 ≤ 1 : Prop) then (if (x3 = 0 : Prop) then (wM_couple (s2 sg 0 2 0) x1 x2 (fun (r11 : Int32) => (∃ i13 : Nat, i13 < 81 ∧ r11 = nI i13 ∧ (jM_far_59 (s2 sg 0 2 0) ((s2 sg 0 2 0) 25 i13) post)))) else (wM_newsDays (s2 sg 0 2 0) x1 x2 (fun (r7 : Int32) => (jM_far_59 (s2 sg 0 2 0) r7 post)))) else (jM_far_30 (s2 sg 0 2 0) post)))))))))
-- isJudge
def wM_isJudge (sg : MS) (x1 : Int32) (post : Int32 → Prop) : Prop :=
  (wM_isIn sg x1.toInt64 0 ((sg 4 4) - 1).toInt64 (fun (r1 : Int32) => (nB r1 ∧ (post r1))))
-- judge
def jM_judge_25 (sg : MS) (post : Int32 → MS → Prop) : Prop :=
  (wM_fail sg 1 (fun (r3 : Int32) (g4 : MS) => (post r3 g4)))
def wM_judge (sg : MS) (x1 : Int32) (x2 : Int32) (post : Int32 → MS → Prop) : Prop :=
  (wM_isJudge (s2 sg 0 2 0) x1 (fun (r1 : Int32) => (if (r1 = 0 : Prop) then (jM_judge_25 (s2 sg 0 2 0) post) else (wM_isIn (s2 sg 0 2 0) x2.toInt64 0 4 (fun (r5 : Int32) => (if (r5 = 0 : Prop) then (jM_judge_25 (s2 sg 0 2 0) post) else (if (x2 = 4 : Prop) then (wM_set (s2 sg 0 2 0) (fun (g20 : MS) => (wM_tellStops g20 (fun (g22 : MS) => (∃ i23 : Nat, i23 < 10 ∧ x1 = nI i23 ∧ (∃ i26 : Nat, i26 < 35 ∧ (((7 * x1) + (g22 9 i23)) - 1) = nI i26 ∧ (post (g22 39 i26) g22))))))) else (if (x2 = 0 : Prop) then (∃ i16 : Nat, i16 < 10 ∧ x1 = nI i16 ∧ (post ((s2 sg 0 2 0) 6 i16) (s2 sg 0 2 0))) else (if (x2 = 1 : Prop) then (∃ i13 : Nat, i13 < 10 ∧ x1 = nI i13 ∧ (post ((s2 sg 0 2 0) 7 i13) (s2 sg 0 2 0))) else (if (x2 = 2 : Prop) then (∃ i10 : Nat, i10 < 10 ∧ x1 = nI i10 ∧ (post ((s2 sg 0 2 0) 8 i10) (s2 sg 0 2 0))) else (∃ i7 : Nat, i7 < 10 ∧ x1 = nI i7 ∧ (post ((s2 sg 0 2 0) 9 i7) (s2 sg 0 2 0)))))))))))))
-- stop
def jM_stop_40 (sg : MS) (post : Int32 → MS → Prop) : Prop :=
  (wM_fail sg 1 (fun (r3 : Int32) (g4 : MS) => (post r3 g4)))
def wM_stop (sg : MS) (x1 : Int32) (x2 : Int32) (x3 : Int32) (post : Int32 → MS → Prop) : Prop :=
  (wM_isJudge (s2 sg 0 2 0) x1 (fun (r1 : Int32) => (if (r1 = 0 : Prop) then (jM_stop_40 (s2 sg 0 2 0) post) else (∃ i5 : Nat, i5 < 10 ∧ x1 = nI i5 ∧ (wM_isIn (s2 sg 0 2 0) x2.toInt64 0 (((s2 sg 0 2 0) 9 i5) - 1).toInt64 (fun (r8 : Int32) => (if (r8 = 0 : Prop) then (jM_stop_40 (s2 sg 0 2 0) post) else (if (x3 < 0 : Prop) then (jM_stop_40 (s2 sg 0 2 0) post) else (if (x3 ≤ 1 : Prop) then (wM_set (s2 sg 0 2 0) (fun (g11 : MS) => (wM_tellStops g11 (fun (g13 : MS) => (if (x3 = 0 : Prop) then (∃ i17 : Nat, i17 < 35 ∧ ((7 * x1) + x2) = nI i17 ∧ (post (g13 38 i17) g13)) else (∃ i14 : Nat, i14 < 35 ∧ ((7 * x1) + x2) = nI i14 ∧ (post (g13 39 i14) g13))))))) else (jM_stop_40 (s2 sg 0 2 0) post))))))))))
-- where
def wM_where (sg : MS) (x1 : Int32) (x2 : Int32) (post : Int32 → MS → Prop) : Prop :=
  (wM_isJudge (s2 sg 0 2 0) x1 (fun (r1 : Int32) => (if (r1 = 0 : Prop) then (wM_fail (s2 sg 0 2 0) 1 (fun (r9 : Int32) (g10 : MS) => (post r9 g10))) else (wM_set (s2 sg 0 2 0) (fun (g4 : MS) => (wM_tellStops g4 (fun (g6 : MS) => (wM_townOn g6 x1 x2 (fun (r7 : Int32) => (post r7 g6))))))))))
-- isCase
def wM_isCase (sg : MS) (x1 : Int32) (post : Int32 → Prop) : Prop :=
  (wM_isIn sg x1.toInt64 0 ((sg 4 5) - 1).toInt64 (fun (r1 : Int32) => (nB r1 ∧ (post r1))))
-- proof
def jM_proof_35 (sg : MS) (post : Int32 → MS → Prop) : Prop :=
  (wM_fail sg 1 (fun (r3 : Int32) (g4 : MS) => (post r3 g4)))
def wM_proof (sg : MS) (x1 : Int32) (x2 : Int32) (post : Int32 → MS → Prop) : Prop :=
  (wM_isCase (s2 sg 0 2 0) x1 (fun (r1 : Int32) => (if (r1 = 0 : Prop) then (jM_proof_35 (s2 sg 0 2 0) post) else (wM_isTown (s2 sg 0 2 0) x2 (fun (r5 : Int32) => (if (r5 = 0 : Prop) then (jM_proof_35 (s2 sg 0 2 0) post) else (∃ i7 : Nat, i7 < 108 ∧ ((9 * x1) + x2) = nI i7 ∧ (post ((s2 sg 0 2 0) 11 i7) (s2 sg 0 2 0)))))))))
-- said
def jM_said_33 (sg : MS) (post : Int32 → MS → Prop) : Prop :=
  (wM_fail sg 1 (fun (r3 : Int32) (g4 : MS) => (post r3 g4)))
def wM_said (sg : MS) (x1 : Int32) (x2 : Int32) (x3 : Int32) (post : Int32 → MS → Prop) : Prop :=
  (wM_isCase (s2 sg 0 2 0) x1 (fun (r1 : Int32) => (if (r1 = 0 : Prop) then (jM_said_33 (s2 sg 0 2 0) post) else (wM_isJudge (s2 sg 0 2 0) x2 (fun (r5 : Int32) => (if (r5 = 0 : Prop) then (jM_said_33 (s2 sg 0 2 0) post) else (wM_isIn (s2 sg 0 2 0) x3.toInt64 0 3 (fun (r7 : Int32) => (if (r7 = 0 : Prop) then (jM_said_33 (s2 sg 0 2 0) post) else (wM_tellNow (s2 sg 0 2 0) (fun (r9 : Int32) (g10 : MS) => (if (x3 = 3 : Prop) then (∃ i23 : Nat, i23 < 30 ∧ ((5 * x1) + x2) = nI i23 ∧ (post (g10 48 i23) g10)) else (∃ i11 : Nat, i11 < 30 ∧ ((5 * x1) + x2) = nI i11 ∧ (if ((g10 45 i11) = (-1) : Prop) then (post (-1) g10) else (if (x3 = 0 : Prop) then (∃ i20 : Nat, i20 < 30 ∧ ((5 * x1) + x2) = nI i20 ∧ (post (g10 45 i20) g10)) else (if (x3 = 1 : Prop) then (∃ i17 : Nat, i17 < 30 ∧ ((5 * x1) + x2) = nI i17 ∧ (post (g10 46 i17) g10)) else (∃ i14 : Nat, i14 < 30 ∧ ((5 * x1) + x2) = nI i14 ∧ (post (g10 47 i14) g10))))))))))))))))))
-- met
def jM_met_21 (sg : MS) (post : Int32 → MS → Prop) : Prop :=
  (wM_fail sg 1 (fun (r3 : Int32) (g4 : MS) => (post r3 g4)))
def wM_met (sg : MS) (x1 : Int32) (x2 : Int32) (post : Int32 → MS → Prop) : Prop :=
  (wM_isJudge (s2 sg 0 2 0) x1 (fun (r1 : Int32) => (if (r1 = 0 : Prop) then (jM_met_21 (s2 sg 0 2 0) post) else (wM_isJudge (s2 sg 0 2 0) x2 (fun (r5 : Int32) => (if (r5 = 0 : Prop) then (jM_met_21 (s2 sg 0 2 0) post) else (if (x1 = x2 : Prop) then (wM_fail (s2 sg 0 2 0) 2 (fun (r14 : Int32) (g15 : MS) => (post r14 g15))) else (wM_tellNow (s2 sg 0 2 0) (fun (r7 : Int32) (g8 : MS) => (∃ i9 : Nat, i9 < 25 ∧ ((5 * x1) + x2) = nI i9 ∧ (wM_orNone g8 (g8 40 i9) (fun (r12 : Int32) => (post r12 g8)))))))))))))
-- guilty
def jM_guilty_22 (sg : MS) (post : Int32 → MS → Prop) : Prop :=
  (wM_fail sg 1 (fun (r3 : Int32) (g4 : MS) => (post r3 g4)))
def wM_guilty (sg : MS) (x1 : Int32) (x2 : Int32) (post : Int32 → MS → Prop) : Prop :=
  (wM_isCase (s2 sg 0 2 0) x1 (fun (r1 : Int32) => (if (r1 = 0 : Prop) then (jM_guilty_22 (s2 sg 0 2 0) post) else (if (x2 < 0 : Prop) then (jM_guilty_22 (s2 sg 0 2 0) post) else (if (x2 ≤ 1 : Prop) then (wM_tellNow (s2 sg 0 2 0) (fun (r5 : Int32) (g6 : MS) => (if (x2 = 0 : Prop) then (∃ i10 : Nat, i10 < 6 ∧ x1 = nI i10 ∧ (wM_orNone g6 (g6 49 i10) (fun (r13 : Int32) => (post r13 g6)))) else (∃ i7 : Nat, i7 < 6 ∧ x1 = nI i7 ∧ (post (g6 50 i7) g6))))) else (jM_guilty_22 (s2 sg 0 2 0) post))))))
-- news
def jM_news_21 (sg : MS) (post : Int32 → MS → Prop) : Prop :=
  (wM_fail sg 1 (fun (r3 : Int32) (g4 : MS) => (post r3 g4)))
def lM_news_42 (x1 : Int32) (x2 : Int32) (post : Int32 → MS → Prop) (ke_72 : Int32 → MS → Prop) : Nat → Int32 → Int32 → MS → Prop
  | 0, _, _, _ => False
  | n + 1, x3, x4, sg =>
  (if ((sg 4 4) ≤ x4 : Prop) then (ke_72 x3 sg) else (wM_newsBy sg x1 x4 x2 (fun (r11 : Int32) => ((lM_news_42 x1 x2 post ke_72 n) (if r11 < x3 then r11 else x3) (x4 + 1) sg))))
def wM_news (sg : MS) (x1 : Int32) (x2 : Int32) (post : Int32 → MS → Prop) : Prop :=
  (wM_isCase (s2 sg 0 2 0) x1 (fun (r1 : Int32) => (if (r1 = 0 : Prop) then (jM_news_21 (s2 sg 0 2 0) post) else (wM_isTown (s2 sg 0 2 0) x2 (fun (r5 : Int32) => (if (r5 = 0 : Prop) then (jM_news_21 (s2 sg 0 2 0) post) else (wM_tellNow (s2 sg 0 2 0) (fun (r7 : Int32) (g8 : MS) => (wM_newsByWord g8 x1 x2 (fun (r9 : Int32) => (∃ n17, lM_news_42 x1 x2 post (fun (y13 : Int32) (g14 : MS) => (wM_orNone g14 y13 (fun (r15 : Int32) => (post r15 g14)))) n17 r9 0 g8)))))))))))
-- pack
def lM_pack_5 (a1 n1 : Nat) (x3 : Int32) (post : MS → Prop) (ke_30 : MS → Prop) : Nat → Int32 → MS → Prop
  | 0, _, _ => False
  | n + 1, x4, sg =>
  (if (5 ≤ x4 : Prop) then (ke_30 sg) else (∃ i1 : Nat, i1 < 10 ∧ x4 = nI i1 ∧ (∃ i4 : Nat, i4 < n1 ∧ (x3 + x4) = nI i4 ∧ ((lM_pack_5 a1 n1 x3 post ke_30 n) (x4 + 1) (s2 sg (a1 + 1) i4 (sg 7 i1))))))
def lM_pack_73 (a1 n1 : Nat) (x3 : Int32) (post : MS → Prop) : Nat → Int32 → MS → Prop
  | 0, _, _ => False
  | n + 1, x4, sg =>
  (if (12 ≤ x4 : Prop) then (post sg) else (∃ i20 : Nat, i20 < 15 ∧ x4 = nI i20 ∧ (∃ i23 : Nat, i23 < n1 ∧ (x3 + x4) = nI i23 ∧ (∃ i26 : Nat, i26 < 12 ∧ x4 = nI i26 ∧ (∃ i29 : Nat, i29 < n1 ∧ ((x3 + 12) + x4) = nI i29 ∧ (∃ i32 : Nat, i32 < 18 ∧ x4 = nI i32 ∧ (∃ i35 : Nat, i35 < n1 ∧ ((x3 + 24) + x4) = nI i35 ∧ ((lM_pack_73 a1 n1 x3 post n) (x4 + 1) (s2 (s2 (s2 sg (a1 + 1) i23 (sg 26 i20)) (a1 + 1) i29 ((s2 sg (a1 + 1) i23 (sg 26 i20)) 27 i26)) (a1 + 1) i35 ((s2 (s2 sg (a1 + 1) i23 (sg 26 i20)) (a1 + 1) i29 ((s2 sg (a1 + 1) i23 (sg 26 i20)) 27 i26)) 28 i32))))))))))
def wM_pack (sg : MS) (a1 n1 : Nat) (x2 : Int32) (post : MS → Prop) : Prop :=
  (∃ n39, lM_pack_5 a1 n1 x2 post (fun (g7 : MS) => (∃ i8 : Nat, i8 < n1 ∧ (x2 + 5) = nI i8 ∧ (∃ i11 : Nat, i11 < n1 ∧ ((x2 + 5) + 1) = nI i11 ∧ (∃ i14 : Nat, i14 < n1 ∧ ((x2 + 5) + 2) = nI i14 ∧ (∃ i17 : Nat, i17 < n1 ∧ ((x2 + 5) + 3) = nI i17 ∧ (∃ n38, lM_pack_73 a1 n1 ((x2 + 5) + 4) post n38 0 (s2 (s2 (s2 (s2 g7 (a1 + 1) i8 (g7 0 29)) (a1 + 1) i11 ((s2 g7 (a1 + 1) i8 (g7 0 29)) 0 30)) (a1 + 1) i14 ((s2 (s2 g7 (a1 + 1) i8 (g7 0 29)) (a1 + 1) i11 ((s2 g7 (a1 + 1) i8 (g7 0 29)) 0 30)) 0 31)) (a1 + 1) i17 ((s2 (s2 (s2 g7 (a1 + 1) i8 (g7 0 29)) (a1 + 1) i11 ((s2 g7 (a1 + 1) i8 (g7 0 29)) 0 30)) (a1 + 1) i14 ((s2 (s2 g7 (a1 + 1) i8 (g7 0 29)) (a1 + 1) i11 ((s2 g7 (a1 + 1) i8 (g7 0 29)) 0 30)) 0 31)) 0 32)))))))) n39 0 sg)
-- keep
def jM_keep_52 (sg : MS) (post : MS → Prop) : Prop :=
  (wM_pack sg 28 1800 (45 * (sg 0 33)) (fun (g2 : MS) => (post (s2 g2 0 33 ((g2 0 33) + 1)))))
def lM_keep_12 (post : MS → Prop) (ke_42 : MS → Prop) : Nat → Int32 → MS → Prop
  | 0, _, _ => False
  | n + 1, x1, sg =>
  (if ((nI 1800) ≤ x1 : Prop) then (ke_42 sg) else (∃ i3 : Nat, i3 < 1800 ∧ x1 = nI i3 ∧ (∃ i6 : Nat, i6 < 1800 ∧ (x1 - 45) = nI i6 ∧ ((lM_keep_12 post ke_42 n) (x1 + 1) (s2 sg 29 i6 (sg 29 i3))))))
def wM_keep (sg : MS) (post : MS → Prop) : Prop :=
  (if ((sg 0 33) = 40 : Prop) then (∃ n10, lM_keep_12 post (fun (g9 : MS) => (jM_keep_52 (s2 g9 0 33 ((g9 0 33) - 1)) post)) n10 45 sg) else (jM_keep_52 sg post))
-- refuse
def wM_refuse (sg : MS) (x1 : Int32) (post : Int32 → MS → Prop) : Prop :=
  (∃ i1 : Nat, i1 < 3 ∧ x1 = nI i1 ∧ (∃ i4 : Nat, i4 < 3 ∧ x1 = nI i4 ∧ (post (-1) (s2 sg 13 i4 ((sg 13 i1) + 1)))))
-- start
def wM_start (sg : MS) (x1 : Int32) (x2 : Int32) (post : Int32 → MS → Prop) : Prop :=
  (wM_isJudge (s2 sg 0 2 0) x1 (fun (r1 : Int32) => (if (r1 = 0 : Prop) then (wM_fail (s2 sg 0 2 0) 1 (fun (r15 : Int32) (g16 : MS) => (post r15 g16))) else (wM_isIn (s2 sg 0 2 0) x2.toInt64 0 60 (fun (r3 : Int32) => (if (r3 = 0 : Prop) then (wM_refuse (s2 sg 0 2 0) 1 (fun (r13 : Int32) (g14 : MS) => (post r13 g14))) else (wM_keep (s2 sg 0 2 0) (fun (g6 : MS) => (∃ i7 : Nat, i7 < 10 ∧ x1 = nI i7 ∧ (∃ i10 : Nat, i10 < 10 ∧ x1 = nI i10 ∧ (post (g6 7 i7) (s2 g6 7 i10 x2))))))))))))
-- inn
def jM_inn_37 (sg : MS) (x1 : Int32) (t0 : Int32) (t1 : Int32) (post : Int32 → MS → Prop) : Prop :=
  (if (t1 = t0 : Prop) then (post 0 (s2 sg 13 1 ((sg 13 1) + 1))) else (wM_keep sg (fun (g4 : MS) => (post 1 (s2 g4 0 29 ((g4 0 29) ^^^ ((1 : Int32) <<< ((x1 : Int32) &&& 31))))))))
def wM_inn (sg : MS) (x1 : Int32) (x2 : Int32) (post : Int32 → MS → Prop) : Prop :=
  (wM_isTown (s2 sg 0 2 0) x1 (fun (r1 : Int32) => (if (r1 = 0 : Prop) then (post 0 (s2 (s2 sg 0 2 0) 0 2 1)) else (if (x2 = 0 : Prop) then (jM_inn_37 (s2 sg 0 2 0) x1 0 (((((s2 sg 0 2 0) 0 29) : Int32) >>> ((x1 : Int32) &&& 31)) &&& 1) post) else (jM_inn_37 (s2 sg 0 2 0) x1 1 (((((s2 sg 0 2 0) 0 29) : Int32) >>> ((x1 : Int32) &&& 31)) &&& 1) post)))))
-- putRow
def wM_putRow (sg : MS) (a0 n0 : Nat) (x1 : Int32) (x2 : Int32) (x3 : Int32) (x4 : Int32) (post : MS → Prop) : Prop :=
  (∃ i1 : Nat, i1 < n0 ∧ (3 * x1) = nI i1 ∧ (∃ i4 : Nat, i4 < n0 ∧ ((3 * x1) + 1) = nI i4 ∧ (∃ i7 : Nat, i7 < n0 ∧ ((3 * x1) + 2) = nI i7 ∧ (post (s2 (s2 (s2 sg (a0 + 1) i1 x2) (a0 + 1) i4 x3) (a0 + 1) i7 x4)))))
-- word
def jM_word_21 (sg : MS) (post : Int32 → MS → Prop) : Prop :=
  (wM_fail sg 1 (fun (r3 : Int32) (g4 : MS) => (post r3 g4)))
def jM_word_47 (sg : MS) (post : Int32 → MS → Prop) : Prop :=
  (wM_refuse sg 1 (fun (r7 : Int32) (g8 : MS) => (post r7 g8)))
def wM_word (sg : MS) (x1 : Int32) (x2 : Int32) (x3 : Int32) (post : Int32 → MS → Prop) : Prop :=
  (wM_isCase (s2 sg 0 2 0) x1 (fun (r1 : Int32) => (if (r1 = 0 : Prop) then (jM_word_21 (s2 sg 0 2 0) post) else (wM_isTown (s2 sg 0 2 0) x2 (fun (r5 : Int32) => (if (r5 = 0 : Prop) then (jM_word_21 (s2 sg 0 2 0) post) else (if (((s2 sg 0 2 0) 0 30) = 4 : Prop) then (jM_word_47 (s2 sg 0 2 0) post) else (wM_isIn (s2 sg 0 2 0) x3.toInt64 0 99 (fun (r9 : Int32) => (if (r9 = 0 : Prop) then (jM_word_47 (s2 sg 0 2 0) post) else (wM_keep (s2 sg 0 2 0) (fun (g12 : MS) => (wM_putRow g12 25 15 (g12 0 30) x1 x2 x3 (fun (g14 : MS) => (post ((s2 g14 0 30 ((g14 0 30) + 1)) 0 30) (s2 g14 0 30 ((g14 0 30) + 1)))))))))))))))))
-- feast
def jM_feast_52 (sg : MS) (post : Int32 → MS → Prop) : Prop :=
  (wM_refuse sg 1 (fun (r3 : Int32) (g4 : MS) => (post r3 g4)))
def wM_feast (sg : MS) (x1 : Int32) (x2 : Int32) (x3 : Int32) (post : Int32 → MS → Prop) : Prop :=
  (wM_isTown (s2 sg 0 2 0) x1 (fun (r1 : Int32) => (if (r1 = 0 : Prop) then (wM_fail (s2 sg 0 2 0) 1 (fun (r13 : Int32) (g14 : MS) => (post r13 g14))) else (if (((s2 sg 0 2 0) 0 31) = 4 : Prop) then (jM_feast_52 (s2 sg 0 2 0) post) else (wM_isIn (s2 sg 0 2 0) x2.toInt64 0 99 (fun (r5 : Int32) => (if (r5 = 0 : Prop) then (jM_feast_52 (s2 sg 0 2 0) post) else (wM_isIn (s2 sg 0 2 0) x3.toInt64 x2.toInt64 99 (fun (r7 : Int32) => (if (r7 = 0 : Prop) then (jM_feast_52 (s2 sg 0 2 0) post) else (wM_keep (s2 sg 0 2 0) (fun (g10 : MS) => (wM_putRow g10 26 12 (g10 0 31) x1 x2 x3 (fun (g12 : MS) => (post ((s2 g12 0 31 ((g12 0 31) + 1)) 0 31) (s2 g12 0 31 ((g12 0 31) + 1)))))))))))))))))
-- flood
def jM_flood_51 (sg : MS) (post : Int32 → MS → Prop) : Prop :=
  (wM_refuse sg 1 (fun (r3 : Int32) (g4 : MS) => (post r3 g4)))
def wM_flood (sg : MS) (x1 : Int32) (x2 : Int32) (x3 : Int32) (post : Int32 → MS → Prop) : Prop :=
  (wM_isTown (s2 sg 0 2 0) x1 (fun (r1 : Int32) => (if (r1 = 0 : Prop) then (wM_fail (s2 sg 0 2 0) 1 (fun (r13 : Int32) (g14 : MS) => (post r13 g14))) else (if (((s2 sg 0 2 0) 0 32) = 4 : Prop) then (jM_flood_51 (s2 sg 0 2 0) post) else (wM_isIn (s2 sg 0 2 0) x2.toInt64 0 99 (fun (r5 : Int32) => (if (r5 = 0 : Prop) then (jM_flood_51 (s2 sg 0 2 0) post) else (wM_isIn (s2 sg 0 2 0) x3.toInt64 0 20 (fun (r7 : Int32) => (if (r7 = 0 : Prop) then (jM_flood_51 (s2 sg 0 2 0) post) else (wM_keep (s2 sg 0 2 0) (fun (g10 : MS) => (wM_putRow g10 27 18 (g10 0 32) x1 x2 x3 (fun (g12 : MS) => (post ((s2 g12 0 32 ((g12 0 32) + 1)) 0 32) (s2 g12 0 32 ((g12 0 32) + 1)))))))))))))))))
-- unpack
def lM_unpack_5 (a1 n1 : Nat) (x3 : Int32) (post : MS → Prop) (ke_30 : MS → Prop) : Nat → Int32 → MS → Prop
  | 0, _, _ => False
  | n + 1, x4, sg =>
  (if (5 ≤ x4 : Prop) then (ke_30 sg) else (∃ i1 : Nat, i1 < n1 ∧ (x3 + x4) = nI i1 ∧ (∃ i4 : Nat, i4 < 10 ∧ x4 = nI i4 ∧ ((lM_unpack_5 a1 n1 x3 post ke_30 n) (x4 + 1) (s2 sg 7 i4 (sg (a1 + 1) i1))))))
def lM_unpack_73 (a1 n1 : Nat) (x3 : Int32) (post : MS → Prop) : Nat → Int32 → MS → Prop
  | 0, _, _ => False
  | n + 1, x4, sg =>
  (if (12 ≤ x4 : Prop) then (post sg) else (∃ i20 : Nat, i20 < n1 ∧ (x3 + x4) = nI i20 ∧ (∃ i23 : Nat, i23 < 15 ∧ x4 = nI i23 ∧ (∃ i26 : Nat, i26 < n1 ∧ ((x3 + 12) + x4) = nI i26 ∧ (∃ i29 : Nat, i29 < 12 ∧ x4 = nI i29 ∧ (∃ i32 : Nat, i32 < n1 ∧ ((x3 + 24) + x4) = nI i32 ∧ (∃ i35 : Nat, i35 < 18 ∧ x4 = nI i35 ∧ ((lM_unpack_73 a1 n1 x3 post n) (x4 + 1) (s2 (s2 (s2 sg 26 i23 (sg (a1 + 1) i20)) 27 i29 ((s2 sg 26 i23 (sg (a1 + 1) i20)) (a1 + 1) i26)) 28 i35 ((s2 (s2 sg 26 i23 (sg (a1 + 1) i20)) 27 i29 ((s2 sg 26 i23 (sg (a1 + 1) i20)) (a1 + 1) i26)) (a1 + 1) i32))))))))))
def wM_unpack (sg : MS) (a1 n1 : Nat) (x2 : Int32) (post : MS → Prop) : Prop :=
  (∃ n39, lM_unpack_5 a1 n1 x2 post (fun (g7 : MS) => (∃ i8 : Nat, i8 < n1 ∧ (x2 + 5) = nI i8 ∧ (∃ i11 : Nat, i11 < n1 ∧ ((x2 + 5) + 1) = nI i11 ∧ (∃ i14 : Nat, i14 < n1 ∧ ((x2 + 5) + 2) = nI i14 ∧ (∃ i17 : Nat, i17 < n1 ∧ ((x2 + 5) + 3) = nI i17 ∧ (∃ n38, lM_unpack_73 a1 n1 ((x2 + 5) + 4) post n38 0 (s2 (s2 (s2 (s2 g7 0 29 (g7 (a1 + 1) i8)) 0 30 ((s2 g7 0 29 (g7 (a1 + 1) i8)) (a1 + 1) i11)) 0 31 ((s2 (s2 g7 0 29 (g7 (a1 + 1) i8)) 0 30 ((s2 g7 0 29 (g7 (a1 + 1) i8)) (a1 + 1) i11)) (a1 + 1) i14)) 0 32 ((s2 (s2 (s2 g7 0 29 (g7 (a1 + 1) i8)) 0 30 ((s2 g7 0 29 (g7 (a1 + 1) i8)) (a1 + 1) i11)) 0 31 ((s2 (s2 g7 0 29 (g7 (a1 + 1) i8)) 0 30 ((s2 g7 0 29 (g7 (a1 + 1) i8)) (a1 + 1) i11)) (a1 + 1) i14)) (a1 + 1) i17)))))))) n39 0 sg)
-- undo
def wM_undo (sg : MS) (post : Int32 → MS → Prop) : Prop :=
  (if (((s2 sg 0 2 0) 0 33) = 0 : Prop) then (post (-1) (s2 sg 0 2 0)) else (wM_unpack (s2 (s2 sg 0 2 0) 0 33 (((s2 sg 0 2 0) 0 33) - 1)) 28 1800 (45 * ((s2 (s2 sg 0 2 0) 0 33 (((s2 sg 0 2 0) 0 33) - 1)) 0 33)) (fun (g2 : MS) => (post (g2 0 33) g2))))
-- burn
def jM_burn_14 (sg : MS) (post : Int32 → MS → Prop) : Prop :=
  (wM_fail sg 1 (fun (r1 : Int32) (g2 : MS) => (post r1 g2)))
def jM_burn_104 (sg : MS) (x1 : Int32) (x2 : Int32) (x3 : Int32) (x4 : Int32) (post : Int32 → MS → Prop) (kb : Int32 → Int32 → Int32 → MS → Prop) : Prop :=
  (kb x2 x3 (x4 + 1) sg)
def lM_burn_31 (x1 : Int32) (post : Int32 → MS → Prop) (ke_110 : Int32 → Int32 → MS → Prop) : Nat → Int32 → Int32 → Int32 → MS → Prop
  | 0, _, _, _, _ => False
  | n + 1, x2, x3, x4, sg =>
  (if ((sg 4 0) ≤ x4 : Prop) then (ke_110 x2 x3 sg) else (if (((((sg 0 29) : Int32) >>> ((x4 : Int32) &&& 31)) &&& 1) = 0 : Prop) then (jM_burn_104 sg x1 x2 x3 x4 post (lM_burn_31 x1 post ke_110 n)) else (wM_tell (s2 sg 0 29 ((sg 0 29) ^^^ ((1 : Int32) <<< ((x4 : Int32) &&& 31)))) (fun (r5 : Int32) (g6 : MS) => (if (x3 < r5 : Prop) then (jM_burn_104 (s2 g6 0 29 ((g6 0 29) ^^^ ((1 : Int32) <<< ((x4 : Int32) &&& 31)))) x1 x4 r5 x4 post (lM_burn_31 x1 post ke_110 n)) else (jM_burn_104 (s2 g6 0 29 ((g6 0 29) ^^^ ((1 : Int32) <<< ((x4 : Int32) &&& 31)))) x1 x2 x3 x4 post (lM_burn_31 x1 post ke_110 n)))))))
def wM_burn (sg : MS) (x1 : Int32) (post : Int32 → MS → Prop) : Prop :=
  (if (x1 < 0 : Prop) then (jM_burn_14 (s2 sg 0 2 0) post) else (if (x1 ≤ 1 : Prop) then (wM_set (s2 sg 0 2 0) (fun (g4 : MS) => (∃ n10, lM_burn_31 x1 post (fun (y7 : Int32) (y8 : Int32) (g9 : MS) => (if (x1 = 0 : Prop) then (post y7 g9) else (post y8 g9))) n10 (-1) (-1) 0 g4))) else (jM_burn_14 (s2 sg 0 2 0) post)))
-- when
def jM_when_22 (sg : MS) (post : Int32 → MS → Prop) : Prop :=
  (wM_fail sg 1 (fun (r3 : Int32) (g4 : MS) => (post r3 g4)))
def jM_when_87 (sg : MS) (x1 : Int32) (x2 : Int32) (x3 : Int32) (x4 : Int32) (x5 : Int32) (x6 : Int32) (post : Int32 → MS → Prop) (kb : Int32 → Int32 → Int32 → MS → Prop) : Prop :=
  (kb x4 x5 (x6 + 1) sg)
def lM_when_48 (x1 : Int32) (x2 : Int32) (x3 : Int32) (post : Int32 → MS → Prop) (ke_93 : Int32 → Int32 → MS → Prop) : Nat → Int32 → Int32 → Int32 → MS → Prop
  | 0, _, _, _, _ => False
  | n + 1, x4, x5, x6, sg =>
  (if (60 < x6 : Prop) then (ke_93 x4 x5 sg) else (∃ i10 : Nat, i10 < 10 ∧ x1 = nI i10 ∧ (wM_tell (s2 sg 7 i10 x6) (fun (r13 : Int32) (g14 : MS) => (if (x5 < r13 : Prop) then (jM_when_87 g14 x1 x2 x3 x6 r13 x6 post (lM_when_48 x1 x2 x3 post ke_93 n)) else (jM_when_87 g14 x1 x2 x3 x4 x5 x6 post (lM_when_48 x1 x2 x3 post ke_93 n)))))))
def wM_when (sg : MS) (x1 : Int32) (x2 : Int32) (post : Int32 → MS → Prop) : Prop :=
  (wM_isJudge (s2 sg 0 2 0) x1 (fun (r1 : Int32) => (if (r1 = 0 : Prop) then (jM_when_22 (s2 sg 0 2 0) post) else (if (x2 < 0 : Prop) then (jM_when_22 (s2 sg 0 2 0) post) else (if (x2 ≤ 1 : Prop) then (wM_set (s2 sg 0 2 0) (fun (g6 : MS) => (∃ i7 : Nat, i7 < 10 ∧ x1 = nI i7 ∧ (∃ n21, lM_when_48 x1 x2 (g6 7 i7) post (fun (y15 : Int32) (y16 : Int32) (g17 : MS) => (∃ i18 : Nat, i18 < 10 ∧ x1 = nI i18 ∧ (if (x2 = 0 : Prop) then (post y15 (s2 g17 7 i18 (g6 7 i7))) else (post y16 (s2 g17 7 i18 (g6 7 i7)))))) n21 (-1) (-1) 0 g6)))) else (jM_when_22 (s2 sg 0 2 0) post))))))
-- round
def wM_round (sg : MS) (x1 : Int32) (post : Int32 → MS → Prop) : Prop :=
  (wM_isJudge (s2 sg 0 2 0) x1 (fun (r1 : Int32) => (if (r1 = 0 : Prop) then (wM_fail (s2 sg 0 2 0) 1 (fun (r7 : Int32) (g8 : MS) => (post r7 g8))) else (wM_tellNow (s2 sg 0 2 0) (fun (r3 : Int32) (g4 : MS) => (wM_tell (s2 g4 0 40 x1) (fun (r5 : Int32) (g6 : MS) => (post (r5 - r3) g6))))))))
-- free
def jM_free_22 (sg : MS) (post : Int32 → MS → Prop) : Prop :=
  (wM_fail sg 1 (fun (r3 : Int32) (g4 : MS) => (post r3 g4)))
def jM_free_135 (sg : MS) (x1 : Int32) (x2 : Int32) (x4 : Int32) (t0 : Int32) (post : Int32 → MS → Prop) (kb : Int32 → Int32 → MS → Prop) : Prop :=
  (kb t0 (x4 + 1) sg)
def lM_free_62 (x1 : Int32) (x2 : Int32) (post : Int32 → MS → Prop) (ke_142 : Int32 → MS → Prop) : Nat → Int32 → Int32 → MS → Prop
  | 0, _, _, _ => False
  | n + 1, x3, x4, sg =>
  (if (((sg 4 0) * 61) ≤ x4 : Prop) then (ke_142 x3 sg) else (if (x3 = (-1) : Prop) then (¬ (sg 4 0) = 0 ∧ (¬ (sg 4 0) = 0 ∧ (wM_putRow sg 25 15 ((sg 0 30) - 1) x1 (x4 - x4 / (sg 4 0) * (sg 4 0)) (x4 / (sg 4 0)) (fun (g11 : MS) => (wM_judgeCase g11 x1 (fun (g13 : MS) => (∃ i14 : Nat, i14 < 6 ∧ x1 = nI i14 ∧ (if ((g13 49 i14) < 100000 : Prop) then (jM_free_135 g13 x1 x2 x4 (-1) post (lM_free_62 x1 x2 post ke_142 n)) else (jM_free_135 g13 x1 x2 x4 x4 post (lM_free_62 x1 x2 post ke_142 n)))))))))) else (ke_142 x3 sg)))
def jM_free_142 (sg : MS) (x2 : Int32) (x3 : Int32) (post : Int32 → MS → Prop) : Prop :=
  (if (x3 = (-1) : Prop) then (post (-1) (s2 sg 0 30 ((sg 0 30) - 1))) else (if (x2 = 0 : Prop) then (¬ ((s2 sg 0 30 ((sg 0 30) - 1)) 4 0) = 0 ∧ (post (x3 / ((s2 sg 0 30 ((sg 0 30) - 1)) 4 0)) (s2 sg 0 30 ((sg 0 30) - 1)))) else (¬ ((s2 sg 0 30 ((sg 0 30) - 1)) 4 0) = 0 ∧ (post (x3 - x3 / ((s2 sg 0 30 ((sg 0 30) - 1)) 4 0) * ((s2 sg 0 30 ((sg 0 30) - 1)) 4 0)) (s2 sg 0 30 ((sg 0 30) - 1))))))
def wM_free (sg : MS) (x1 : Int32) (x2 : Int32) (post : Int32 → MS → Prop) : Prop :=
  (wM_isCase (s2 sg 0 2 0) x1 (fun (r1 : Int32) => (if (r1 = 0 : Prop) then (jM_free_22 (s2 sg 0 2 0) post) else (if (x2 < 0 : Prop) then (jM_free_22 (s2 sg 0 2 0) post) else (if (x2 ≤ 1 : Prop) then (wM_tellNow (s2 sg 0 2 0) (fun (r5 : Int32) (g6 : MS) => (∃ i7 : Nat, i7 < 6 ∧ x1 = nI i7 ∧ (if ((g6 49 i7) < 100000 : Prop) then (∃ n19, lM_free_62 x1 x2 post (fun (y17 : Int32) (g18 : MS) => (jM_free_142 g18 x2 y17 post)) n19 (-1) 0 (s2 g6 0 30 ((g6 0 30) + 1))) else (post (-2) g6))))) else (jM_free_22 (s2 sg 0 2 0) post))))))
-- bitsOf
def lM_bitsOf_4 (sg : MS) (post : Int32 → Prop) : Nat → Int32 → Int32 → Prop
  | 0, _, _ => False
  | n + 1, x1, x2 =>
  (if (x2 = 0 : Prop) then (post x1) else ((lM_bitsOf_4 sg post n) (x1 + 1) (x2 &&& (x2 - 1))))
def wM_bitsOf (sg : MS) (x0 : Int32) (post : Int32 → Prop) : Prop :=
  (∃ n1, lM_bitsOf_4 sg post n1 0 x0)
-- mercy
def jM_mercy_100 (sg : MS) (x1 : Int32) (x2 : Int32) (x3 : Int32) (post : Int32 → MS → Prop) (kb : Int32 → Int32 → MS → Prop) : Prop :=
  (kb x2 (x3 + 1) sg)
def jM_mercy_99 (sg : MS) (x1 : Int32) (x3 : Int32) (t0 : Int32) (post : Int32 → MS → Prop) (kb : Int32 → Int32 → MS → Prop) : Prop :=
  (jM_mercy_100 sg x1 t0 x3 post kb)
def jM_mercy_73 (sg : MS) (x1 : Int32) (x2 : Int32) (x3 : Int32) (post : Int32 → MS → Prop) (kb : Int32 → Int32 → MS → Prop) : Prop :=
  (wM_judgeCase (s2 sg 0 42 x3) x1 (fun (g6 : MS) => (∃ i7 : Nat, i7 < 6 ∧ x1 = nI i7 ∧ (if ((g6 49 i7) < 100000 : Prop) then (jM_mercy_99 g6 x1 x3 x2 post kb) else (jM_mercy_99 g6 x1 x3 x3 post kb)))))
def lM_mercy_33 (x1 : Int32) (post : Int32 → MS → Prop) : Nat → Int32 → Int32 → MS → Prop
  | 0, _, _, _ => False
  | n + 1, x2, x3, sg =>
  (if (((1 : Int32) <<< (((sg 4 4) : Int32) &&& 31)) ≤ x3 : Prop) then (post x2 sg) else (if ((x3 &&& (sg 0 41)) = 0 : Prop) then (if (x2 = (-1) : Prop) then (jM_mercy_73 sg x1 x2 x3 post (lM_mercy_33 x1 post n)) else (wM_bitsOf sg x3 (fun (r10 : Int32) => (wM_bitsOf sg x2 (fun (r12 : Int32) => (if (r10 < r12 : Prop) then (jM_mercy_73 sg x1 x2 x3 post (lM_mercy_33 x1 post n)) else (jM_mercy_100 sg x1 x2 x3 post (lM_mercy_33 x1 post n)))))))) else (jM_mercy_100 sg x1 x2 x3 post (lM_mercy_33 x1 post n))))
def wM_mercy (sg : MS) (x1 : Int32) (post : Int32 → MS → Prop) : Prop :=
  (wM_isCase (s2 sg 0 2 0) x1 (fun (r1 : Int32) => (if (r1 = 0 : Prop) then (wM_fail (s2 sg 0 2 0) 1 (fun (r15 : Int32) (g16 : MS) => (post r15 g16))) else (wM_tellNow (s2 sg 0 2 0) (fun (r3 : Int32) (g4 : MS) => (∃ n14, lM_mercy_33 x1 post n14 (-1) 0 (s2 g4 0 43 x1)))))))
-- deaf
def wM_deaf (sg : MS) (x1 : Int32) (post : Int32 → MS → Prop) : Prop :=
  (wM_isJudge (s2 sg 0 2 0) x1 (fun (r1 : Int32) => (if (r1 = 0 : Prop) then (wM_fail (s2 sg 0 2 0) 1 (fun (r7 : Int32) (g8 : MS) => (post r7 g8))) else (wM_tellNow (s2 sg 0 2 0) (fun (r3 : Int32) (g4 : MS) => (wM_judgeAll (s2 g4 0 41 ((g4 0 41) ^^^ ((1 : Int32) <<< ((x1 : Int32) &&& 31)))) (fun (r5 : Int32) (g6 : MS) => (post r5 g6))))))))
-- soonest
def jM_soonest_14 (sg : MS) (post : Int32 → MS → Prop) : Prop :=
  (wM_fail sg 1 (fun (r1 : Int32) (g2 : MS) => (post r1 g2)))
def lM_soonest_33 (x1 : Int32) (post : Int32 → MS → Prop) (ke_77 : Int32 → Int32 → MS → Prop) : Nat → Int32 → Int32 → Int32 → MS → Prop
  | 0, _, _, _, _ => False
  | n + 1, x2, x3, x4, sg =>
  (if ((sg 4 5) ≤ x4 : Prop) then (ke_77 x2 x3 sg) else (∃ i5 : Nat, i5 < 6 ∧ x4 = nI i5 ∧ (∃ i8 : Nat, i8 < 6 ∧ x4 = nI i8 ∧ (wM_orNone sg (sg 49 i8) (fun (r11 : Int32) => ((lM_soonest_33 x1 post ke_77 n) (if (sg 49 i5) < x2 then (sg 49 i5) else x2) (if x3 < r11 then r11 else x3) (x4 + 1) sg))))))
def wM_soonest (sg : MS) (x1 : Int32) (post : Int32 → MS → Prop) : Prop :=
  (if (x1 < 0 : Prop) then (jM_soonest_14 (s2 sg 0 2 0) post) else (if (x1 ≤ 1 : Prop) then (wM_tellNow (s2 sg 0 2 0) (fun (r3 : Int32) (g4 : MS) => (∃ n18, lM_soonest_33 x1 post (fun (y13 : Int32) (y14 : Int32) (g15 : MS) => (if (x1 = 0 : Prop) then (wM_orNone g15 y13 (fun (r16 : Int32) => (post r16 g15))) else (post y14 g15))) n18 100000 (-1) 0 g4))) else (jM_soonest_14 (s2 sg 0 2 0) post)))
-- see
def jM_see_21 (sg : MS) (post : Int32 → MS → Prop) : Prop :=
  (wM_fail sg 1 (fun (r3 : Int32) (g4 : MS) => (post r3 g4)))
def jM_see_79 (sg : MS) (t0 : Int32) (t1 : Int32) (post : Int32 → MS → Prop) : Prop :=
  (∃ i13 : Nat, i13 < 8 ∧ t1 = nI i13 ∧ (post ((s2 (s2 sg 53 i13 t0) 0 34 (((s2 sg 53 i13 t0) 0 34) + 1)) 0 34) (s2 (s2 sg 53 i13 t0) 0 34 (((s2 sg 53 i13 t0) 0 34) + 1))))
def wM_see (sg : MS) (x1 : Int32) (x2 : Int32) (x3 : Int32) (post : Int32 → MS → Prop) : Prop :=
  (wM_isCase (s2 sg 0 2 0) x1 (fun (r1 : Int32) => (if (r1 = 0 : Prop) then (jM_see_21 (s2 sg 0 2 0) post) else (wM_isJudge (s2 sg 0 2 0) x2 (fun (r5 : Int32) => (if (r5 = 0 : Prop) then (jM_see_21 (s2 sg 0 2 0) post) else (if (((s2 sg 0 2 0) 0 34) = 8 : Prop) then (wM_refuse (s2 sg 0 2 0) 2 (fun (r16 : Int32) (g17 : MS) => (post r16 g17))) else (∃ i7 : Nat, i7 < 8 ∧ ((s2 sg 0 2 0) 0 34) = nI i7 ∧ (∃ i10 : Nat, i10 < 8 ∧ ((s2 (s2 sg 0 2 0) 51 i7 x1) 0 34) = nI i10 ∧ (if (x3 = 0 : Prop) then (jM_see_79 (s2 (s2 (s2 sg 0 2 0) 51 i7 x1) 52 i10 x2) 0 ((s2 (s2 (s2 sg 0 2 0) 51 i7 x1) 52 i10 x2) 0 34) post) else (jM_see_79 (s2 (s2 (s2 sg 0 2 0) 51 i7 x1) 52 i10 x2) 1 ((s2 (s2 (s2 sg 0 2 0) 51 i7 x1) 52 i10 x2) 0 34) post)))))))))))
-- forget
def wM_forget (sg : MS) (post : Int32 → MS → Prop) : Prop :=
  (if (((s2 sg 0 2 0) 0 34) = 0 : Prop) then (post (-1) (s2 sg 0 2 0)) else (post ((s2 (s2 sg 0 2 0) 0 34 (((s2 sg 0 2 0) 0 34) - 1)) 0 34) (s2 (s2 sg 0 2 0) 0 34 (((s2 sg 0 2 0) 0 34) - 1))))
-- isAsSeen
def jM_isAsSeen_34 (sg : MS) (x1 : Int32) (t0 : Int32) (post : Int32 → Prop) (kb : Int32 → Prop) : Prop :=
  (∃ i9 : Nat, i9 < 8 ∧ x1 = nI i9 ∧ (if (t0 = (sg 53 i9) : Prop) then (kb (x1 + 1)) else (post 0)))
def lM_isAsSeen_2 (sg : MS) (post : Int32 → Prop) : Nat → Int32 → Prop
  | 0, _ => False
  | n + 1, x1 =>
  (if ((sg 0 34) ≤ x1 : Prop) then (post 1) else (∃ i1 : Nat, i1 < 8 ∧ x1 = nI i1 ∧ (∃ i4 : Nat, i4 < 8 ∧ x1 = nI i4 ∧ (wM_isVoided sg (sg 51 i1) (sg 52 i4) (fun (r7 : Int32) => (if (r7 = 0 : Prop) then (jM_isAsSeen_34 sg x1 0 post (lM_isAsSeen_2 sg post n)) else (jM_isAsSeen_34 sg x1 1 post (lM_isAsSeen_2 sg post n))))))))
def wM_isAsSeen (sg : MS) (post : Int32 → Prop) : Prop :=
  (∃ n12, lM_isAsSeen_2 sg post n12 0)
-- sent
def jM_sent_25 (sg : MS) (post : Int32 → MS → Prop) : Prop :=
  (wM_fail sg 1 (fun (r3 : Int32) (g4 : MS) => (post r3 g4)))
def jM_sent_166 (sg : MS) (x1 : Int32) (x2 : Int32) (x3 : Int32) (x4 : Int32) (x5 : Int32) (post : Int32 → MS → Prop) (kb : Int32 → Int32 → Int32 → MS → Prop) : Prop :=
  (kb x3 x4 (x5 + 1) sg)
def jM_sent_164 (sg : MS) (x1 : Int32) (x2 : Int32) (x3 : Int32) (x5 : Int32) (t0 : Int32) (post : Int32 → MS → Prop) (kb : Int32 → Int32 → Int32 → MS → Prop) : Prop :=
  (jM_sent_166 sg x1 x2 x3 t0 x5 post kb)
def lM_sent_72 (x1 : Int32) (x2 : Int32) (post : Int32 → MS → Prop) (ke_172 : Int32 → Int32 → MS → Prop) : Nat → Int32 → Int32 → Int32 → MS → Prop
  | 0, _, _, _, _ => False
  | n + 1, x3, x4, x5, sg =>
  (if (((sg 4 0) * 61) ≤ x5 : Prop) then (ke_172 x3 x4 sg) else (¬ (sg 4 0) = 0 ∧ (¬ (sg 4 0) = 0 ∧ (wM_putRow sg 25 15 ((sg 0 30) - 1) x1 (x5 - x5 / (sg 4 0) * (sg 4 0)) (x5 / (sg 4 0)) (fun (g10 : MS) => (wM_isAsSeen g10 (fun (r11 : Int32) => (if (r11 = 0 : Prop) then (jM_sent_166 g10 x1 x2 x3 x4 x5 post (lM_sent_72 x1 x2 post ke_172 n)) else (if (x4 = (-1) : Prop) then (¬ (g10 4 0) = 0 ∧ (¬ (g10 4 0) = 0 ∧ (jM_sent_164 g10 x1 x2 (x3 + 1) x5 ((100 * (x5 / (g10 4 0))) + (x5 - x5 / (g10 4 0) * (g10 4 0))) post (lM_sent_72 x1 x2 post ke_172 n)))) else (jM_sent_164 g10 x1 x2 (x3 + 1) x5 x4 post (lM_sent_72 x1 x2 post ke_172 n)))))))))))
def wM_sent (sg : MS) (x1 : Int32) (x2 : Int32) (post : Int32 → MS → Prop) : Prop :=
  (wM_isCase (s2 sg 0 2 0) x1 (fun (r1 : Int32) => (if (r1 = 0 : Prop) then (jM_sent_25 (s2 sg 0 2 0) post) else (wM_isIn (s2 sg 0 2 0) x2.toInt64 0 2 (fun (r5 : Int32) => (if (r5 = 0 : Prop) then (jM_sent_25 (s2 sg 0 2 0) post) else (wM_tellNow (s2 sg 0 2 0) (fun (r7 : Int32) (g8 : MS) => (if (x2 = 2 : Prop) then (wM_isAsSeen g8 (fun (r17 : Int32) => (if (r17 = 0 : Prop) then (post 0 g8) else (post 1 g8)))) else (∃ n16, lM_sent_72 x1 x2 post (fun (y13 : Int32) (y14 : Int32) (g15 : MS) => (if (x2 = 0 : Prop) then (post y13 (s2 g15 0 30 ((g15 0 30) - 1))) else (post y14 (s2 g15 0 30 ((g15 0 30) - 1))))) n16 0 (-1) 0 (s2 g8 0 30 ((g8 0 30) + 1))))))))))))
-- isGuiltyBy
def wM_isGuiltyBy (sg : MS) (x1 : Int32) (x2 : Int32) (x3 : Int32) (post : Int32 → MS → Prop) : Prop :=
  (wM_judgeCase (s2 (s2 (s2 sg 0 41 ((sg 0 41) ||| ((1 : Int32) <<< ((x2 : Int32) &&& 31)))) 0 43 x1) 0 42 ((1 : Int32) <<< ((x3 : Int32) &&& 31))) x1 (fun (g2 : MS) => (∃ i3 : Nat, i3 < 6 ∧ x1 = nI i3 ∧ (if (100000 ≤ ((s2 g2 0 41 (sg 0 41)) 49 i3) : Prop) then (post 0 (s2 g2 0 41 (sg 0 41))) else (post 1 (s2 g2 0 41 (sg 0 41)))))))
-- game
def jM_game_22 (sg : MS) (post : Int32 → MS → Prop) : Prop :=
  (wM_fail sg 1 (fun (r3 : Int32) (g4 : MS) => (post r3 g4)))
def jM_game_133 (sg : MS) (x1 : Int32) (x2 : Int32) (x3 : Int32) (x4 : Int32) (x5 : Int32) (x6 : Int32) (x7 : Int32) (x9 : Int32) (t0 : Int32) (post : Int32 → MS → Prop) (kb : Int32 → Int32 → MS → Prop) : Prop :=
  (kb t0 (x9 + 1) sg)
def lM_game_83 (x1 : Int32) (x2 : Int32) (x3 : Int32) (x4 : Int32) (x5 : Int32) (x6 : Int32) (x7 : Int32) (post : Int32 → MS → Prop) (ke_141 : Int32 → MS → Prop) : Nat → Int32 → Int32 → MS → Prop
  | 0, _, _, _ => False
  | n + 1, x8, x9, sg =>
  (if ((sg 4 4) ≤ x9 : Prop) then (ke_141 x8 sg) else (if (x8 = 0 : Prop) then (ke_141 x8 sg) else (if (x7 = 0 : Prop) then (wM_isGuiltyBy sg x1 x9 x6 (fun (r9 : Int32) (g10 : MS) => (if (r9 = 0 : Prop) then (jM_game_133 g10 x1 x2 x3 x4 x5 x6 x7 x9 1 post (lM_game_83 x1 x2 x3 x4 x5 x6 x7 post ke_141 n)) else (jM_game_133 g10 x1 x2 x3 x4 x5 x6 x7 x9 0 post (lM_game_83 x1 x2 x3 x4 x5 x6 x7 post ke_141 n))))) else (wM_isGuiltyBy sg x1 x5 x9 (fun (r11 : Int32) (g12 : MS) => (jM_game_133 g12 x1 x2 x3 x4 x5 x6 x7 x9 r11 post (lM_game_83 x1 x2 x3 x4 x5 x6 x7 post ke_141 n)))))))
def jM_game_173 (sg : MS) (x1 : Int32) (x2 : Int32) (x3 : Int32) (x4 : Int32) (x5 : Int32) (x6 : Int32) (post : Int32 → MS → Prop) (kb : Int32 → Int32 → Int32 → MS → Prop) : Prop :=
  (kb x3 x4 (x6 + 1) sg)
def jM_game_171 (sg : MS) (x1 : Int32) (x2 : Int32) (x3 : Int32) (x5 : Int32) (x6 : Int32) (t0 : Int32) (post : Int32 → MS → Prop) (kb : Int32 → Int32 → Int32 → MS → Prop) : Prop :=
  (jM_game_173 sg x1 x2 x3 t0 x5 x6 post kb)
def jM_game_141 (sg : MS) (x1 : Int32) (x2 : Int32) (x3 : Int32) (x4 : Int32) (x5 : Int32) (x6 : Int32) (x8 : Int32) (post : Int32 → MS → Prop) (kb : Int32 → Int32 → Int32 → MS → Prop) : Prop :=
  (if (x8 = 0 : Prop) then (jM_game_173 sg x1 x2 x3 x4 x5 x6 post kb) else (if (x4 = (-1) : Prop) then (jM_game_171 sg x1 x2 (x3 + 1) x5 x6 ((10 * x5) + x6) post kb) else (jM_game_171 sg x1 x2 (x3 + 1) x5 x6 x4 post kb)))
def lM_game_55 (x1 : Int32) (x2 : Int32) (x5 : Int32) (post : Int32 → MS → Prop) (ke_179 : Int32 → Int32 → MS → Prop) : Nat → Int32 → Int32 → Int32 → MS → Prop
  | 0, _, _, _, _ => False
  | n + 1, x3, x4, x6, sg =>
  (if ((sg 4 4) ≤ x6 : Prop) then (ke_179 x3 x4 sg) else (wM_isGuiltyBy sg x1 x5 x6 (fun (r7 : Int32) (g8 : MS) => (∃ n15, lM_game_83 x1 x2 x3 x4 x5 x6 r7 post (fun (y13 : Int32) (g14 : MS) => (jM_game_141 g14 x1 x2 x3 x4 x5 x6 y13 post (lM_game_55 x1 x2 x5 post ke_179 n))) n15 1 0 g8))))
def lM_game_41 (x1 : Int32) (x2 : Int32) (post : Int32 → MS → Prop) (ke_185 : Int32 → Int32 → MS → Prop) : Nat → Int32 → Int32 → Int32 → MS → Prop
  | 0, _, _, _, _ => False
  | n + 1, x3, x4, x5, sg =>
  (if ((sg 4 4) ≤ x5 : Prop) then (ke_185 x3 x4 sg) else (∃ n19, lM_game_55 x1 x2 x5 post (fun (y16 : Int32) (y17 : Int32) (g18 : MS) => ((lM_game_41 x1 x2 post ke_185 n) y16 y17 (x5 + 1) g18)) n19 x3 x4 0 sg))
def wM_game (sg : MS) (x1 : Int32) (x2 : Int32) (post : Int32 → MS → Prop) : Prop :=
  (wM_isCase (s2 sg 0 2 0) x1 (fun (r1 : Int32) => (if (r1 = 0 : Prop) then (jM_game_22 (s2 sg 0 2 0) post) else (if (x2 < 0 : Prop) then (jM_game_22 (s2 sg 0 2 0) post) else (if (x2 ≤ 1 : Prop) then (wM_tellNow (s2 sg 0 2 0) (fun (r5 : Int32) (g6 : MS) => (∃ n23, lM_game_41 x1 x2 post (fun (y20 : Int32) (y21 : Int32) (g22 : MS) => (if (x2 = 0 : Prop) then (post y20 g22) else (post y21 g22))) n23 0 (-1) 0 g6))) else (jM_game_22 (s2 sg 0 2 0) post))))))
-- drawOf
def wM_drawOf (sg : MS) (x1 : Int32) (post : Int32 → MS → Prop) : Prop :=
  (¬ x1 = 0 ∧ (post ((((((s2 sg 0 53 (((sg 0 53) * 1103515245) + 12345)) 0 53) : Int32) >>> ((16 : Int32) &&& 31)) &&& 32767) - (((((s2 sg 0 53 (((sg 0 53) * 1103515245) + 12345)) 0 53) : Int32) >>> ((16 : Int32) &&& 31)) &&& 32767) / x1 * x1) (s2 sg 0 53 (((sg 0 53) * 1103515245) + 12345))))
-- season
def lM_season_77 (x2 : Int32) (x3 : Int32) (x4 : Int32) (x5 : Int32) (x6 : Int32) (x7 : Int32) (x8 : Int32) (post : Int32 → MS → Prop) (ke_149 : MS → Prop) : Nat → Int32 → MS → Prop
  | 0, _, _ => False
  | n + 1, x9, sg =>
  (if (2 ≤ x9 : Prop) then (ke_149 sg) else (if ((sg 4 0) ≤ 0 : Prop) then (ke_149 sg) else (wM_drawOf sg (sg 4 0) (fun (r7 : Int32) (g8 : MS) => (wM_drawOf g8 30 (fun (r9 : Int32) (g10 : MS) => (wM_drawOf g10 6 (fun (r11 : Int32) (g12 : MS) => (wM_putRow g12 27 18 (g10 0 32) r7 r9 r11 (fun (g14 : MS) => ((lM_season_77 x2 x3 x4 x5 x6 x7 x8 post ke_149 n) (x9 + 1) (s2 g14 0 32 ((g14 0 32) + 1)))))))))))))
def jM_season_205 (sg : MS) (x2 : Int32) (x3 : Int32) (x4 : Int32) (x5 : Int32) (x7 : Int32) (x8 : Int32) (t0 : Int32) (t1 : Int32) (post : Int32 → MS → Prop) (kb : Int32 → Int32 → Int32 → Int32 → MS → Prop) : Prop :=
  (kb x4 x5 (t1 + t0) (x8 + 1) sg)
def jM_season_185 (sg : MS) (x2 : Int32) (x3 : Int32) (x4 : Int32) (x6 : Int32) (x7 : Int32) (x8 : Int32) (x9 : Int32) (t0 : Int32) (post : Int32 → MS → Prop) (kb : Int32 → Int32 → Int32 → Int32 → MS → Prop) : Prop :=
  (if (x9 = (sg 4 5) : Prop) then (jM_season_205 sg x2 x3 x4 t0 x7 x8 1 x6 post kb) else (jM_season_205 sg x2 x3 x4 t0 x7 x8 0 x6 post kb))
def jM_season_149 (sg : MS) (x2 : Int32) (x3 : Int32) (x4 : Int32) (x5 : Int32) (x6 : Int32) (x7 : Int32) (x8 : Int32) (post : Int32 → MS → Prop) (kb : Int32 → Int32 → Int32 → Int32 → MS → Prop) : Prop :=
  (wM_tell sg (fun (r16 : Int32) (g17 : MS) => (if (x8 = 0 : Prop) then (jM_season_185 (s2 g17 0 32 x7) x2 x3 (x4 + r16) x6 x7 x8 r16 r16 post kb) else (jM_season_185 (s2 g17 0 32 x7) x2 x3 (x4 + r16) x6 x7 x8 r16 (if r16 < x5 then r16 else x5) post kb))))
def lM_season_68 (x2 : Int32) (x3 : Int32) (x7 : Int32) (post : Int32 → MS → Prop) (ke_214 : Int32 → Int32 → Int32 → MS → Prop) : Nat → Int32 → Int32 → Int32 → Int32 → MS → Prop
  | 0, _, _, _, _, _ => False
  | n + 1, x4, x5, x6, x8, sg =>
  (if (x2 ≤ x8 : Prop) then (ke_214 x4 x5 x6 sg) else (∃ n18, lM_season_77 x2 x3 x4 x5 x6 x7 x8 post (fun (g15 : MS) => (jM_season_149 g15 x2 x3 x4 x5 x6 x7 x8 post (lM_season_68 x2 x3 x7 post ke_214 n))) n18 0 sg))
def wM_season (sg : MS) (x1 : Int32) (x2 : Int32) (x3 : Int32) (post : Int32 → MS → Prop) : Prop :=
  (wM_isIn (s2 sg 0 2 0) x3.toInt64 0 2 (fun (r1 : Int32) => (if (r1 = 0 : Prop) then (wM_fail (s2 sg 0 2 0) 1 (fun (r26 : Int32) (g27 : MS) => (post r26 g27))) else (wM_isIn (s2 sg 0 2 0) x2.toInt64 0 40 (fun (r3 : Int32) => (if (r3 = 0 : Prop) then (wM_fail (s2 sg 0 2 0) 2 (fun (r24 : Int32) (g25 : MS) => (post r24 g25))) else (wM_set (s2 sg 0 2 0) (fun (g6 : MS) => (∃ n23, lM_season_68 x2 x3 ((s2 g6 0 53 x1) 0 32) post (fun (y19 : Int32) (y20 : Int32) (y21 : Int32) (g22 : MS) => (if (x3 = 0 : Prop) then (post y19 g22) else (if (x3 = 1 : Prop) then (post y20 g22) else (post y21 g22)))) n23 0 0 0 0 (s2 g6 0 53 x1))))))))))
-- be
def lM_be_2 (a0 n0 : Nat) (a1 n1 : Nat) (post : MS → Prop) : Nat → Int32 → MS → Prop
  | 0, _, _ => False
  | n + 1, x2, sg =>
  (if ((nI n0) ≤ x2 : Prop) then (post sg) else (∃ i1 : Nat, i1 < n1 ∧ x2 = nI i1 ∧ (∃ i4 : Nat, i4 < n0 ∧ x2 = nI i4 ∧ ((lM_be_2 a0 n0 a1 n1 post n) (x2 + 1) (s2 sg (a0 + 1) i4 (sg (a1 + 1) i1))))))
def wM_be (sg : MS) (a0 n0 : Nat) (a1 n1 : Nat) (post : MS → Prop) : Prop :=
  (∃ n7, lM_be_2 a0 n0 a1 n1 post n7 0 sg)
-- image
def wM_image (sg : MS) (post : MS → Prop) : Prop :=
  (wM_pack (s2 (s2 (s2 (s2 sg 0 2 0) 0 54 1) 0 55 ((s2 (s2 sg 0 2 0) 0 54 1) 0 33)) 0 56 ((s2 (s2 (s2 sg 0 2 0) 0 54 1) 0 55 ((s2 (s2 sg 0 2 0) 0 54 1) 0 33)) 0 34)) 57 45 0 (fun (g2 : MS) => (wM_be g2 58 1800 28 1800 (fun (g4 : MS) => (wM_be g4 59 8 50 8 (fun (g6 : MS) => (wM_be g6 60 8 51 8 (fun (g8 : MS) => (wM_be g8 61 8 52 8 (fun (g10 : MS) => (wM_be g10 62 3 12 3 (fun (g12 : MS) => (post g12)))))))))))))
-- restore
def wM_restore (sg : MS) (post : Int32 → MS → Prop) : Prop :=
  (if (((s2 sg 0 2 0) 0 54) = 0 : Prop) then (post 0 (s2 sg 0 2 0)) else (wM_unpack (s2 (s2 (s2 sg 0 2 0) 0 33 ((s2 sg 0 2 0) 0 55)) 0 34 ((s2 (s2 sg 0 2 0) 0 33 ((s2 sg 0 2 0) 0 55)) 0 56)) 57 45 0 (fun (g2 : MS) => (wM_be g2 28 1800 58 1800 (fun (g4 : MS) => (wM_be g4 50 8 59 8 (fun (g6 : MS) => (wM_be g6 51 8 60 8 (fun (g8 : MS) => (wM_be g8 52 8 61 8 (fun (g10 : MS) => (wM_be g10 12 3 62 3 (fun (g12 : MS) => (post 1 g12))))))))))))))
