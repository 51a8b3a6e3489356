/-! PURE: the model's land, whole -/
set_option maxRecDepth 100000
/-- a land read: what the model is then -/
def tkS (sg D s9 : MS) : Prop := agD s9 D ∧ (∀ k, k ≠ 0 → k ≠ 25 → hlf k = 0 → s9 k = sg k) ∧ (s9 0 2 = 0 ∧ s9 0 14 = 0 ∧ s9 0 23 = -1 ∧ s9 0 29 = D 4 1) ∧ (∀ j, zf j = true → j ≠ 29 → s9 0 j = 0) ∧ ∀ a b, a < nT D → b < nT D → s9 25 (9 * a + b) = nI (fw (roN D) (nT D) a b)
/-- a fault: what the model is then -/
def tkF (sg : MS) (pl : Nat) (s9 : MS) : Prop := (∀ r i, r ≠ 0 → r ≠ 13 → (hlf r = 0 ∨ i < hlf r) → s9 r i = sg r i) ∧ s9 13 = s2 sg 13 0 (sg 13 0 + 1) 13 ∧ (s9 0 2 = 0 ∧ s9 0 14 = 0 ∧ s9 0 23 = nI pl) ∧ ∀ j, rj j = false → j ≠ 2 → j ≠ 14 → j ≠ 16 → j ≠ 21 → j ≠ 22 → j ≠ 23 → s9 0 j = sg 0 j
section QM
variable {b : Nat → Nat} {n tp m : Nat} {sg : MS} {post : Int32 → MS → Prop}
def lst1 (sg : MS) (n : Nat) : MS := s2 (s2 (s2 (s2 (s2 (s2 sg 0 2 0) 0 14 0) 0 16 (nI n)) 0 15 0) 0 21 0) 0 23 (-1)
theorem lst1_r {k : Nat} (h : k ≠ 0) : lst1 sg n k = sg k := by
  unfold lst1
  rw [s2_rowN h, s2_rowN h, s2_rowN h, s2_rowN h, s2_rowN h, s2_rowN h]
theorem lst1_f {j : Nat} (h2 : j ≠ 2) (h14 : j ≠ 14) (h16 : j ≠ 16) (h15 : j ≠ 15) (h21 : j ≠ 21) (h23 : j ≠ 23) : lst1 sg n 0 j = sg 0 j := by
  unfold lst1
  rw [s2_i h23, s2_i h21, s2_i h15, s2_i h16, s2_i h14, s2_i h2]
theorem qM_landS (ht : tOk b n) (h14 : sg 0 14 = nI tp) (htp : tp ≤ 600) (hn : n ≤ tp) (hb : ∀ i, i < n → sg 14 i = nI (b i)) (hM : ∀ (ke : MS → Prop) (s : MS), ML b n (lst1 sg n) D0 (tSkp b n 0) s → (∀ s9, (∃ D', ML b n (lst1 sg n) D' n s9 ∧ lndOk D' ∧ ∀ s, tkS sg D' s → post 0 s) ∨ (fU (lst1 sg n) s9 ∧ ∃ k pl, k ≠ 0 ∧ s9 0 21 = k ∧ s9 0 22 = nI pl ∧ ∀ s, tkF sg pl s → post k s) → ke s9) → lM_land_112 post ke m (dn false false) s) : wM_land sg (nI n) post := by
  unfold wM_land
  rw [if_neg (nI_pos (by omega)), if_pos (show nI n ≤ (s2 sg 0 2 0) 0 14 from (show nI n ≤ sg 0 14 by rw [h14]; exact nI_le hn (by omega)))]
  refine sM_land0 (sg := lst1 sg n) (fun s1 a1 a2 a3 a4 => ?_)
  refine sM_stepOn (b := b) (n := n) (q := 0) ht ⟨?_, fun i hi => ?_⟩ ?_ (Nat.zero_le _) (fun g f5 h5 => ?_)
  · rw [a3]; rfl
  · rw [a4, lst1_r (by decide)]; exact hb i hi
  · rw [a3]; rfl
  · have e21 : g 0 21 = 0 := by rw [f5.2 21 rfl, a3]; rfl
    refine ⟨m, hM _ g ⟨h5, e21, a1.s f5, a2.tr f5.U⟩ (fun s9 hs => ?_)⟩
    unfold jM_land_135
    rcases hs with ⟨D', q1, q2, q3⟩ | ⟨q1, k, pl, q2, q3, q4, q5⟩
    · rw [if_pos q1.2.1]
      refine sM_takeOver q2 q1.2.2.1 (fun s t => q3 s ?_)
      obtain ⟨t1, t2, t3, t4, t5, t6⟩ := t
      obtain ⟨u1, u2⟩ := q1.2.2.2
      refine ⟨t1, fun k hk h25 hh => ?_, ⟨?_, ?_, ?_, t4⟩, t5, t6⟩
      · rw [t2 k hk h25 hh]
        funext i
        rw [u1 k i hk (Or.inl hh), lst1_r hk]
      · rw [t3 2 rfl, u2 2 rfl (by decide) (by decide)]; rfl
      · rw [t3 14 rfl, u2 14 rfl (by decide) (by decide)]; rfl
      · rw [t3 23 rfl, u2 23 rfl (by decide) (by decide)]; rfl
    · obtain ⟨u1, u2⟩ := q1
      rw [if_neg (by rw [q3]; exact q2)]
      have e0 : ∀ j, j ≠ 23 → (s2 (s2 s9 0 23 (s9 0 22)) 13 0 (((s2 s9 0 23 (s9 0 22)) 13 0) + 1)) 0 j = s9 0 j := fun j hj => by rw [s2_rowN (by decide), s2_i hj]
      rw [e0 21 (by decide), q3]
      refine q5 _ ⟨fun r i hr h13 hh => ?_, ?_, ⟨?_, ?_, ?_⟩, fun j hr j2 j14 j16 j21 j22 j23 => ?_⟩
      · rw [s2_rowN h13, s2_rowN hr, u1 r i hr hh, lst1_r hr]
      · have e13 : s9 13 = sg 13 := by
          funext i
          rw [u1 13 i (by decide) (Or.inl rfl), lst1_r (by decide)]
        rw [s2_row, s2_rowN (by decide), e13, s2_row]
      · rw [e0 2 (by decide), u2 2 rfl (by decide) (by decide)]; rfl
      · rw [e0 14 (by decide), u2 14 rfl (by decide) (by decide)]; rfl
      · rw [s2_rowN (by decide), s2_s, q4]
      · rw [e0 j j23, u2 j hr j21 j22]
        exact lst1_f j2 j14 j16 (fun e => by rw [e] at hr; cases hr) j21 j23
theorem qM_land0 {x1 : Int32} (h : x1 < 0 ∨ ¬ x1 ≤ sg 0 14) (hp : ∀ b s9, mfr sg s9 → s9 0 2 = 1 → post b s9) : wM_land sg x1 post := by
  unfold wM_land jM_land_17
  by_cases e : x1 < 0
  · rw [if_pos e]
    exact sM_fail hp
  · rw [if_neg e, if_neg (show ¬ x1 ≤ (s2 sg 0 2 0) 0 14 from by
      rcases h with q | q
      · exact absurd q e
      · exact q)]
    exact sM_fail hp
end QM
