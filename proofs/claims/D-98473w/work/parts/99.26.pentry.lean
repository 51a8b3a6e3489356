/-! PURE: a call, the calls, the entry (printed by gen/g9926.py) -/
set_option maxRecDepth 100000
section CA
variable {E : w_E} {z : Nat} {T L : Nat → Nat} {V : w_V} {P : w_P} {x mb o : Nat} {A : Nat → Nat} {lw : (Nat → Int32) → Int32}
theorem q_call (h : RR E z T L V P x mb o A lw) (hA : hAd E.2.2.2.2) {U tp : Nat} (h14 : V mb 0 14 = nI tp) (htp : tp ≤ 600) (hU : 1000 + 30 * tp ≤ U) {p0 p1 p2 p3 p4 p5 : Int32} {post : Nat → Nat → (Nat → Nat) → (Nat → Nat) → w_V → w_P → Prop}
    (K : ∀ (U2 z2 : Nat) (T2 L2 : Nat → Nat) (W : w_V) (P2 : w_P) (A2 : Nat → Nat) (lw2 : (Nat → Int32) → Int32) (tp2 : Nat), tp2 ≤ 600 → U + 30 * tp2 ≤ U2 + 1000 + 30 * tp → RR E z2 T2 L2 W P2 x mb o A2 lw2 → W mb 0 14 = nI tp2 → post U2 z2 T2 L2 W P2) : wL_call E U z T L V P x mb o p0 p1 p2 p3 p4 p5 post := by
  unfold wL_call
  by_cases c0 : p0 = 0
  · rw [if_pos c0]
    exact q_feed h h14 htp (fun W tp2 a1 a2 r e => K _ _ _ _ W _ _ _ tp2 a2 (by omega) r e)
  rw [if_neg c0]
  by_cases c1 : p0 = 1
  · rw [if_pos c1]
    exact q_land h hA h14 htp (by omega) (fun U2 z2 T2 L2 W P2 A2 lw2 tp2 a1 a2 r e => K U2 z2 T2 L2 W P2 A2 lw2 tp2 (by omega) (by omega) r e)
  rw [if_neg c1]
  by_cases c2 : p0 = 2
  · rw [if_pos c2]
    exact q_fault h (fun W r e => K _ _ _ _ W _ _ _ tp htp (by omega) r (e.trans h14))
  rw [if_neg c2]
  by_cases c3 : p0 = 3
  · rw [if_pos c3]
    exact q_count h (by omega) (fun U2 z2 W u r e => K U2 z2 _ _ W _ _ _ tp htp (by omega) r (e.trans h14))
  rw [if_neg c3]
  by_cases c4 : p0 = 4
  · rw [if_pos c4]
    exact q_far h (by omega) (fun U2 z2 W u r e => K U2 z2 _ _ W _ _ _ tp htp (by omega) r (e.trans h14))
  rw [if_neg c4]
  by_cases c5 : p0 = 5
  · rw [if_pos c5]
    exact q_judge h (by omega) (fun U2 z2 W u r e => K U2 z2 _ _ W _ _ _ tp htp (by omega) r (e.trans h14))
  rw [if_neg c5]
  by_cases c6 : p0 = 6
  · rw [if_pos c6]
    exact q_stop h (by omega) (fun U2 z2 W u r e => K U2 z2 _ _ W _ _ _ tp htp (by omega) r (e.trans h14))
  rw [if_neg c6]
  by_cases c7 : p0 = 7
  · rw [if_pos c7]
    exact q_where h (by omega) (fun U2 z2 W u r e => K U2 z2 _ _ W _ _ _ tp htp (by omega) r (e.trans h14))
  rw [if_neg c7]
  by_cases c8 : p0 = 8
  · rw [if_pos c8]
    exact q_proof h (by omega) (fun U2 z2 W u r e => K U2 z2 _ _ W _ _ _ tp htp (by omega) r (e.trans h14))
  rw [if_neg c8]
  by_cases c9 : p0 = 9
  · rw [if_pos c9]
    exact q_said h (by omega) (fun U2 z2 W u r e => K U2 z2 _ _ W _ _ _ tp htp (by omega) r (e.trans h14))
  rw [if_neg c9]
  by_cases c10 : p0 = 10
  · rw [if_pos c10]
    exact q_met h (by omega) (fun U2 z2 W u r e => K U2 z2 _ _ W _ _ _ tp htp (by omega) r (e.trans h14))
  rw [if_neg c10]
  by_cases c11 : p0 = 11
  · rw [if_pos c11]
    exact q_guilty h (by omega) (fun U2 z2 W u r e => K U2 z2 _ _ W _ _ _ tp htp (by omega) r (e.trans h14))
  rw [if_neg c11]
  by_cases c12 : p0 = 12
  · rw [if_pos c12]
    exact q_news h (by omega) (fun U2 z2 W u r e => K U2 z2 _ _ W _ _ _ tp htp (by omega) r (e.trans h14))
  rw [if_neg c12]
  by_cases c13 : p0 = 13
  · rw [if_pos c13]
    exact q_start h (by omega) (fun U2 z2 W P2 A2 u r e => K U2 z2 _ _ W P2 A2 _ tp htp (by omega) r (e.trans h14))
  rw [if_neg c13]
  by_cases c14 : p0 = 14
  · rw [if_pos c14]
    exact q_inn h (by omega) (fun U2 z2 W P2 A2 u r e => K U2 z2 _ _ W P2 A2 _ tp htp (by omega) r (e.trans h14))
  rw [if_neg c14]
  by_cases c15 : p0 = 15
  · rw [if_pos c15]
    exact q_word h (by omega) (fun U2 z2 W P2 A2 u r e => K U2 z2 _ _ W P2 A2 _ tp htp (by omega) r (e.trans h14))
  rw [if_neg c15]
  by_cases c16 : p0 = 16
  · rw [if_pos c16]
    exact q_feast h (by omega) (fun U2 z2 W P2 A2 u r e => K U2 z2 _ _ W P2 A2 _ tp htp (by omega) r (e.trans h14))
  rw [if_neg c16]
  by_cases c17 : p0 = 17
  · rw [if_pos c17]
    exact q_flood h (by omega) (fun U2 z2 W P2 A2 u r e => K U2 z2 _ _ W P2 A2 _ tp htp (by omega) r (e.trans h14))
  rw [if_neg c17]
  by_cases c18 : p0 = 18
  · rw [if_pos c18]
    exact q_undo h (fun W r e => K _ _ _ _ W _ _ _ tp htp (by omega) r (e.trans h14))
  rw [if_neg c18]
  by_cases c19 : p0 = 19
  · rw [if_pos c19]
    exact q_burn h (by omega) (fun U2 z2 W u r e => K U2 z2 _ _ W _ _ _ tp htp (by omega) r (e.trans h14))
  rw [if_neg c19]
  by_cases c20 : p0 = 20
  · rw [if_pos c20]
    exact q_when h (by omega) (fun U2 z2 W u r e => K U2 z2 _ _ W _ _ _ tp htp (by omega) r (e.trans h14))
  rw [if_neg c20]
  by_cases c21 : p0 = 21
  · rw [if_pos c21]
    exact q_round h (by omega) (fun U2 z2 W u r e => K U2 z2 _ _ W _ _ _ tp htp (by omega) r (e.trans h14))
  rw [if_neg c21]
  by_cases c22 : p0 = 22
  · rw [if_pos c22]
    exact q_free h (by omega) (fun U2 z2 W u r e => K U2 z2 _ _ W _ _ _ tp htp (by omega) r (e.trans h14))
  rw [if_neg c22]
  by_cases c23 : p0 = 23
  · rw [if_pos c23]
    exact q_mercy h (by omega) (fun U2 z2 W u r e => K U2 z2 _ _ W _ _ _ tp htp (by omega) r (e.trans h14))
  rw [if_neg c23]
  by_cases c24 : p0 = 24
  · rw [if_pos c24]
    exact q_deaf h (by omega) (fun U2 z2 W u r e => K U2 z2 _ _ W _ _ _ tp htp (by omega) r (e.trans h14))
  rw [if_neg c24]
  by_cases c25 : p0 = 25
  · rw [if_pos c25]
    exact q_soonest h (by omega) (fun U2 z2 W u r e => K U2 z2 _ _ W _ _ _ tp htp (by omega) r (e.trans h14))
  rw [if_neg c25]
  by_cases c26 : p0 = 26
  · rw [if_pos c26]
    exact q_see h (by omega) (fun U2 z2 W u r e => K U2 z2 _ _ W _ _ _ tp htp (by omega) r (e.trans h14))
  rw [if_neg c26]
  by_cases c27 : p0 = 27
  · rw [if_pos c27]
    exact q_forget h (fun W r e => K _ _ _ _ W _ _ _ tp htp (by omega) r (e.trans h14))
  rw [if_neg c27]
  by_cases c28 : p0 = 28
  · rw [if_pos c28]
    exact q_sent h (by omega) (fun U2 z2 W u r e => K U2 z2 _ _ W _ _ _ tp htp (by omega) r (e.trans h14))
  rw [if_neg c28]
  by_cases c29 : p0 = 29
  · rw [if_pos c29]
    exact q_game h (by omega) (fun U2 z2 T2 L2 W P2 u r e => K U2 z2 T2 L2 W P2 _ _ tp htp (by omega) r (e.trans h14))
  rw [if_neg c29]
  by_cases c30 : p0 = 30
  · rw [if_pos c30]
    exact q_season h (by omega) (fun U2 z2 W u r e => K U2 z2 _ _ W _ _ _ tp htp (by omega) r (e.trans h14))
  rw [if_neg c30]
  by_cases c31 : p0 = 31
  · rw [if_pos c31]
    exact q_image h (fun W r e => K _ _ _ _ W _ _ _ tp htp (by omega) r (e.trans h14))
  rw [if_neg c31]
  by_cases c32 : p0 = 32
  · rw [if_pos c32]
    exact q_restore h (fun W r e => K _ _ _ _ W _ _ _ tp htp (by omega) r (e.trans h14))
  rw [if_neg c32]
  exact K _ _ _ _ _ _ _ _ tp htp (by omega) h h14
theorem loop_of (hA : hAd E.2.2.2.2) {Ls : Nat} {xs : Nat → Int32} : ∀ (m i U z : Nat) (T L : Nat → Nat) (V : w_V) (P : w_P) (A : Nat → Nat) (lw : (Nat → Int32) → Int32) (tp : Nat), RR E z T L V P x mb o A lw → V mb 0 14 = nI tp → tp ≤ 600 → Ls ≤ i + 6 * m → 1000 * m + 30 * tp ≤ U → wL_loop E x mb o Ls xs (m + 1) i U z T L V P := by
  intro m
  induction m with
  | zero =>
    intro i U z T L V P A lw tp h h14 htp hi hU
    unfold wL_loop
    by_cases e : i + 6 ≤ Ls
    · omega
    · rw [if_neg e]; trivial
  | succ m ih =>
    intro i U z T L V P A lw tp h h14 htp hi hU
    unfold wL_loop
    by_cases e : i + 6 ≤ Ls
    · rw [if_pos e]
      exact ⟨h.2.2.2.2.1, h.2.2.2.2.2.1, q_call h hA h14 htp (by omega) (fun U2 z2 T2 L2 W P2 A2 lw2 tp2 a1 a2 r e => ih (i + 6) U2 z2 T2 L2 W P2 A2 lw2 tp2 r e a1 (by omega) (by omega))⟩
    · rw [if_neg e]; trivial
theorem sgI_ag : agD sgI D0 := by
  have h4 : ∀ i, i < 7 → sgI 4 i = D0 4 i := by decide
  exact ⟨h4, fun i _ => rfl, fun j hj => absurd hj (Nat.not_lt_zero j), fun c t hc => absurd hc (Nat.not_lt_zero c), fun i hi => absurd hi (Nat.not_lt_zero i)⟩
theorem sgI_0 : ∀ j, j = 14 ∨ (29 ≤ j ∧ j ≤ 34) ∨ j = 54 → sgI 0 j = 0 := fun j hj => by
  show (if j = 23 ∨ j = 40 ∨ j = 43 then (-1 : Int32) else 0) = 0
  rw [if_neg (by omega)]
/-- the whole script -/
theorem entry_of (hE : E0ok E) {Ls : Nat} (hL : Ls ≤ 384) {xs : Nat → Int32} {z : Nat} : wL_entry E Ls xs 150016 z (fun _ => 0) (fun _ => 0) (fun _ _ _ => 0) (fun _ _ => none) := by
  have hA : hAd E.2.2.2.2 := hE.2.2.2.2.2.1
  have hf : frs z (fun _ => 0) := fun a ha => absurd rfl ha
  unfold wL_entry
  refine ⟨150015, rfl, fun x z1 T1 L1 V1 P1 n1 => ⟨600, 149415, rfl, ?_⟩⟩
  refine new1 hf n1 (Nat.le_refl _) (fun z2 T2 L2 V2 P2 hb => ?_)
  obtain ⟨b1, b2', b3⟩ := hb
  refine ⟨b2'.1.1, 149413, rfl, fun mb z3 T3 L3 V3 P3 n3 => ?_⟩
  obtain ⟨x3, -⟩ := ext.nw b1 n3
  refine ⟨(x3.2.2 x (ne0 b2'.1.1)).1.trans b2'.1.1, 500, 148913, rfl, ?_⟩
  refine new8 b1 n3 (Nat.le_refl _) (fun z4 T4 L4 V4 P4 x4 hm hv => ?_)
  refine ⟨(x4.2.2 x (ne0 b2'.1.1)).1.trans b2'.1.1, 148912, rfl, fun o z5 T5 L5 V5 P5 n5 => ?_⟩
  obtain ⟨x5, y5, t5, l5, -, -⟩ := ext.nw x4.1 n5
  have x45 := x4.tr x5
  have m5 : mOk E T5 L5 P5 mb := hm.ext (fun a ha => ⟨(x5.2.2 a ha).1, (x5.2.2 a ha).2.1, (x5.2.2 a ha).2.2.2⟩)
  have v5 : V5 mb = sgI := by rw [(x5.2.2 mb (ne0 hm.1)).2.2.1, hv]
  refine ⟨(x45.2.2 x (ne0 b2'.1.1)).1.trans b2'.1.1, t5, m5, 65, ?_⟩
  refine loop_of hA 64 0 148912 z5 T5 L5 V5 P5 (A1 x) (fun _ => 0) 0 ⟨bxP.x x45.2.2 b2', ?_, m5, t5, by rw [l5]; decide, by rw [l5]; decide, x5.1⟩ (by rw [v5]; rfl) (by decide) (by omega) (by decide)
  rw [v5]
  exact cR.x x45.2.2 b2' (b3 sgI sgI_ag (fun _ _ => rfl) sgI_0 rfl)
end CA
