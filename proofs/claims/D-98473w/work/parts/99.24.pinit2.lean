/-! PURE: the class's box is made -/
set_option maxRecDepth 100000
section IW
variable {ad : Nat → Nat} {z : Nat} {T L : Nat → Nat} {V : w_V} {P : w_P} {z1 : Nat} {T1 L1 : Nat → Nat} {V1 : w_V} {P1 : w_P}
theorem new1 (hf : frs z T) {t U : Nat} (hn : nwH t z T L V P 52 0 z1 T1 L1 V1 P1) (hU : 600 ≤ U) {post : Nat → (Nat → Nat) → (Nat → Nat) → w_V → w_P → Prop}
    (kk : ∀ (z' : Nat) (T' L' : Nat → Nat) (V' : w_V) (P' : w_P), box1 ad t z' T' L' V' P' → post z' T' L' V' P') : wFX1_init ad U z1 T1 L1 V1 P1 t post := by
  obtain ⟨m0, eo, v0, p0⟩ := mkg.b (c := 1) hf hn
  have ez : z1 = z + 1 := hn.2.1
  subst eo
  have nil : ∀ {p : Nat → Prop}, ∀ j, j ∈ ([] : List Nat) → p j := fun j hj => absurd hj List.not_mem_nil
  unfold wFX1_init
  refine ⟨U - 1, by omega, fun l y1 S1 K1 W1 Q1 n1 => ?_⟩
  have el : l = t + 1 := by have := n1.1; omega
  have gT1 := (m0.grow (ext.nw m0.1.1 n1).1 (k1 := 1) (by have := n1.2.1; omega)).1.2.2.2.2.1
  refine ⟨gT1, 20, U - 21, by omega, ?_⟩
  refine new2 m0.1.1 n1 (Nat.le_refl _) (fun T2 L2 V2 P2 x2 hl => ?_)
  obtain ⟨m2, v2, p2⟩ := m0.grow x2 (k1 := 10) (by omega)
  refine ⟨hl.1.1, m2.2.2.2.2.1, fun P3 e3 => ⟨U - 22, by omega, fun b1 y3 S3 K3 W3 Q3 n3 => ?_⟩⟩
  have m3 := m2.put (V1 := V2) (P1 := P3) (fun a ha => ⟨rfl, by rw [e3, up2_n ha]⟩) nil
  have k3 : kfs t T2 L2 V2 P2 T2 L2 V2 P3 := kfs.put (fun a ha => by rw [e3, up2_n ha])
  have eb1 : b1 = t + 11 := by have := n3.1; omega
  refine ⟨(m3.grow (ext.nw m3.1.1 n3).1 (k1 := 11) (by have := n3.2.1; omega)).1.2.2.2.2.1, 220, U - 242, by omega, ?_⟩
  refine new5 m3.1.1 n3 (Nat.le_refl _) (fun T4 L4 V4 P4 x4 hb1 => ?_)
  obtain ⟨m4, v4, p4⟩ := m3.grow x4 (k1 := 222) (by omega)
  refine ⟨hb1.1.1, m4.2.2.2.2.1, fun P5 e5 => ⟨U - 243, by omega, fun b2 y5 S5 K5 W5 Q5 n5 => ?_⟩⟩
  have m5 := m4.put (V1 := V4) (P1 := P5) (fun a ha => ⟨rfl, by rw [e5, up2_n ha]⟩) nil
  have k5 : kfs t T4 L4 V4 P4 T4 L4 V4 P5 := kfs.put (fun a ha => by rw [e5, up2_n ha])
  have eb2 : b2 = t + 223 := by have := n5.1; omega
  refine ⟨(m5.grow (ext.nw m5.1.1 n5).1 (k1 := 223) (by have := n5.2.1; omega)).1.2.2.2.2.1, 220, U - 463, by omega, ?_⟩
  refine new5 m5.1.1 n5 (Nat.le_refl _) (fun T6 L6 V6 P6 x6 hb2 => ?_)
  obtain ⟨m6, v6, p6⟩ := m5.grow x6 (k1 := 434) (by omega)
  refine ⟨hb2.1.1, m6.2.2.2.2.1, fun P7 e7 => ?_⟩
  have m7 := m6.put (V1 := V6) (P1 := P7) (fun a ha => ⟨rfl, by rw [e7, up2_n ha]⟩) nil
  have k7 : kfs t T6 L6 V6 P6 T6 L6 V6 P7 := kfs.put (fun a ha => by rw [e7, up2_n ha])
  have hb16 : bk5 40 b1 T6 L6 V6 P7 := ((hb1.s k5 (by omega)).s (kfs.of (t := t) x6.2.2) (by omega)).s k7 (by omega)
  have p70 : ∀ j, P7 t j = if j = 2 then some b2 else if j = 1 then some b1 else if j = 0 then some l else none := fun j => by
    rw [e7, up2_a, p6, e5, up2_a, p4, e3, up2_a, p2, p0]
  refine ⟨b1, by rw [p70]; rfl, hb16.1.1, b1 + 1, hb16.1.2.1, hb16.2.1.1, fun P8 e8 => ⟨U - 464, by omega, fun s y8 S8 K8 W8 Q8 n8 => ?_⟩⟩
  have m8 := m7.put (V1 := V6) (P1 := P8) (fun a ha => ⟨rfl, by rw [e8, up2_n ha]⟩) nil
  have k8 : kfs t T6 L6 V6 P7 T6 L6 V6 P8 := kfs.put (fun a ha => by rw [e8, up2_n ha])
  have es : s = t + 435 := by have := n8.1; omega
  refine ⟨(m8.grow (ext.nw m8.1.1 n8).1 (k1 := 435) (by have := n8.2.1; omega)).1.2.2.2.2.1, 4, U - 468, by omega, ?_⟩
  refine new6 m8.1.1 n8 (Nat.le_refl _) (fun T9 L9 V9 P9 x9 hs9 _ => ?_)
  obtain ⟨m9, v9, p9⟩ := m8.grow x9 (k1 := 439) (by omega)
  refine ⟨hs9, m9.2.2.2.2.1, fun P10 e10 => ⟨U - 469, by omega, fun tr y10 S10 K10 W10 Q10 n10 => ?_⟩⟩
  have m10 := m9.put (V1 := V9) (P1 := P10) (fun a ha => ⟨rfl, by rw [e10, up2_n ha]⟩) nil
  have k10 : kfs t T9 L9 V9 P9 T9 L9 V9 P10 := kfs.put (fun a ha => by rw [e10, up2_n ha])
  have etr : tr = t + 440 := by have := n10.1; omega
  have p10 : ∀ j, P10 t j = if j = 4 then some s else if j = 3 then some (b1 + 1) else if j = 2 then some b2 else if j = 1 then some b1 else if j = 0 then some l else none := fun j => by
    rw [e10, up2_a, p9, e8, up2_a, p70]
  have x10 := (ext.nw m10.1.1 n10).1
  -- the land in the heap so far
  have kl : kfs t T2 L2 V2 P2 T9 L9 V9 P10 := ((((((k3.tr (kfs.of (t := t) x4.2.2)).tr k5).tr (kfs.of (t := t) x6.2.2)).tr k7).tr k8).tr (kfs.of (t := t) x9.2.2)).tr k10
  have hl10 := hl.s kl (by omega)
  have hb110 : bk5 40 b1 T9 L9 V9 P10 := ((hb16.s k8 (by omega)).s (kfs.of (t := t) x9.2.2) (by omega)).s k10 (by omega)
  have hb210 : bk5 40 b2 T9 L9 V9 P10 := (((hb2.s k7 (by omega)).s k8 (by omega)).s (kfs.of (t := t) x9.2.2) (by omega)).s k10 (by omega)
  have t10 := x10.2.2 t m10.t0
  have l10 := x10.2.2 l (ne0 hl10.1.1)
  have s10 := x10.2.2 s (ne0 hs9)
  refine ⟨t10.1.trans m10.2.2.2.2.1, l, by rw [t10.2.2.2, p10]; rfl, l10.1.trans hl10.1.1, s, by rw [t10.2.2.2, p10]; rfl, s10.1.trans hs9, 20, U - 489, by omega, ?_⟩
  refine new7 m10.1.1 n10 hl10.1.1 hs9 (Nat.le_refl _) (fun T11 L11 V11 P11 x11 htr q0 q1 => ?_)
  obtain ⟨m11, v11, p11⟩ := m10.grow x11 (k1 := 449) (by omega)
  refine ⟨htr, m11.2.2.2.2.1, fun P12 e12 => ⟨U - 508, by omega, fun oa y12 T13 L13 V13 P13 n13 => ?_⟩⟩
  have m12 := m11.put (V1 := V11) (P1 := P12) (fun a ha => ⟨rfl, by rw [e12, up2_n ha]⟩) nil
  have k12 : kfs t T11 L11 V11 P11 T11 L11 V11 P12 := kfs.put (fun a ha => by rw [e12, up2_n ha])
  obtain ⟨m13, v13, p13⟩ := m12.arr (j := 7) n13 (by decide) rfl (by decide)
  refine ⟨(m12.grow (ext.nw m12.1.1 n13).1 (k1 := 450) (by have := n13.2.1; omega)).1.2.2.2.2.1, fun P14 e14 => ?_⟩
  subst e14
  have k13 : kfs t T11 L11 V11 P12 T13 L13 V13 (up2 P13 t 7 (some oa)) := fun a ha h0 _ => by
    obtain ⟨w1, w2, w3⟩ := mkg.arrk (t := t) (j := 7) (x := some oa) m12.1.1 n13 a ha
    exact ⟨w1, w2, (w3 h0).1, (w3 h0).2⟩
  have p14 : ∀ j, j ≠ 7 → up2 P13 t 7 (some oa) t j = if j = 5 then some tr else P10 t j := fun j hj => by
    rw [p13 j hj, e12, up2_a, p11]
  have vt : V13 t = fun _ _ => 0 := by rw [v13, v11, v9, v6, v4, v2, v0]
  refine m13.seal (by decide) (fun T15 V15 s1 s2 s3 s4 s5 s6 => ?_)
  have k15 : kfs t T13 L13 V13 (up2 P13 t 7 (some oa)) T15 L13 V15 (up2 P13 t 7 (some oa)) := fun a ha h0 hna => by
    obtain ⟨w1, w2⟩ := s6 a h0 ha hna
    exact ⟨w1, rfl, w2, rfl⟩
  have kE : kfs t T9 L9 V9 P10 T15 L13 V15 (up2 P13 t 7 (some oa)) := (((kfs.of (t := t) x11.2.2).tr k12).tr k13).tr k15
  have kE1 : kfs t T11 L11 V11 P11 T15 L13 V15 (up2 P13 t 7 (some oa)) := (k12.tr k13).tr k15
  have HL := hl10.s kE (by omega)
  have HB1 := hb110.s kE (by omega)
  have HB2 := hb210.s kE (by omega)
  have hs15 := (kE.at hs9 (by decide) (by omega)).1.trans hs9
  obtain ⟨r1, -, -, r4⟩ := kE1.at htr (by decide) (by omega)
  intro V16 e16
  have v16 : ∀ a, a ≠ t → V16 a = V15 a := fun a ha => by rw [e16, up3_n ha]
  refine ⟨l, by rw [p14 0 (by decide), if_neg (by decide), p10]; rfl, HL.1.1, ?_⟩
  refine sX_measures (N := 0) (ro := fun _ _ => 0) (fun _ _ => Nat.zero_le _) (Nat.zero_le _) (by rw [v16 l (by omega)]; exact HL.1.2.1) (fun a b _ _ => by rw [v16 l (by omega)]; exact HL.2.1 _) (fun V17 f17 _ => ?_)
  have v17 : ∀ a, a ≠ t → a ≠ l → V17 a = V15 a := fun a ha hal => by rw [f17.1 a hal, v16 a ha]
  refine ⟨b1 + 1, by rw [p14 3 (by decide), if_neg (by decide), p10]; rfl, HB1.2.1.1, l, by rw [p14 0 (by decide), if_neg (by decide), p10]; rfl, HL.1.1, ?_⟩
  obtain ⟨⟨u1, u2, u3, u4, u5⟩, u6, ⟨u7, u8, u9, u10, u11⟩, ⟨u12, u13, u14, u15, u16⟩, -⟩ := id HL
  refine sX6_beg (jl := l + 3) (ja := l + 4) (D := D0) (Nat.zero_le _) ⟨u7, ⟨u12, by rw [v17 (l + 3) (by omega) (by omega)]; exact u13, u14, u15, by rw [u16]; decide, by rw [u16]; decide⟩, fun j hj => absurd hj (Nat.not_lt_zero j)⟩ (by rw [f17.2 0 (by decide), v16 l (by omega)]; exact u5) (fun a ha e => ?_) u1 (fun V18 c1 _ c3 c4 c5 _ => ?_)
  · rw [e, HB1.2.1.1] at ha; rcases ha with w | w | w | w | w <;> cases w
  refine kk _ _ _ _ _ (box1_of (V1 := V15) (l := l) (b1 := b1) (b2 := b2) (s := s) (tr := tr) s1.1 el eb1 eb2 es etr s2 ⟨?_, ?_, ?_, ?_, ?_, ?_⟩ HL HB1 HB2 hs15 ⟨r1.trans htr, by rw [r4]; exact q0, by rw [r4]; exact q1⟩ (fun a h1 h2 h3 => ?_) (fun k hk => ?_) ⟨?_, ?_, ?_⟩ ⟨?_, c4, c5⟩)
  · rw [p14 0 (by decide), if_neg (by decide), p10]; rfl
  · rw [p14 1 (by decide), if_neg (by decide), p10]; rfl
  · rw [p14 2 (by decide), if_neg (by decide), p10]; rfl
  · rw [p14 3 (by decide), if_neg (by decide), p10]; rfl
  · rw [p14 4 (by decide), if_neg (by decide), p10]; rfl
  · rw [p14 5 (by decide), if_pos rfl]
  · rw [c1 a h3, v17 a h1 h2]
  · rw [c1 l (by omega), f17.2 k hk, v16 l (by omega)]
  · rw [c1 t (by omega), f17.1 t (by omega), e16, up3_a, s2_i (by decide), s3, vt]
  · rw [c1 t (by omega), f17.1 t (by omega), e16, up3_a, s2_i (by decide), s3, vt]
  · rw [c1 t (by omega), f17.1 t (by omega), e16, up3_a, s2_s]
  · exact c3
end IW
