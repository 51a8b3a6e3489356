/-! PURE: the class's three, and all of a trial -/
set_option maxRecDepth 100000
theorem nar_b2 (b : Bool) : vp_nar .boolean (b2 b) = b2 b := by cases b <;> rfl
/-- a trial's rows of meetings, of voids -/
def metX (V : w_V) (tr : Nat) (D : MS) : Prop := ∀ a b, a < nJ D → b < nJ D → V tr 8 (5 * a + b) = if a = b then 9999 else clF (pMeet D a b)
def voidX (V : w_V) (tr : Nat) (D S : MS) (c : Nat) : Prop := ∀ j, j < nJ D → V tr 11 (5 * c + j) = b2 (pVoid D S c j)
def orN (x : Int32) : Int32 := if x < 100000 then x else -1
def guiltX (V : w_V) (tr : Nat) (D S : MS) (c : Nat) : Prop := V tr 9 c = orN (pG D S c).1 ∧ V tr 10 c = (pG D S c).2
section TR4
variable {ad : Nat → Nat} {T L : Nat → Nat} {V : w_V} {P : w_P} {tr l st jl ja cl ca vw : Nat} {D : MS} {lw : (Nat → Int32) → Int32}
theorem sX_isOne (hL : lndOk D) {S : MS} (hS : cS V tr S) {c j dd : Nat} (hc : c < nC D) (hj : j < nJ D) (hv : voidX V tr D S c) {post : Int32 → Prop} (hp : post (b2 (one D S c dd j))) : wX7_isOne ad T L V P tr (nI c) (nI j) (nI dd) post := by
  have hJ5 := hL.2.1.2
  have hC6 := hL.2.2.1.2
  obtain ⟨e1, e2, e3⟩ := hS (5 * c + j) (by omega)
  unfold wX7_isOne
  unfold one pGood at hp
  refine ⟨5 * c + j, by omega, ix5 c j, ?_⟩
  rw [e1]
  by_cases h1 : S 0 (5 * c + j) = 1
  · rw [if_pos h1]
    rw [decide_eq_true h1, Bool.true_and] at hp
    refine ⟨5 * c + j, by omega, ix5 c j, ?_⟩
    rw [hv j hj]
    cases hx : pVoid D S c j with
    | true => rw [b2_t, if_neg (by decide)]; rw [hx] at hp; exact hp
    | false =>
      rw [b2_f, if_pos rfl]
      rw [hx, Bool.not_false, Bool.true_and] at hp
      refine ⟨5 * c + j, by omega, ix5 c j, ?_⟩
      rw [e2]
      by_cases h2 : nI dd < S 1 (5 * c + j)
      · rw [if_pos h2]
        rw [show decide (¬ nI dd < S 1 (5 * c + j)) = false from decide_eq_false (fun q => q h2)] at hp
        exact hp
      · rw [if_neg h2]
        rw [decide_eq_true h2] at hp
        exact hp
  · rw [if_neg h1]
    rw [decide_eq_false h1, Bool.false_and, Bool.false_and] at hp
    exact hp
theorem sX_areApart (hL : lndOk D) {S : MS} (hS : cS V tr S) (hm : metX V tr D) {c a b dd : Nat} (hc : c < nC D) (ha : a < nJ D) (hb : b < nJ D) (hab : a < b) {post : Int32 → Prop} (hp : post (b2 (apart D S c dd a b))) : wX7_areApart ad T L V P tr (nI c) (nI a) (nI b) (nI dd) post := by
  have hJ5 := hL.2.1.2
  have hC6 := hL.2.2.1.2
  obtain ⟨-, -, e1⟩ := hS (5 * c + a) (by omega)
  obtain ⟨-, -, e2⟩ := hS (5 * c + b) (by omega)
  unfold wX7_areApart
  unfold apart at hp
  refine ⟨5 * c + a, by omega, ix5 c a, 5 * c + b, by omega, ix5 c b, ?_⟩
  rw [e1, e2]
  by_cases h1 : S 2 (5 * c + a) = S 2 (5 * c + b)
  · rw [if_pos h1]
    rw [decide_eq_false (fun q => q.1 h1)] at hp
    exact hp
  · rw [if_neg h1]
    refine ⟨5 * a + b, by omega, ix5 a b, ?_⟩
    rw [hm a b ha hb, show (if a = b then (9999 : Int32) else clF (pMeet D a b)) = clF (pMeet D a b) from if_neg (by omega)]
    by_cases h2 : clF (pMeet D a b) ≤ nI dd
    · rw [if_pos h2]
      rw [decide_eq_false (fun q => q.2 h2)] at hp
      exact hp
    · rw [if_neg h2]
      rw [decide_eq_true ⟨h1, h2⟩] at hp
      exact hp
theorem sX_three (hL : lndOk D) (h : trW ad T L V P tr l st jl ja cl ca vw D lw) {S : MS} (hS : cS V tr S) (hm : metX V tr D) {c dd : Nat} (hc : c < nC D) (hv : voidX V tr D S c) {post : Int32 → Prop} (hp : ∀ r, thr D S c dd r → post r) : wX7_three ad T L V P tr (nI c) (nI dd) post := by
  have hJ5 := hL.2.1.2
  unfold wX7_three
  have found : ∀ x y z, vld (nJ D) x y z → sat D S c dd x y z = true → (∀ u v w, vld (nJ D) u v w → lx u v w x y z → sat D S c dd u v w = false) → post ((((1 : Int32) <<< ((nI x : Int32) &&& 31)) ||| ((1 : Int32) <<< ((nI y : Int32) &&& 31))) ||| ((1 : Int32) <<< ((nI z : Int32) &&& 31))) := fun x y z h1 h2 h3 => hp _ (Or.inr ⟨x, y, z, h1, h2, rfl, h3⟩)
  refine loop0 (F := fun n i (_ : Unit) => lX7_three_2 ad T L V P tr (nI c) (nI dd) post _ n i) (nJ D) (fun x _ => ∀ u v w, vld (nJ D) u v w → lx u v w x 0 0 → sat D S c dd u v w = false) () (fun u v w _ hl => by unfold lx at hl; omega) (fun n x s hx hs kk => ?_)
  show lX7_three_2 ad T L V P tr (nI c) (nI dd) post _ (n + 1) (nI x)
  unfold lX7_three_2
  refine sX_judges h ?_
  by_cases hxN : x < nJ D
  · rw [if_neg (nI_ge hxN (by omega)), nI_1 x]
    refine loopK (F := fun n i (_ : Unit) => lX7_three_15 ad T L V P tr (nI c) (nI dd) (nI x) post _ _ n i) (nJ D) (fun y _ => ∀ u v w, vld (nJ D) u v w → lx u v w x y 0 → sat D S c dd u v w = false) (x + 1) (by omega) () (fun u v w hv2 hl => hs u v w hv2 (by unfold vld at hv2; unfold lx at hl ⊢; omega)) (fun n2 y s2 hxy hy hs2 kk2 => ?_)
    show lX7_three_15 ad T L V P tr (nI c) (nI dd) (nI x) post _ _ (n2 + 1) (nI y)
    unfold lX7_three_15 jX7_three_131
    refine sX_judges h ?_
    by_cases hyN : y < nJ D
    · rw [if_neg (nI_ge hyN (by omega))]
      have skip : (∀ w, sat D S c dd x y w = false) → lX7_three_15 ad T L V P tr (nI c) (nI dd) (nI x) post (fun (y30 : Int32) (y31 : Int32) => post ((((1 : Int32) <<< ((nI x : Int32) &&& 31)) ||| ((1 : Int32) <<< ((y30 : Int32) &&& 31))) ||| ((1 : Int32) <<< ((y31 : Int32) &&& 31)))) (lX7_three_2 ad T L V P tr (nI c) (nI dd) post (fun (y33 : Int32) (y34 : Int32) (y35 : Int32) => (post ((((1 : Int32) <<< ((y33 : Int32) &&& 31)) ||| ((1 : Int32) <<< ((y34 : Int32) &&& 31))) ||| ((1 : Int32) <<< ((y35 : Int32) &&& 31))))) n (nI (x + 1))) n2 (nI y + 1) := by
        intro hw
        rw [nI_1 y]
        refine kk2 () hyN (fun u v w hv2 hl => ?_)
        by_cases q : u = x ∧ v = y
        · obtain ⟨rfl, rfl⟩ := q; exact hw w
        · exact hs2 u v w hv2 (by unfold vld at hv2; unfold lx at hl ⊢; omega)
      refine sX_isOne hL hS hc hxN hv ?_
      cases o1 : one D S c dd x with
      | false =>
        rw [b2_f, if_pos rfl]
        exact skip (fun w => by unfold sat; rw [o1, Bool.false_and])
      | true =>
      rw [b2_t, if_neg (by decide)]
      refine sX_isOne hL hS hc hyN hv ?_
      cases o2 : one D S c dd y with
      | false =>
        rw [b2_f, if_pos rfl]
        exact skip (fun w => by unfold sat; rw [o2, Bool.false_and, Bool.and_false])
      | true =>
      rw [b2_t, if_neg (by decide)]
      refine sX_areApart hL hS hm hc hxN hyN (by omega) ?_
      cases o3 : apart D S c dd x y with
      | false =>
        rw [b2_f, if_pos rfl]
        exact skip (fun w => by unfold sat; rw [o3, Bool.false_and, Bool.and_false, Bool.and_false])
      | true =>
      rw [b2_t, if_neg (by decide), nI_1 y]
      refine loopK (F := fun n i (_ : Unit) => lX7_three_66 ad T L V P tr (nI c) (nI dd) (nI x) (nI y) post _ _ n i) (nJ D) (fun z _ => ∀ u v w, vld (nJ D) u v w → lx u v w x y z → sat D S c dd u v w = false) (y + 1) (by omega) () (fun u v w hv2 hl => hs2 u v w hv2 (by unfold vld at hv2; unfold lx at hl ⊢; omega)) (fun n3 z s3 hyz hz hs3 kk3 => ?_)
      show lX7_three_66 ad T L V P tr (nI c) (nI dd) (nI x) (nI y) post _ _ (n3 + 1) (nI z)
      unfold lX7_three_66 jX7_three_125
      refine sX_judges h ?_
      by_cases hzN : z < nJ D
      · rw [if_neg (nI_ge hzN (by omega))]
        have es : sat D S c dd x y z = (one D S c dd z && (apart D S c dd x z && apart D S c dd y z)) := by
          unfold sat
          rw [o1, o2, o3, Bool.true_and, Bool.true_and, Bool.true_and]
        have hn3 : sat D S c dd x y z = false → _ := fun q => kk3 () hzN (fun u v w hv2 hl => by
          by_cases e : u = x ∧ v = y ∧ w = z
          · obtain ⟨rfl, rfl, rfl⟩ := e; exact q
          · exact hs3 u v w hv2 (by unfold lx at hl ⊢; omega))
        rw [← nI_1 z] at hn3
        refine sX_isOne hL hS hc hzN hv ?_
        cases o4 : one D S c dd z with
        | false =>
          rw [b2_f, if_pos rfl]
          exact hn3 (by rw [es, o4, Bool.false_and])
        | true =>
        rw [b2_t, if_neg (by decide)]
        refine sX_areApart hL hS hm hc hxN hzN (by omega) ?_
        cases o5 : apart D S c dd x z with
        | false =>
          rw [b2_f, if_pos rfl]
          exact hn3 (by rw [es, o5, Bool.false_and, Bool.and_false])
        | true =>
        rw [b2_t, if_neg (by decide)]
        refine sX_areApart hL hS hm hc hyN hzN (by omega) ?_
        cases o6 : apart D S c dd y z with
        | false =>
          rw [b2_f, if_pos rfl]
          exact hn3 (by rw [es, o6, Bool.and_false, Bool.and_false])
        | true =>
        rw [b2_t, if_neg (by decide)]
        exact found x y z ⟨by omega, by omega, hzN⟩ (by rw [es, o4, o5, o6]; rfl) hs3
      · have ez : z = nJ D := by omega
        rw [if_pos (nI_le (by omega) (by omega))]
        refine kk2 () hyN (fun u v w hv2 hl => hs3 u v w hv2 (by unfold vld at hv2; unfold lx at hl ⊢; omega))
    · have ey : y = nJ D := by omega
      rw [if_pos (nI_le (by omega) (by omega))]
      exact kk () hxN (fun u v w hv2 hl => hs2 u v w hv2 (by unfold vld at hv2; unfold lx at hl ⊢; omega))
  · have ex : x = nJ D := by omega
    rw [if_pos (nI_le (by omega) (by omega))]
    exact hp 0 (Or.inl ⟨rfl, fun u v w hv2 => hs u v w hv2 (by unfold vld at hv2; unfold lx; omega)⟩)
end TR4
