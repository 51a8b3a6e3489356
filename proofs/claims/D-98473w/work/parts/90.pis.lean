/-! PURE: the class's reader: what a token is, faults, numbers -/
set_option maxRecDepth 100000
theorem getD_ext {l m : List Nat} (h : l.length = m.length) (k : ∀ i, i < l.length → l.getD i 0 = m.getD i 0) : l = m := by
  apply List.ext_getElem? 
  intro i
  by_cases hi : i < l.length
  · have := k i hi
    rw [List.getD_eq_getElem?_getD, List.getD_eq_getElem?_getD, List.getElem?_eq_getElem hi, List.getElem?_eq_getElem (by omega)] at this
    rw [List.getElem?_eq_getElem hi, List.getElem?_eq_getElem (by omega)]
    exact congrArg some this
  · rw [List.getElem?_eq_none (by omega), List.getElem?_eq_none (by omega)]
theorem getD_mem {l : List Nat} {i m : Nat} (h : ∀ c ∈ l, c < m) (hi : i < l.length) : l.getD i 0 < m := by
  rw [List.getD_eq_getElem?_getD, List.getElem?_eq_getElem hi]
  exact h _ (List.getElem_mem hi)
section I
variable {ad : Nat → Nat} {b : Nat → Nat} {n z : Nat} {T L : Nat → Nat} {V : w_V} {P : w_P} {r tx ax kx p : Nat} {T' L' : Nat → Nat} {V' : w_V} {P' : w_P}
theorem sX_eqv {w s1 : Nat} {t s : List Nat} (h : strX T L V P w t) (h1 : T s1 = 0) (ht : ∀ c ∈ t, c < 256) (hs : ∀ c ∈ s, c < 256) (hl : t.length < 1000) (hl2 : s.length < 1000) {post : Int32 → Prop} (k : post (b2 (decide (t = s)))) : wJ9m_equals ad T L V P w s1 s post := by
  obtain ⟨w1, w2, va, w3, w4, w5, w6⟩ := h
  unfold wJ9m_equals
  rw [if_neg (fun e => by rw [e, h1] at w1; cases w1), if_pos w2]
  unfold jJ9m_equals_36
  refine ⟨va, va, 0, t.length, w3, ⟨by decide, Or.inr ⟨w4, rfl, w5.symm, rfl⟩⟩, by omega, fun v8 => ?_⟩
  unfold wJ15m_equals
  by_cases e : t.length = s.length
  · rw [if_pos (by rw [e])]
    refine loop0 (F := fun m i (_ : Unit) => lJ15m_equals_9 ad T L V P va 0 t.length v8 s _ m i) t.length (fun k _ => ∀ i, i < k → t.getD i 0 = s.getD i 0) () (fun i hi => absurd hi (by omega)) (fun m j _ hj hI kk => ?_)
    show lJ15m_equals_9 ad T L V P va 0 t.length v8 s _ (m + 1) (nI j)
    unfold lJ15m_equals_9
    by_cases hjt : j < t.length
    · rw [if_neg (nI_ge hjt (by omega))]
      refine ⟨j, hjt, rfl, j, by omega, rfl, ?_⟩
      rw [w6 j hjt]
      have a1 := getD_mem ht hjt
      have a2 := getD_mem hs (i := j) (by omega)
      by_cases ee : t.getD j 0 = s.getD j 0
      · rw [if_pos (by rw [ee]), nI_1]
        exact kk () hjt (fun i hi => by
          by_cases eij : i = j
          · rw [eij]; exact ee
          · exact hI i (by omega))
      · rw [if_neg (fun q => ee ((nI_eq (by omega) (by omega)).mp q))]
        rw [if_pos rfl]
        rw [decide_eq_false (fun q => ee (by rw [q]))] at k
        exact k
    · rw [if_pos (nI_le (by omega) (by omega))]
      rw [if_neg (by decide)]
      rw [decide_eq_true (getD_ext e (fun i hi => hI i (by omega)))] at k
      exact k
  · rw [if_neg (fun q => e ((nI_eq (by omega) (by omega)).mp q))]
    dsimp only
    rw [if_pos rfl]
    rw [decide_eq_false (fun q => e (by rw [q]))] at k
    exact k
theorem take7 {t s : List Nat} (hs : s.length ≤ 6) : t.take 7 = s ↔ t = s := by
  constructor
  · intro h
    have hl : (t.take 7).length = s.length := by rw [h]
    rw [List.length_take] at hl
    rw [← h, List.take_of_length_le (by omega)]
  · intro h
    rw [h, List.take_of_length_le (by omega)]
theorem wrd_256 (ht : tOk b n) : ∀ c ∈ (tWrd b n p).take 7, c < 256 := by
  intro c hc
  have h1 := List.mem_of_mem_take hc
  unfold tWrd at h1
  obtain ⟨k, -, rfl⟩ := List.mem_map.mp h1
  exact ht.2 _
theorem take_1000 (t : List Nat) : (t.take 7).length < 1000 := by rw [List.length_take]; omega
theorem b2_if {c : Bool} {post : Int32 → Prop} (h : post (b2 c)) : if (b2 c = 0 : Prop) then post 0 else post 1 := by
  cases c with
  | false => rw [if_pos (show b2 false = 0 from rfl)]; exact h
  | true => rw [if_neg (show ¬ b2 true = 0 by decide)]; exact h
theorem sX_is (hA : hAd ad) (ht : tOk b n) (h : rdX ad b n T L V P r tx ax kx p) {s : List Nat} (hs : s.length ≤ 6 ∧ ∀ c ∈ s, c < 256) {s1 : Nat} (h1 : T s1 = 0) {post : Int32 → Prop} (k : post (b2 (tIs b n p s))) : wX9_is ad T L V P r s1 s post := by
  obtain ⟨hB, h3, h2, hp, h6, h7, h5⟩ := h
  have word : (tKin b n p = 1 ∨ tKin b n p = 3) → jX9_is_20 ad T L V P r s1 s post := fun q => by
    obtain ⟨w, w1, w2⟩ := h7 q
    unfold jX9_is_20
    refine ⟨w, w1, w2.1, sX_eqv w2 h1 (wrd_256 ht) hs.2 (take_1000 _) (by have := hs.1; omega) (b2_if ?_)⟩
    have : decide ((tWrd b n p).take 7 = s) = tIs b n p s := by
      unfold tIs
      exact decide_eq_decide.mpr ⟨fun e => ⟨q, (take7 hs.1).mp e⟩, fun e => (take7 hs.1).mpr e.2⟩
    rw [this]
    exact k
  unfold wX9_is
  refine ⟨_, h6, ?_⟩
  by_cases k1 : tKin b n p = 1
  · rw [if_pos (by rw [k1]; rfl)]
    exact word (Or.inl k1)
  · rw [if_neg (show ¬ ad (srt (tKin b n p)) = ad 5 from fun e => k1 ((srt_iff (j := 1) hA t9kin_lt (by decide)).mp e))]
    refine ⟨_, h6, ?_⟩
    by_cases k3 : tKin b n p = 3
    · rw [if_pos (by rw [k3]; rfl)]
      exact word (Or.inr k3)
    · rw [if_neg (show ¬ ad (srt (tKin b n p)) = ad 7 from fun e => k3 ((srt_iff (j := 3) hA t9kin_lt (by decide)).mp e))]
      rw [t9tis_f (fun q => by rcases q.1 with e | e; exact k1 e; exact k3 e)] at k
      exact k
/-- what is thrown at pl -/
def xfC (xp : w_Xp) (r z : Nat) (T L : Nat → Nat) (V : w_V) (P : w_P) (k : Int32) (pl : Nat) : Prop := ∀ (q z' : Nat) (T' L' : Nat → Nat) (V' : w_V) (P' : w_P), xr r z T L V P z' T' L' V' P' → T' q = 17 → V' q 0 0 = k → V' q 0 1 = nI pl → xp q "ApartBench$Fault" z' T' L' V' P'
theorem xfC.m {xp : w_Xp} {k : Int32} {pl z1 : Nat} {T1 L1 : Nat → Nat} {V1 : w_V} {P1 : w_P} (h : xfC xp r z T L V P k pl) (hx : xr r z T L V P z1 T1 L1 V1 P1) : xfC xp r z1 T1 L1 V1 P1 k pl := fun q z' T' L' V' P' h1 h2 h3 h4 => h q z' T' L' V' P' (hx.tr h1) h2 h3 h4
/-- what is to be shown of the reader's state at the token p' -/
def goC (ad b : Nat → Nat) (n : Nat) (post : Nat → (Nat → Nat) → (Nat → Nat) → w_V → w_P → Prop) (r tx ax kx z : Nat) (T L : Nat → Nat) (V : w_V) (P : w_P) (p' : Nat) : Prop := ∀ (z' : Nat) (T' L' : Nat → Nat) (V' : w_V) (P' : w_P), xr r z T L V P z' T' L' V' P' → rdX ad b n T' L' V' P' r tx ax kx p' → post z' T' L' V' P'
theorem goC.m {post : Nat → (Nat → Nat) → (Nat → Nat) → w_V → w_P → Prop} {p' z1 : Nat} {T1 L1 : Nat → Nat} {V1 : w_V} {P1 : w_P} (h : goC ad b n post r tx ax kx z T L V P p') (hx : xr r z T L V P z1 T1 L1 V1 P1) : goC ad b n post r tx ax kx z1 T1 L1 V1 P1 p' := fun z' T' L' V' P' h1 h2 => h z' T' L' V' P' (hx.tr h1) h2
theorem sX_goX (hA : hAd ad) (ht : tOk b n) {U : Nat} (hf : frs z T) (h : rdX ad b n T L V P r tx ax kx p) (hU : 10 ≤ U) {post : Nat → (Nat → Nat) → (Nat → Nat) → w_V → w_P → Prop} (k : goC ad b n post r tx ax kx z T L V P (tNx b n p)) : wFX9_go ad U z T L V P r post := sX_go hA ht hf h.1 h.2.2.1 (t9en_le h.2.2.2.1) hU k
theorem sX_check1 {U : Nat} {kd : Int32} {post : Nat → (Nat → Nat) → (Nat → Nat) → w_V → w_P → Prop} {xp : w_Xp} (k : post z T L V P) : wFX9_check ad U z T L V P r 1 kd post xp := by
  unfold wFX9_check
  rw [if_neg (by decide)]
  exact k
theorem sX_check0 {U : Nat} {kd : Int32} (hf : frs z T) (h : rdX ad b n T L V P r tx ax kx p) (hU : 2 ≤ U) {post : Nat → (Nat → Nat) → (Nat → Nat) → w_V → w_P → Prop} {xp : w_Xp} (k : xfC xp r z T L V P kd p) : wFX9_check ad U z T L V P r 0 kd post xp := by
  have hr0 : T r ≠ 0 := ne0 h.1.1
  unfold wFX9_check
  rw [if_pos rfl]
  refine ⟨U - 1, by omega, ?_⟩
  intro o z1 T1 L1 V1 P1 hw
  obtain ⟨x0, x2, x3, x4, x5, x6, x7, -⟩ := xr.nw (r := r) hf hw hr0
  obtain ⟨y1, y2, y3, y4⟩ := x7 r hr0
  refine ⟨y1.trans h.1.1, U - 1, 0, rfl, ?_⟩
  unfold wFX10_init
  intro T2 V2 e2 e3
  dsimp only
  intro V4 e4 V5 e5
  have nor : r ≠ o := fun e => hr0 (by rw [e]; exact x2)
  refine ⟨by rw [e2]; exact up1_s, k o z1 T2 L1 V5 P1 ⟨fun a ha => ?_, x0.2.1, fun a ha => ?_, ?_⟩ (by rw [e2]; exact up1_s) (by rw [e5, up3_a, s2_i (by decide), e4, up3_a, s2_s]) ?_⟩
  · rw [e2] at ha
    by_cases e : a = o
    · rw [e]; exact x0.1 o (by rw [x3]; decide)
    · rw [up1_n e] at ha; exact x0.1 a ha
  · have na : a ≠ o := fun e => ha (by rw [e]; exact x2)
    obtain ⟨c1, c2, c3, c4⟩ := x7 a ha
    exact ⟨by rw [e2, up1_n na]; exact c1, c2, fun _ => ⟨by rw [e5, up3_n na, e4, up3_n na, e3, up1_n na]; exact c3, c4⟩⟩
  · rw [e5, up3_n nor, e4, up3_n nor, e3, up1_n nor, y3]
  · rw [e5, up3_a, s2_s, y3]; exact h.2.1
theorem sX_need (hA : hAd ad) (ht : tOk b n) {U : Nat} (hf : frs z T) (h : rdX ad b n T L V P r tx ax kx p) {s : List Nat} (hs : s.length ≤ 6 ∧ ∀ c ∈ s, c < 256) {s1 : Nat} (h1 : T s1 = 0) (hU : 12 ≤ U) {post : Nat → (Nat → Nat) → (Nat → Nat) → w_V → w_P → Prop} {xp : w_Xp} (k : tIs b n p s = true → goC ad b n post r tx ax kx z T L V P (tNx b n p)) (kx' : tIs b n p s = false → xfC xp r z T L V P 1 p) : wFX9_need ad U z T L V P r s1 s post xp := by
  unfold wFX9_need
  refine sX_is hA ht h hs h1 ?_
  cases e : tIs b n p s with
  | true => exact ⟨0, U, (Nat.zero_add U).symm, sX_check1 ⟨h.1.1, U, 0, rfl, sX_goX hA ht hf h (by omega) (k e)⟩⟩
  | false => exact ⟨U, 0, rfl, sX_check0 hf h (by omega) (kx' e)⟩
theorem sX_sort (hA : hAd ad) (h : rdX ad b n T L V P r tx ax kx p) {j : Nat} (hj : j < 5) : ∃ b1, P r 6 = some b1 ∧ (b1 = ad (srt j) ↔ tKin b n p = j) := ⟨_, h.2.2.2.2.1, srt_iff hA t9kin_lt hj⟩
theorem sX_number (hA : hAd ad) (ht : tOk b n) {U lo hi : Nat} (hf : frs z T) (h : rdX ad b n T L V P r tx ax kx p) (hlo : lo < 10000) (hhi : hi < 10000) (hU : 12 ≤ U) {post : Int32 → Nat → (Nat → Nat) → (Nat → Nat) → w_V → w_P → Prop} {xp : w_Xp} (k : tNum b n p lo hi = 0 → goC ad b n (post (nI (tVl b n p))) r tx ax kx z T L V P (tNx b n p)) (kf : tNum b n p lo hi ≠ 0 → xfC xp r z T L V P (nI (tNum b n p lo hi)) p) : wFX9_number ad U z T L V P r (nI lo) (nI hi) post xp := by
  unfold wFX9_number
  refine ⟨_, h.2.2.2.2.1, ?_⟩
  have bad : ∀ {kd : Int32}, tNum b n p lo hi = 2 → jFX9_number_48 ad U z T L V P r r post xp := fun {kd} e => by
    unfold jFX9_number_48 jFX9_number_49
    exact ⟨U, 0, rfl, sX_check0 hf h (by omega) (by have := kf (by rw [e]; decide); rw [e] at this; exact this)⟩
  by_cases k2 : tKin b n p = 2
  · rw [if_pos (by rw [k2]; rfl)]
    unfold jFX9_number_16
    refine ⟨0, U, (Nat.zero_add U).symm, sX_check1 ⟨h.1.1, ?_⟩⟩
    obtain ⟨g5, g4⟩ := h.2.2.2.2.2.2 k2
    rw [g5]
    by_cases h4 : tEn b n p - p ≤ 4
    · have hv := t9vl_lt k2 h4
      rw [if_pos h4, if_pos rfl, g4 h4]
      by_cases hl : tVl b n p < lo
      · rw [if_pos (nI_lt hl (by omega))]
        exact bad (kd := 0) (by unfold tNum; rw [if_neg (fun q => q k2), if_pos (Or.inr (Or.inl hl))])
      · rw [if_neg (nI_nlt (by omega) (by omega))]
        by_cases hh : hi < tVl b n p
        · rw [if_pos (nI_lt hh (by omega))]
          exact bad (kd := 0) (by unfold tNum; rw [if_neg (fun q => q k2), if_pos (Or.inr (Or.inr hh))])
        · rw [if_neg (nI_nlt (by omega) (by omega))]
          have e0 : tNum b n p lo hi = 0 := by unfold tNum; rw [if_neg (fun q => q k2), if_neg (by omega)]
          unfold jFX9_number_49
          refine ⟨0, U, (Nat.zero_add U).symm, sX_check1 ⟨h.1.1, U, 0, rfl, sX_goX hA ht hf h (by omega) ?_⟩⟩
          rw [g4 h4]
          exact k e0
    · rw [if_neg h4, if_neg (by decide)]
      exact bad (kd := 0) (by unfold tNum; rw [if_neg (fun q => q k2), if_pos (Or.inl (by omega))])
  · rw [if_neg (show ¬ ad (srt (tKin b n p)) = ad 6 from fun e => k2 ((srt_iff (j := 2) hA t9kin_lt (by decide)).mp e))]
    have e1 : tNum b n p lo hi = 1 := by unfold tNum; rw [if_pos k2]
    unfold jFX9_number_16
    exact ⟨U, 0, rfl, sX_check0 hf h (by omega) (by have := kf (by rw [e1]; decide); rw [e1] at this; exact this)⟩
theorem sX_among (hA : hAd ad) {U m : Nat} (hf : frs z T) (h : rdX ad b n T L V P r tx ax kx p) (hm : m < 10000) (hU : 2 ≤ U) {post : Int32 → Nat → (Nat → Nat) → (Nat → Nat) → w_V → w_P → Prop} {xp : w_Xp} (k : tOf b n p m = 0 → post (nI (tVl b n p)) z T L V P) (kf : tOf b n p m ≠ 0 → xfC xp r z T L V P (nI (tOf b n p m)) p) : wFX9_amongHere ad U z T L V P r (nI m) post xp := by
  unfold wFX9_amongHere
  refine ⟨_, h.2.2.2.2.1, ?_⟩
  by_cases k2 : tKin b n p = 2
  · rw [if_pos (by rw [k2]; rfl)]
    unfold jFX9_amongHere_16
    refine ⟨0, U, (Nat.zero_add U).symm, sX_check1 ⟨h.1.1, ?_⟩⟩
    obtain ⟨g5, g4⟩ := h.2.2.2.2.2.2 k2
    rw [g5]
    by_cases h4 : tEn b n p - p ≤ 4
    · have hv := t9vl_lt k2 h4
      rw [if_pos h4, if_pos rfl]
      unfold jFX9_amongHere_33
      refine ⟨0, U, (Nat.zero_add U).symm, sX_check1 ⟨h.1.1, ?_⟩⟩
      rw [g4 h4]
      unfold jFX9_amongHere_51
      by_cases hl : m ≤ tVl b n p
      · have e3 : tOf b n p m = 3 := by unfold tOf; rw [if_neg (fun q => q k2), if_neg (by omega), if_pos hl]
        rw [if_pos (nI_le hl (by omega))]
        exact ⟨U, 0, rfl, sX_check0 hf h (by omega) (by have := kf (by rw [e3]; decide); rw [e3] at this; exact this)⟩
      · have e3 : tOf b n p m = 0 := by unfold tOf; rw [if_neg (fun q => q k2), if_neg (by omega), if_neg hl]
        rw [if_neg (nI_ge (by omega) (by omega))]
        refine ⟨0, U, (Nat.zero_add U).symm, sX_check1 ⟨h.1.1, ?_⟩⟩
        rw [g4 h4]
        exact k e3
    · have e2 : tOf b n p m = 2 := by unfold tOf; rw [if_neg (fun q => q k2), if_pos (by omega)]
      rw [if_neg h4, if_neg (by decide)]
      unfold jFX9_amongHere_33
      exact ⟨U, 0, rfl, sX_check0 hf h (by omega) (by have := kf (by rw [e2]; decide); rw [e2] at this; exact this)⟩
  · rw [if_neg (show ¬ ad (srt (tKin b n p)) = ad 6 from fun e => k2 ((srt_iff (j := 2) hA t9kin_lt (by decide)).mp e))]
    have e1 : tOf b n p m = 1 := by unfold tOf; rw [if_pos k2]
    unfold jFX9_amongHere_16
    exact ⟨U, 0, rfl, sX_check0 hf h (by omega) (by have := kf (by rw [e1]; decide); rw [e1] at this; exact this)⟩
def vls : List (List Nat) := [[112, 114, 111, 111, 102], [104, 97, 114, 115, 104], [100, 97, 121], [116, 111, 119, 110], [115, 97, 105, 100]]
theorem sX_valueOf (ht : tOk b n) (h : rdX ad b n T L V P r tx ax kx p) (k1 : tKin b n p = 1) {w : Nat} (hw : P r 7 = some w) {post : Option Nat → Prop} (k : ∀ i, i < 5 → tIs b n p (vls.getD i []) = true → post (some (ad i))) (k0 : (∀ i, i < 5 → tIs b n p (vls.getD i []) = false) → post none) : wX9_valueOf ad T L V P w post := by
  obtain ⟨w', w1, w2⟩ := h.2.2.2.2.2.1 (Or.inl k1)
  rw [hw] at w1
  have ew : w' = w := by injection w1 with e; exact e.symm
  rw [ew] at w2
  have hd : ∀ i, i < 5 → decide ((tWrd b n p).take 7 = vls.getD i []) = tIs b n p (vls.getD i []) := fun i hi => by
    unfold tIs
    have hl : ∀ i, i < 5 → (vls.getD i []).length ≤ 6 := by decide
    exact decide_eq_decide.mpr ⟨fun e => ⟨Or.inl k1, (take7 (hl i hi)).mp e⟩, fun e => (take7 (hl i hi)).mpr e.2⟩
  unfold wX9_valueOf
  intro s1 hs1
  refine sX_eqv w2 hs1 (wrd_256 ht) (by decide) (take_1000 _) (by decide) ?_
  rw [show decide ((tWrd b n p).take 7 = [112, 114, 111, 111, 102]) = tIs b n p (vls.getD 0 []) from hd 0 (by decide)]
  cases e0 : tIs b n p (vls.getD 0 []) with
  | true => exact k 0 (by decide) e0
  | false =>
    rw [show b2 false = 0 from rfl, if_pos rfl]
    intro s2 hs2
    refine sX_eqv w2 hs2 (wrd_256 ht) (by decide) (take_1000 _) (by decide) ?_
    rw [show decide ((tWrd b n p).take 7 = [104, 97, 114, 115, 104]) = tIs b n p (vls.getD 1 []) from hd 1 (by decide)]
    cases e1 : tIs b n p (vls.getD 1 []) with
    | true => exact k 1 (by decide) e1
    | false =>
      rw [show b2 false = 0 from rfl, if_pos rfl]
      intro s3 hs3
      refine sX_eqv w2 hs3 (wrd_256 ht) (by decide) (take_1000 _) (by decide) ?_
      rw [show decide ((tWrd b n p).take 7 = [100, 97, 121]) = tIs b n p (vls.getD 2 []) from hd 2 (by decide)]
      cases e2 : tIs b n p (vls.getD 2 []) with
      | true => exact k 2 (by decide) e2
      | false =>
        rw [show b2 false = 0 from rfl, if_pos rfl]
        intro s4 hs4
        refine sX_eqv w2 hs4 (wrd_256 ht) (by decide) (take_1000 _) (by decide) ?_
        rw [show decide ((tWrd b n p).take 7 = [116, 111, 119, 110]) = tIs b n p (vls.getD 3 []) from hd 3 (by decide)]
        cases e3 : tIs b n p (vls.getD 3 []) with
        | true => exact k 3 (by decide) e3
        | false =>
          rw [show b2 false = 0 from rfl, if_pos rfl]
          intro s5 hs5
          refine sX_eqv w2 hs5 (wrd_256 ht) (by decide) (take_1000 _) (by decide) ?_
          rw [show decide ((tWrd b n p).take 7 = [115, 97, 105, 100]) = tIs b n p (vls.getD 4 []) from hd 4 (by decide)]
          cases e4 : tIs b n p (vls.getD 4 []) with
          | true => exact k 4 (by decide) e4
          | false =>
            rw [show b2 false = 0 from rfl, if_pos rfl]
            refine k0 (fun i hi => ?_)
            rcases (show i = 0 ∨ i = 1 ∨ i = 2 ∨ i = 3 ∨ i = 4 by omega) with e | e | e | e | e <;> (rw [e]; assumption)
theorem chr128 : ∀ c, c < 128 → (((nI c) &&& 255 : Int32).toUInt32 % 65536).toInt32 = nI c ∧ narrow .char (.int (nI c)) = .int (nI c) ∧ fits .char (.int (nI c)) = true := by decide +kernel
theorem sX_charAt {w c : Nat} (h : strX T L V P w [c]) (hc : c < 128) {post : Int32 → Prop} (k : post (nI c)) : wJ9_charAt ad T L V P w 0 post := by
  obtain ⟨w1, w2, va, w3, w4, w5, w6⟩ := h
  obtain ⟨c1, c2, c3⟩ := chr128 c hc
  have e0 : V va 0 0 = nI c := w6 0 (by show 0 < 1; decide)
  unfold wJ9_charAt wJ9_isLatin1
  rw [if_pos w2]
  dsimp only
  rw [if_neg (by decide)]
  refine ⟨va, va, 0, 1, w3, ⟨by decide, Or.inr ⟨w4, rfl, w5.symm, rfl⟩⟩, by decide, ?_⟩
  unfold wJ15_charAt wJ9_checkIndex wJ14_checkIndex
  intro s1
  rw [if_neg (by decide), if_pos (by decide)]
  refine ⟨0, by decide, rfl, ?_⟩
  rw [e0, c1]
  exact ⟨c2, c2, k⟩
end I
