/-! PURE: the class's reader: its state at a token, its small questions -/
set_option maxRecDepth 100000
def tOk (b : Nat → Nat) (n : Nat) : Prop := n ≤ 600 ∧ ∀ i, b i < 256
def hAd (ad : Nat → Nat) : Prop := ∀ i j, i < 5 → j < 5 → ad (i + 5) = ad (j + 5) → i = j
def srI : Nat → Nat
  | 0 => 4
  | 1 => 0
  | 2 => 1
  | 3 => 2
  | _ => 3
def srt (k : Nat) : Nat := srI k + 5
theorem srt_iff {ad : Nat → Nat} (hA : hAd ad) : ∀ {k j : Nat}, k < 5 → j < 5 → (ad (srt k) = ad (srt j) ↔ k = j) := by
  intro k j hk hj
  have hl : ∀ k, k < 5 → srI k < 5 := by decide
  have hi : ∀ k, k < 5 → ∀ j, j < 5 → srI k = srI j → k = j := by decide
  exact ⟨fun h => hi k hk j hj (hA _ _ (hl k hk) (hl j hj) h), fun h => by rw [h]⟩
/-- the reader's text -/
def rdB (b : Nat → Nat) (n : Nat) (T L : Nat → Nat) (V : w_V) (P : w_P) (r tx ax kx : Nat) : Prop := T r = 8 ∧ V r 0 1 = nI n ∧ P r 0 = some tx ∧ hArr T L tx ax kx 600 1 ∧ T ax = 2 ∧ ∀ i, i < n → V ax kx i &&& 255 = nI (b i)
/-- a text at w -/
def strX (T L : Nat → Nat) (V : w_V) (P : w_P) (w : Nat) (s : List Nat) : Prop := T w = 18 ∧ V w 0 1 = 0 ∧ ∃ va, P w 0 = some va ∧ T va = 1001 ∧ L va = s.length ∧ ∀ k, k < s.length → V va 0 k = nI (s.getD k 0)
/-- the reader at the token p -/
def rdX (ad : Nat → Nat) (b : Nat → Nat) (n : Nat) (T L : Nat → Nat) (V : w_V) (P : w_P) (r tx ax kx p : Nat) : Prop := rdB b n T L V P r tx ax kx ∧ V r 0 3 = nI p ∧ V r 0 2 = nI (tEn b n p) ∧ p ≤ n ∧ P r 6 = some (ad (srt (tKin b n p))) ∧ ((tKin b n p = 1 ∨ tKin b n p = 3) → ∃ w, P r 7 = some w ∧ strX T L V P w ((tWrd b n p).take 7)) ∧ (tKin b n p = 2 → V r 0 5 = (if tEn b n p - p ≤ 4 then 0 else 1) ∧ (tEn b n p - p ≤ 4 → V r 0 4 = nI (tVl b n p)))
/-- what the reader's work leaves -/
def xr (r z : Nat) (T L : Nat → Nat) (V : w_V) (P : w_P) (z' : Nat) (T' L' : Nat → Nat) (V' : w_V) (P' : w_P) : Prop := frs z' T' ∧ z ≤ z' ∧ (∀ a, T a ≠ 0 → T' a = T a ∧ L' a = L a ∧ (a ≠ r → V' a = V a ∧ P' a = P a)) ∧ V' r 9 = V r 9
theorem xr.rf {r z : Nat} {T L : Nat → Nat} {V : w_V} {P : w_P} (h : frs z T) : xr r z T L V P z T L V P := ⟨h, Nat.le_refl _, fun _ _ => ⟨rfl, rfl, fun _ => ⟨rfl, rfl⟩⟩, rfl⟩
theorem xr.tr {r z : Nat} {T L : Nat → Nat} {V : w_V} {P : w_P} {z1 : Nat} {T1 L1 : Nat → Nat} {V1 : w_V} {P1 : w_P} {z2 : Nat} {T2 L2 : Nat → Nat} {V2 : w_V} {P2 : w_P} (h : xr r z T L V P z1 T1 L1 V1 P1) (h2 : xr r z1 T1 L1 V1 P1 z2 T2 L2 V2 P2) : xr r z T L V P z2 T2 L2 V2 P2 := by
  obtain ⟨a1, a2, a3, a4⟩ := h
  obtain ⟨b1, b2', b3, b4⟩ := h2
  refine ⟨b1, Nat.le_trans a2 b2', fun a ha => ?_, b4.trans a4⟩
  obtain ⟨c1, c2, c3⟩ := a3 a ha
  obtain ⟨d1, d2, d3⟩ := b3 a (by rw [c1]; exact ha)
  exact ⟨d1.trans c1, d2.trans c2, fun q => ⟨(d3 q).1.trans (c3 q).1, (d3 q).2.trans (c3 q).2⟩⟩
theorem hArr.x {T L T' L' : Nat → Nat} {d a k len ty : Nat} (h : hArr T L d a k len ty) (ha : T' a = T a) (hl : L' a = L a) : hArr T' L' d a k len ty := by
  obtain ⟨h0, h⟩ := h
  refine ⟨h0, ?_⟩
  rcases h with ⟨lay, j, off, q1, q2, q3⟩ | ⟨q1, q2, q3, q4⟩
  · exact Or.inl ⟨lay, j, off, q1, ha.trans q2, q3⟩
  · exact Or.inr ⟨ha.trans q1, q2, by rw [hl]; exact q3, q4⟩
section R
variable {ad : Nat → Nat} {b : Nat → Nat} {n z : Nat} {T L : Nat → Nat} {V : w_V} {P : w_P} {r tx ax kx p : Nat} {T' L' : Nat → Nat} {V' : w_V} {P' : w_P}
theorem strX.x {w : Nat} {s : List Nat} (h : strX T L V P w s) (e : ∀ a, (T a = 18 ∨ T a = 1001) → T' a = T a ∧ L' a = L a ∧ V' a = V a ∧ P' a = P a) : strX T' L' V' P' w s := by
  obtain ⟨h1, h2, va, h3, h4, h5, h6⟩ := h
  obtain ⟨a1, a2, a3, a4⟩ := e w (Or.inl h1)
  obtain ⟨b1, b2', b3, b4⟩ := e va (Or.inr h4)
  exact ⟨a1.trans h1, by rw [a3]; exact h2, va, by rw [a4]; exact h3, b1.trans h4, b2'.trans h5, fun k hk => by rw [b3]; exact h6 k hk⟩
theorem rdB.x (h : rdB b n T L V P r tx ax kx) (e : ∀ a, (T a = 8 ∨ T a = 2) → T' a = T a ∧ L' a = L a ∧ V' a = V a ∧ P' a = P a) : rdB b n T' L' V' P' r tx ax kx := by
  obtain ⟨h1, h2, h3, h4, h5, h6⟩ := h
  obtain ⟨a1, a2, a3, a4⟩ := e r (Or.inl h1)
  obtain ⟨b1, b2', b3, b4⟩ := e ax (Or.inr h5)
  exact ⟨a1.trans h1, by rw [a3]; exact h2, by rw [a4]; exact h3, h4.x b1 b2', b1.trans h5, fun i hi => by rw [b3]; exact h6 i hi⟩
/-- the reader stands, where other things change -/
theorem rdX.x (h : rdX ad b n T L V P r tx ax kx p) (e : ∀ a, (T a = 8 ∨ T a = 2 ∨ T a = 18 ∨ T a = 1001) → T' a = T a ∧ L' a = L a ∧ V' a = V a ∧ P' a = P a) : rdX ad b n T' L' V' P' r tx ax kx p := by
  obtain ⟨h1, h2, h3, h4, h5, h6, h7⟩ := h
  obtain ⟨a1, a2, a3, a4⟩ := e r (Or.inl h1.1)
  refine ⟨h1.x (fun a q => e a (by rcases q with q | q <;> simp [q])), by rw [a3]; exact h2, by rw [a3]; exact h3, h4, by rw [a4]; exact h5, fun q => ?_, fun q => by rw [a3]; exact h7 q⟩
  obtain ⟨w, w1, w2⟩ := h6 q
  exact ⟨w, by rw [a4]; exact w1, w2.x (fun a q => e a (by rcases q with q | q <;> simp [q]))⟩
/-- a new cell -/
theorem xr.nw (hf : frs z T) {t l o z1 : Nat} {T1 L1 : Nat → Nat} {V1 : w_V} {P1 : w_P} (h : nwH o z T L V P t l z1 T1 L1 V1 P1) (hr : T r ≠ 0) : xr r z T L V P z1 T1 L1 V1 P1 ∧ T o = 0 ∧ T1 o = t ∧ L1 o = l ∧ (V1 o = fun _ _ => 0) ∧ (P1 o = fun _ => none) ∧ (∀ a, T a ≠ 0 → T1 a = T a ∧ L1 a = L a ∧ V1 a = V a ∧ P1 a = P a) ∧ z1 = z + 1 ∧ o = z := by
  obtain ⟨rfl, rfl, rfl, rfl, rfl, rfl⟩ := h
  have h0 : T o = 0 := by
    cases e : T o with
    | zero => rfl
    | succ m => have := hf o (by rw [e]; omega); omega
  have hn : ∀ a, T a ≠ 0 → a ≠ o := fun a ha e => ha (by rw [e]; exact h0)
  refine ⟨⟨fun a ha => ?_, Nat.le_succ _, fun a ha => ⟨up1_n (hn a ha), up1_n (hn a ha), fun _ => ⟨up1_n (hn a ha), up1_n (hn a ha)⟩⟩, by rw [up1_n (hn r hr)]⟩, h0, up1_s, up1_s, up1_s, up1_s, fun a ha => ⟨up1_n (hn a ha), up1_n (hn a ha), up1_n (hn a ha), up1_n (hn a ha)⟩, rfl, rfl⟩
  by_cases e : a = o
  · omega
  · rw [up1_n e] at ha
    have := hf a ha
    omega
/-- what lay at no kind is written -/
theorem xr.put {z1 : Nat} {T1 L1 : Nat → Nat} {V1 V2 : w_V} {P1 P2 : w_P} {o : Nat} (h : xr r z T L V P z1 T1 L1 V1 P1) (ho : T o = 0) (hr : T r ≠ 0) (hV : ∀ a, a ≠ o → V2 a = V1 a ∧ P2 a = P1 a) : xr r z T L V P z1 T1 L1 V2 P2 := by
  obtain ⟨a1, a2, a3, a4⟩ := h
  have hn : ∀ a, T a ≠ 0 → a ≠ o := fun a ha e => ha (by rw [e]; exact ho)
  exact ⟨a1, a2, fun a ha => ⟨(a3 a ha).1, (a3 a ha).2.1, fun q => ⟨(hV a (hn a ha)).1.trans ((a3 a ha).2.2 q).1, (hV a (hn a ha)).2.trans ((a3 a ha).2.2 q).2⟩⟩, by rw [(hV r (hn r hr)).1]; exact a4⟩
def tB (b : Nat → Nat) (n q : Nat) : Nat := if q < n then b q else 0
theorem tB_lt (ht : tOk b n) {q : Nat} : tB b n q < 256 := by
  unfold tB
  split
  · exact ht.2 q
  · decide
theorem sX_byteAt (h : rdB b n T L V P r tx ax kx) (ht : tOk b n) {q : Nat} (hq : q ≤ n) {post : Int32 → Prop} (k : post (nI (tB b n q))) : wX9_byteAt ad T L V P r (nI q) post := by
  obtain ⟨h1, h2, h3, h4, h5, h6⟩ := h
  have hn := ht.1
  unfold wX9_byteAt
  unfold tB at k
  rw [h2]
  by_cases e : q < n
  · rw [if_neg (nI_ge e (by omega))]
    rw [if_pos e] at k
    exact ⟨tx, ax, kx, 600, h3, h4, by decide, q, by omega, rfl, by rw [h6 q e]; exact k⟩
  · rw [if_pos (nI_le (by omega) (by omega))]
    rw [if_neg e] at k
    exact k
theorem lt256 : ∀ c, c < 256 → ((nI c < 97) ↔ c < 97) ∧ ((122 < nI c) ↔ 122 < c) ∧ ((nI c < 48) ↔ c < 48) ∧ ((57 < nI c) ↔ 57 < c) := by decide +kernel
theorem sX_isLetter {c : Nat} (hc : c < 256) {post : Int32 → Prop} (k : post (b2 (tLt c))) : wX9_isLetter ad T L V P (nI c) post := by
  obtain ⟨e1, e2, -, -⟩ := lt256 c hc
  unfold wX9_isLetter
  unfold tLt at k
  by_cases h1 : c < 97
  · rw [if_pos (e1.mpr h1)]
    rw [decide_eq_false (by omega)] at k
    exact k
  · rw [if_neg (fun q => h1 (e1.mp q))]
    by_cases h2 : 122 < c
    · rw [if_pos (e2.mpr h2)]
      rw [decide_eq_false (by omega)] at k
      exact k
    · rw [if_neg (fun q => h2 (e2.mp q))]
      rw [decide_eq_true (by omega)] at k
      exact k
theorem sX_isDigit {c : Nat} (hc : c < 256) {post : Int32 → Prop} (k : post (b2 (tDg c))) : wX9_isDigit ad T L V P (nI c) post := by
  obtain ⟨-, -, e1, e2⟩ := lt256 c hc
  unfold wX9_isDigit
  unfold tDg at k
  by_cases h1 : c < 48
  · rw [if_pos (e1.mpr h1)]
    rw [decide_eq_false (by omega)] at k
    exact k
  · rw [if_neg (fun q => h1 (e1.mp q))]
    by_cases h2 : 57 < c
    · rw [if_pos (e2.mpr h2)]
      rw [decide_eq_false (by omega)] at k
      exact k
    · rw [if_neg (fun q => h2 (e2.mp q))]
      rw [decide_eq_true (by omega)] at k
      exact k
theorem sn256 : ∀ c, c < 256 → (if (nI c = 59 : Prop) then (1 : Int32) else (if (nI c = 40 : Prop) then 1 else (if (nI c = 41 : Prop) then 1 else (if (nI c = 43 : Prop) then 1 else (if (nI c = 45 : Prop) then 1 else (if (nI c = 42 : Prop) then 1 else (if (nI c = 47 : Prop) then 1 else (if (nI c = 60 : Prop) then 1 else (if (nI c = 61 : Prop) then 1 else 0))))))))) = b2 (tSn c) := by decide +kernel
theorem ite_post {p : Prop} [Decidable p] {post : Int32 → Prop} {x y : Int32} {A : Prop} (h : post (if p then x else y)) (hA : post y → A) : if p then post x else A := by
  by_cases e : p
  · rw [if_pos e] at h ⊢; exact h
  · rw [if_neg e] at h ⊢; exact hA h
theorem sX_isSign {c : Nat} (hc : c < 256) {post : Int32 → Prop} (k : post (b2 (tSn c))) : wX9_isSign ad T L V P (nI c) post := by
  unfold wX9_isSign
  rw [← sn256 c hc] at k
  exact ite_post k (fun k => ite_post k (fun k => ite_post k (fun k => ite_post k (fun k => ite_post k (fun k => ite_post k (fun k => ite_post k (fun k => ite_post k (fun k => ite_post k id))))))))
end R
