/-! the component's groups -/
def gL (f : Nat → Int32) (L : List Nat) : Prop := (∀ j, j < L.length → f j = nI (L.getD j 0)) ∧ L.length ≤ 35 ∧ ∀ g ∈ L, g < 128 ∧ g ≠ 0
theorem gL.at {f : Nat → Int32} {L : List Nat} (h : gL f L) {j : Nat} (hj : j < L.length) : f j = nI (L.getD j 0) := h.1 j hj
theorem gL.lt {f : Nat → Int32} {L : List Nat} (h : gL f L) {j : Nat} (hj : j < L.length) : L.getD j 0 < 128 := (h.2.2 _ (getD_mem hj)).1
theorem gL.ne {f : Nat → Int32} {L : List Nat} (h : gL f L) {j : Nat} (hj : j < L.length) : L.getD j 0 ≠ 0 := (h.2.2 _ (getD_mem hj)).2
theorem gL.nz {f : Nat → Int32} {L : List Nat} (h : gL f L) : ∀ g ∈ L, g ≠ 0 := fun g hg => (h.2.2 g hg).2
/-- two by two, as bits -/
def pbJ (a S p : Nat) : Nat → Nat
  | 0 => a
  | q + 1 => pbJ a S p q ||| (if S.testBit p = true ∧ S.testBit q = true then 2 ^ (p * (p - 1) / 2 + q) else 0)
def pb (S : Nat) : Nat → Nat
  | 0 => 0
  | p + 1 => pbJ (pb S p) S p p
def pairN (S : Nat) : Nat := pb S 7
theorem pq21 : ∀ p, p < 7 → ∀ q, q < p → p * (p - 1) / 2 + q < 21 := by decide
theorem pbJ_lt {a S p : Nat} (ha : a < 2 ^ 21) (hp : p < 7) : ∀ q, q ≤ p → pbJ a S p q < 2 ^ 21
  | 0, _ => ha
  | q + 1, h => by
    rw [pbJ]
    refine or_lt (pbJ_lt ha hp q (by omega)) ?_
    split
    · exact Nat.pow_lt_pow_right (by decide) (pq21 p hp q (by omega))
    · exact Nat.two_pow_pos 21
theorem pb_lt {S : Nat} : ∀ p, p ≤ 7 → pb S p < 2 ^ 21
  | 0, _ => Nat.two_pow_pos 21
  | p + 1, h => pbJ_lt (pb_lt p (by omega)) (by omega) p (Nat.le_refl p)
theorem pairN_lt (S : Nat) : pairN S < 2 ^ 21 := pb_lt 7 (Nat.le_refl 7)
theorem pbJ_y {a S p q : Nat} (h1 : S.testBit p = true) (h2 : S.testBit q = true) : pbJ a S p (q + 1) = pbJ a S p q ||| 2 ^ (p * (p - 1) / 2 + q) := by rw [pbJ, if_pos ⟨h1, h2⟩]
theorem pbJ_n1 {a S p q : Nat} (h1 : S.testBit p = false) : pbJ a S p (q + 1) = pbJ a S p q ||| 0 := by rw [pbJ, if_neg (by rw [h1]; simp)]
theorem pbJ_n2 {a S p q : Nat} (h1 : S.testBit q = false) : pbJ a S p (q + 1) = pbJ a S p q ||| 0 := by rw [pbJ, if_neg (by rw [h1]; simp)]
/-- symmetric -/
def kSym (K : Nat → Nat → Int32) (n : Nat) : Prop := ∀ p q, p < n → q < n → K p q = K q p
theorem okS_iff {K : Nat → Nat → Int32} {S p : Nat} : ∀ i, okS K S p i = true ↔ ∀ q, q < i → S.testBit q = true → K p q = -1
  | 0 => ⟨fun _ q h => absurd h (Nat.not_lt_zero _), fun _ => rfl⟩
  | i + 1 => by
    rw [okS, Bool.and_eq_true, okS_iff i]
    constructor
    · intro ⟨h1, h2⟩ q hq hs
      by_cases e : q = i
      · subst e
        rw [hs] at h2
        simpa using h2
      · exact h1 q (by omega) hs
    · intro h
      refine ⟨fun q hq => h q (by omega), ?_⟩
      cases hs : S.testBit i
      · rfl
      · simp [h i (by omega) hs]
/-- who may come, of those from p on -/
def mayM (K : Nat → Nat → Int32) (n S M f : Nat) : Prop := ∀ p, f ≤ p → p < n → (M.testBit p = true ↔ okM K S p = true)
theorem mayM_s {K : Nat → Nat → Int32} {n S M f p : Nat} (hs : kSym K n) (h : mayM K n S M f) (hp : p < n) (hf : f ≤ p) : mayM K n (S ||| 2 ^ p) (M &&& strS K p n) (p + 1) := by
  intro i hi hin
  rw [Nat.testBit_and, strS_bit, Bool.and_eq_true, Bool.and_eq_true, h i (by omega) hin]
  unfold okM
  rw [okS_iff, okS_iff, decide_eq_true_eq, decide_eq_true_eq]
  constructor
  · intro ⟨h1, h2, h3, h4⟩ q hq hb
    rw [Nat.testBit_or, Bool.or_eq_true] at hb
    rcases hb with hb | hb
    · exact h1 q hq hb
    · have e : q = p := by
        rcases Nat.lt_trichotomy q p with h9 | h9 | h9
        · rw [Nat.testBit_two_pow_of_ne (by omega)] at hb; cases hb
        · exact h9
        · rw [Nat.testBit_two_pow_of_ne (by omega)] at hb; cases hb
      subst e
      rw [hs i q hin hp]; exact h4
  · intro h1
    refine ⟨fun q hq hb => h1 q hq (by rw [Nat.testBit_or, hb]; rfl), hin, by omega, ?_⟩
    rw [← hs i p hin hp]
    exact h1 p (by omega) (by rw [Nat.testBit_or, Nat.testBit_two_pow_self, Bool.or_true])
theorem mayM.mono {K : Nat → Nat → Int32} {n S M f f' : Nat} (h : mayM K n S M f) (hf : f ≤ f') : mayM K n S M f' := fun p hp hn => h p (by omega) hn
theorem bitsN_new {S p : Nat} (hS : S < 2 ^ p) : ∀ k, p < k → bitsN (S ||| 2 ^ p) k = bitsN S k + 1
  | 0, h => absurd h (Nat.not_lt_zero _)
  | k + 1, h => by
    have lo : ∀ j, j ≤ p → bitsN (S ||| 2 ^ p) j = bitsN S j := fun j => by
      induction j with
      | zero => intro _; rfl
      | succ j ih =>
        intro hj
        rw [bitsN, bitsN, ih (by omega), Nat.testBit_or, Nat.testBit_two_pow_of_ne (by omega), Bool.or_false]
    rw [bitsN, bitsN]
    by_cases e : k = p
    · subst e
      rw [lo k (Nat.le_refl k), Nat.testBit_or, Nat.testBit_two_pow_self, Bool.or_true, if_pos rfl, Nat.testBit_lt_two_pow hS, if_neg (by decide)]
    · rw [bitsN_new hS k (by omega), Nat.testBit_or, Nat.testBit_two_pow_of_ne (fun z => e z.symm), Bool.or_false]
      omega
/-- all that 'of' makes -/
def gOk (K : Nat → Nat → Int32) (n : Nat) (L : List Nat) (gr pa mo sg : Nat → Int32) : Prop := gL gr L ∧ (∀ j, j < L.length → pa j = nI (pairN (L.getD j 0))) ∧ (∀ S, S < 2 ^ n → mo S = nI (mostV L S)) ∧ ∀ p, p < n → sg p = nI (strS K p n)
theorem GL_35' {K : Nat → Nat → Int32} {n st : Nat} (hn : n ≤ 7) (hs : st ≤ 4) : (GL K n st).length ≤ 35 := Nat.le_trans (gF_len _ _ _ _ _ _ (Nat.zero_le _)) (chs_35 n hn _ (by omega))
theorem GL_ne {K : Nat → Nat → Int32} {n st : Nat} (h2 : 0 < st) : ∀ g ∈ GL K n st, g ≠ 0 := gF_ne _ _ _ _ _ _ (Or.inl h2)
theorem GL_gL {f : Nat → Int32} {K : Nat → Nat → Int32} {n st : Nat} (hn : n ≤ 7) (h2 : 2 ≤ st) (h4 : st ≤ 4) (e : f = wrL f 0 (GL K n st)) : gL f (GL K n st) := by
  refine ⟨fun j hj => ?_, GL_35' hn h4, fun g hg => ⟨Nat.lt_of_lt_of_le (GL_lt g hg) (Nat.pow_le_pow_right (by decide) hn), GL_ne (by omega) g hg⟩⟩
  rw [e]; exact wrL_in j hj
theorem gL_wr {f : Nat → Int32} {K : Nat → Nat → Int32} {n st : Nat} (hn : n ≤ 7) (h2 : 2 ≤ st) (h4 : st ≤ 4) : gL (wrL f 0 (GL K n st)) (GL K n st) :=
  ⟨fun j hj => wrL_in j hj, GL_35' hn h4, fun g hg => ⟨Nat.lt_of_lt_of_le (GL_lt g hg) (Nat.pow_le_pow_right (by decide) hn), GL_ne (by omega) g hg⟩⟩
theorem wrL_map {f : Nat → Int32} {L : List Nat} {h : Nat → Nat} : ∀ j, j < L.length → wrL f 0 (L.map h) j = nI (h (L.getD j 0)) := by
  intro j hj
  rw [wrL_in j (by rw [List.length_map]; exact hj), List.getD_eq_getElem?_getD, List.getElem?_map, List.getD_eq_getElem?_getD, List.getElem?_eq_getElem hj]
  rfl
