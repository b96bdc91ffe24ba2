/-! SPEC 3: groups, listed; the most of a set -/
/-- all q below i that are in S are strangers of p -/
def okS (K : Nat → Nat → Int32) (S p : Nat) : Nat → Bool
  | 0 => true
  | q + 1 => okS K S p q && (!S.testBit q || decide (K p q = -1))
def okM (K : Nat → Nat → Int32) (S p : Nat) : Bool := okS K S p p
/-- groups out of S (k members), with the r last of n to come -/
def gF (ok : Nat → Nat → Bool) (n st : Nat) : Nat → Nat → Nat → List Nat
  | 0, S, k => if k = st then [S] else []
  | r + 1, S, k => if k = st then [S] else (if ok S (n - (r + 1)) = true then gF ok n st r (S ||| 2 ^ (n - (r + 1))) (k + 1) else []) ++ gF ok n st r S k
def GL (K : Nat → Nat → Int32) (n st : Nat) : List Nat := gF (okM K) n st n 0 0
def chs : Nat → Nat → Nat
  | _, 0 => 1
  | 0, _ + 1 => 0
  | r + 1, k + 1 => chs r k + chs r (k + 1)
theorem gF_full (ok : Nat → Nat → Bool) (n st r S : Nat) : gF ok n st r S st = [S] := by cases r <;> simp [gF]
theorem gF_0 (ok : Nat → Nat → Bool) {n st S k : Nat} (h : ¬ k = st) : gF ok n st 0 S k = [] := by rw [gF, if_neg h]
theorem gF_y {ok : Nat → Nat → Bool} {n st r S k : Nat} (h : ¬ k = st) (h2 : ok S (n - (r + 1)) = true) : gF ok n st (r + 1) S k = gF ok n st r (S ||| 2 ^ (n - (r + 1))) (k + 1) ++ gF ok n st r S k := by rw [gF, if_neg h, if_pos h2]
theorem gF_n {ok : Nat → Nat → Bool} {n st r S k : Nat} (h : ¬ k = st) (h2 : ok S (n - (r + 1)) = false) : gF ok n st (r + 1) S k = gF ok n st r S k := by rw [gF, if_neg h, if_neg (by rw [h2]; decide)]; rfl
theorem chs_mono (r : Nat) : ∀ k, chs r k ≤ chs (r + 1) k
  | 0 => by cases r <;> exact Nat.le_refl _
  | k + 1 => by rw [chs]; omega
theorem gF_len (ok : Nat → Nat → Bool) (n st : Nat) : ∀ r S k, k ≤ st → (gF ok n st r S k).length ≤ chs r (st - k)
  | 0, S, k, h => by
    rw [gF]
    split
    · rename_i h2; rw [h2, Nat.sub_self]; simp [chs]
    · simp
  | r + 1, S, k, h => by
    rcases Nat.lt_or_ge k st with h3 | h3
    · have ih1 := gF_len ok n st r (S ||| 2 ^ (n - (r + 1))) (k + 1) h3
      have ih2 := gF_len ok n st r S k h
      have e : st - k = (st - (k + 1)) + 1 := by omega
      rw [gF, if_neg (by omega), e, chs, List.length_append, ← e]
      split
      · omega
      · simp; omega
    · have e : k = st := by omega
      subst e
      rw [gF_full, Nat.sub_self]
      simp [chs]
theorem chs_70 : ∀ n, n ≤ 8 → ∀ st, st ≤ 4 → chs n st ≤ 70 := by decide +kernel
theorem GL_len {K : Nat → Nat → Int32} {n st : Nat} (hn : n ≤ 8) (hs : st ≤ 4) : (GL K n st).length ≤ 70 := Nat.le_trans (gF_len _ _ _ _ _ _ (Nat.zero_le _)) (chs_70 n hn _ (by omega))
theorem gF_lt (ok : Nat → Nat → Bool) (n st : Nat) : ∀ r S k, r ≤ n → S < 2 ^ n → ∀ g ∈ gF ok n st r S k, g < 2 ^ n
  | 0, S, k, hr, hS, g, hg => by
    rw [gF] at hg
    split at hg
    · rw [List.mem_singleton] at hg; rw [hg]; exact hS
    · cases hg
  | r + 1, S, k, hr, hS, g, hg => by
    rw [gF] at hg
    split at hg
    · rw [List.mem_singleton] at hg; rw [hg]; exact hS
    · rcases List.mem_append.mp hg with h | h
      · split at h
        · exact gF_lt ok n st r _ _ (by omega) (or_lt hS (Nat.pow_lt_pow_right (by decide) (by omega))) g h
        · cases h
      · exact gF_lt ok n st r S k (by omega) hS g h
theorem GL_lt {K : Nat → Nat → Int32} {n st : Nat} : ∀ g ∈ GL K n st, g < 2 ^ n := gF_lt _ _ _ _ _ _ (Nat.le_refl n) (Nat.two_pow_pos n)
/-- a list written into an array -/
def wrL (f : Nat → Int32) (c : Nat) (L : List Nat) : Nat → Int32 := fun j => if c ≤ j ∧ j < c + L.length then nI (L.getD (j - c) 0) else f j
theorem wrL_nil (f : Nat → Int32) (c : Nat) : wrL f c [] = f := by
  funext j
  unfold wrL
  rw [if_neg (by rw [List.length_nil]; omega)]
theorem wrL_one (f : Nat → Int32) (c x : Nat) : va_up f c (nI x) = wrL f c [x] := by
  funext j
  unfold wrL va_up
  by_cases h : j = c
  · subst h; simp
  · rw [if_neg h, if_neg (by rw [List.length_singleton]; omega)]
theorem wrL_app (f : Nat → Int32) (c : Nat) (L M : List Nat) : wrL (wrL f c L) (c + L.length) M = wrL f c (L ++ M) := by
  funext j
  unfold wrL
  rw [List.length_append]
  by_cases h1 : c + L.length ≤ j ∧ j < c + L.length + M.length
  · rw [if_pos h1, if_pos (by omega), List.getD_eq_getElem?_getD, List.getD_eq_getElem?_getD, List.getElem?_append_right (by omega), show j - (c + L.length) = j - c - L.length by omega]
  · rw [if_neg h1]
    by_cases h2 : c ≤ j ∧ j < c + L.length
    · rw [if_pos h2, if_pos (by omega), List.getD_eq_getElem?_getD, List.getD_eq_getElem?_getD, List.getElem?_append_left (by omega)]
    · rw [if_neg h2, if_neg (by omega)]
theorem wrL_in {f : Nat → Int32} {L : List Nat} : ∀ j, j < L.length → wrL f 0 L j = nI (L.getD j 0) := fun j hj => by
  unfold wrL
  rw [if_pos (by omega), Nat.sub_zero]
theorem dropD {L : List Nat} {i : Nat} (h : i < L.length) : L.drop i = L.getD i 0 :: L.drop (i + 1) := by
  rw [List.drop_eq_getElem_cons h, List.getD_eq_getElem?_getD, List.getElem?_eq_getElem h]
  rfl
theorem getD_mem {L : List Nat} {i : Nat} (h : i < L.length) : L.getD i 0 ∈ L := by
  rw [List.getD_eq_getElem?_getD, List.getElem?_eq_getElem h]
  exact List.getElem_mem h
/-- what holds of a list of groups in the array -/
def isL (f : Nat → Int32) (L : List Nat) : Prop := (∀ j, j < L.length → f j = nI (L.getD j 0)) ∧ L.length ≤ 70 ∧ ∀ g ∈ L, g < 2 ^ 8 ∧ g ≠ 0
theorem isL.of {f g : Nat → Int32} {L : List Nat} (e : g = f) (h : isL f L) : isL g L := e ▸ h
theorem isL.at {f : Nat → Int32} {L : List Nat} (h : isL f L) {j : Nat} (hj : j < L.length) : f j = nI (L.getD j 0) := h.1 j hj
theorem isL.lt {f : Nat → Int32} {L : List Nat} (h : isL f L) {j : Nat} (hj : j < L.length) : L.getD j 0 < 256 := (h.2.2 _ (getD_mem hj)).1
theorem isL.ne {f : Nat → Int32} {L : List Nat} (h : isL f L) {j : Nat} (hj : j < L.length) : L.getD j 0 ≠ 0 := (h.2.2 _ (getD_mem hj)).2
def firstL (S : Nat) : List Nat → Nat
  | [] => 0
  | g :: t => if nd g S = 0 then g else firstL S t
def cntL (S : Nat) : List Nat → Nat
  | [] => 0
  | g :: t => (if nd g S = 0 then 1 else 0) + cntL S t
theorem cntL_le (S : Nat) : ∀ L, cntL S L ≤ L.length
  | [] => Nat.le_refl _
  | g :: t => by have := cntL_le S t; rw [cntL, List.length_cons]; split <;> omega
def mostL (L : List Nat) : Nat → Nat → Nat
  | 0, _ => 0
  | f + 1, S => L.foldl (fun b g => if nd g S = 0 then max b (1 + mostL L f (nd S g)) else b) 0
def mostV (L : List Nat) (S : Nat) : Nat := mostL L (S + 1) S
theorem nd_lt {g S : Nat} (h : nd g S = 0) (h0 : g ≠ 0) : nd S g < S := by
  have h1 := nd_le S g
  rcases Nat.lt_or_eq_of_le h1 with h2 | h2
  · exact h2
  · exfalso
    apply h0
    apply Nat.eq_of_testBit_eq
    intro i
    rw [Nat.zero_testBit]
    have a1 := congrArg (fun x => x.testBit i) h
    have a2 := congrArg (fun x => x.testBit i) h2
    simp only [nd_bit, Nat.zero_testBit] at a1 a2
    cases hg : g.testBit i
    · rfl
    · rw [hg] at a1 a2
      cases hs : S.testBit i <;> rw [hs] at a1 a2 <;> simp at a1 a2
theorem foldl_ext {α β : Type} {f g : α → β → α} {L : List β} (h : ∀ b ∈ L, ∀ a, f a b = g a b) : ∀ a, L.foldl f a = L.foldl g a := by
  induction L with
  | nil => intro a; rfl
  | cons x t ih =>
    intro a
    rw [List.foldl_cons, List.foldl_cons, h x List.mem_cons_self]
    exact ih (fun b hb a => h b (List.mem_cons_of_mem _ hb) a) _
theorem mostL_fuel {L : List Nat} (h0 : ∀ g ∈ L, g ≠ 0) : ∀ f S, S < f → mostL L f S = mostV L S := by
  intro f
  induction f using Nat.strongRecOn with
  | _ f ih =>
    intro S hS
    match f, ih, hS with
    | f + 1, ih, hS =>
      unfold mostV
      rw [mostL, mostL]
      refine foldl_ext (fun g hg b => ?_) 0
      by_cases h : nd g S = 0
      · have hl := nd_lt h (h0 g hg)
        rw [if_pos h, if_pos h, ih f (by omega) _ (by omega)]
        rcases Nat.lt_or_ge S f with h2 | h2
        · rw [ih S (by omega) (nd S g) hl]
        · have e : S = f := by omega
          subst e
          rw [ih S (by omega) (nd S g) hl]
      · rw [if_neg h, if_neg h]
theorem mostV_eq {L : List Nat} (h0 : ∀ g ∈ L, g ≠ 0) (S : Nat) : mostV L S = L.foldl (fun b g => if nd g S = 0 then max b (1 + mostV L (nd S g)) else b) 0 := by
  rw [mostV, mostL]
  refine foldl_ext (fun g hg b => ?_) 0
  by_cases h : nd g S = 0
  · rw [if_pos h, if_pos h, mostL_fuel h0 S _ (nd_lt h (h0 g hg))]
  · rw [if_neg h, if_neg h]
def bestL (L : List Nat) (S : Nat) : List Nat → Nat
  | [] => 0
  | g :: t => if nd g S = 0 ∧ mostV L (nd S g) + 1 = mostV L S then g else bestL L S t
theorem gF_ny {ok : Nat → Nat → Bool} {n st S k p : Nat} (hp : p < n) (h : ¬ k = st) (h2 : ok S p = true) : gF ok n st (n - p) S k = gF ok n st (n - (p + 1)) (S ||| 2 ^ p) (k + 1) ++ gF ok n st (n - (p + 1)) S k := by
  have e : n - p = (n - (p + 1)) + 1 := by omega
  have e2 : n - (n - (p + 1) + 1) = p := by omega
  rw [e, gF_y h (by rw [e2]; exact h2), e2]
theorem gF_nn {ok : Nat → Nat → Bool} {n st S k p : Nat} (hp : p < n) (h : ¬ k = st) (h2 : ok S p = false) : gF ok n st (n - p) S k = gF ok n st (n - (p + 1)) S k := by
  have e : n - p = (n - (p + 1)) + 1 := by omega
  have e2 : n - (n - (p + 1) + 1) = p := by omega
  rw [e, gF_n h (by rw [e2]; exact h2)]
theorem chs_s {n st k p : Nat} (hp : p < n) (hk : k < st) : chs (n - p) (st - k) = chs (n - (p + 1)) (st - (k + 1)) + chs (n - (p + 1)) (st - k) := by
  have e : n - p = (n - (p + 1)) + 1 := by omega
  have e3 : st - k = (st - (k + 1)) + 1 := by omega
  rw [e, e3, chs]
theorem okb1 {K : Nat → Nat → Int32} {S p q b : Nat} (hb : b = if okS K S p q = true then 1 else 0) (h : S.testBit q = false ∨ K p q = -1) : b &&& 1 = if okS K S p (q + 1) = true then 1 else 0 := by
  have e : okS K S p (q + 1) = okS K S p q := by
    rw [okS]
    rcases h with h | h
    · rw [h]; simp
    · simp [h]
  rw [e, hb]
  split <;> rfl
theorem okb0 {K : Nat → Nat → Int32} {S p q b : Nat} (h1 : S.testBit q = true) (h2 : ¬ K p q = -1) : b &&& 0 = if okS K S p (q + 1) = true then 1 else 0 := by
  have e : okS K S p (q + 1) = false := by
    rw [okS, h1]
    simp [h2]
  rw [e, Nat.and_zero]
  rfl
theorem okb_t {K : Nat → Nat → Int32} {S p q b : Nat} (hb : b = if okS K S p q = true then 1 else 0) (hq : q = p) (h : ¬ b = 0) : okM K S p = true := by
  subst hq
  cases e : okM K S q
  · unfold okM at e; rw [e] at hb; exact absurd hb h
  · rfl
theorem okb_f {K : Nat → Nat → Int32} {S p q b : Nat} (hb : b = if okS K S p q = true then 1 else 0) (hq : q = p) (h : b = 0) : okM K S p = false := by
  subst hq
  cases e : okM K S q
  · rfl
  · unfold okM at e; rw [e, if_pos rfl] at hb; omega
theorem okb_le {K : Nat → Nat → Int32} {S p q b : Nat} (hb : b = if okS K S p q = true then 1 else 0) : b ≤ 1 := by rw [hb]; split <;> omega
