/-! SPEC 8: how long it goes on -/
def soN (so : Option Nat) (m : Nat) : Option Nat := match so with
  | none => some m
  | some s => some (min s m)
def soLe (so : Option Nat) : Prop := ∀ s, so = some s → s ≤ 35
theorem soI_ne (s : Nat) (h : s ≤ 35) : ¬ soI (some s) = -1 := by
  intro e
  have := congrArg Int32.toInt e
  rw [show soI (some s) = nI s from rfl, nI_toInt (by omega)] at this
  rw [show ((-1 : Int32)).toInt = -1 from rfl] at this
  omega
theorem so_1 {so : Option Nat} {m : Nat} (hl : soLe so) (h : soI so = -1) : soI (soN so m) = nI m := by
  cases so with
  | none => rfl
  | some s => exact absurd h (soI_ne s (hl s rfl))
theorem so_2 {so : Option Nat} {m : Nat} (hl : soLe so) (hm : m ≤ 40) (h : ¬ soI so = -1) (h2 : soI so ≤ nI m) : soI (soN so m) = soI so := by
  cases so with
  | none => exact absurd rfl h
  | some s =>
    have hs := hl s rfl
    have := (n_le (a := s) (b := m) (by omega) (by omega)).mp h2
    show nI (min s m) = nI s
    rw [Nat.min_eq_left this]
theorem so_3 {so : Option Nat} {m : Nat} (hl : soLe so) (hm : m ≤ 40) (h : ¬ soI so = -1) (h2 : ¬ soI so ≤ nI m) : soI (soN so m) = nI m := by
  cases so with
  | none => exact absurd rfl h
  | some s =>
    have hs := hl s rfl
    have : m < s := Nat.lt_of_not_le (fun zz => h2 ((n_le (a := s) (b := m) (by omega) (by omega)).mpr zz))
    show nI (min s m) = nI m
    rw [Nat.min_eq_right (by omega)]
theorem seekL_nil {L T : List Nat} {a : Nat × Option Nat} : seekL L [] T a = if L.all (fun g => !apartL g T) = true then (max a.1 T.length, soN a.2 T.length) else a := by
  rw [seekL]
  rfl
theorem seekL_le {L : List Nat} : ∀ (M T : List Nat) (a : Nat × Option Nat), T.length + M.length ≤ 35 → a.1 ≤ 35 → soLe a.2 → (seekL L M T a).1 ≤ 35 ∧ soLe (seekL L M T a).2
  | [], T, a, h, h1, h2 => by
    rw [seekL_nil]
    split
    · refine ⟨?_, ?_⟩
      · show max a.1 T.length ≤ 35
        simp only [List.length_nil] at h
        omega
      · intro s hs
        obtain ⟨x, so⟩ := a
        cases so with
        | none =>
          simp only [soN] at hs
          cases hs
          simp only [List.length_nil] at h
          omega
        | some z =>
          simp only [soN] at hs
          cases hs
          have := h2 z rfl
          omega
    · exact ⟨h1, h2⟩
  | g :: r, T, a, h, h1, h2 => by
    rw [seekL]
    rw [List.length_cons] at h
    split
    · obtain ⟨h3, h4⟩ := seekL_le r (T ++ [g]) a (by rw [List.length_append]; simp only [List.length_singleton]; omega) h1 h2
      exact seekL_le r T _ (by omega) h3 h4
    · exact seekL_le r T _ (by omega) h1 h2
theorem seekL_y {L T : List Nat} {i : Nat} {a : Nat × Option Nat} (hi : i < L.length) (h : apartL (L.getD i 0) T = true) : seekL L (L.drop i) T a = seekL L (L.drop (i + 1)) T (seekL L (L.drop (i + 1)) (T ++ [L.getD i 0]) a) := by rw [dropD hi, seekL, if_pos h]
theorem seekL_n {L T : List Nat} {i : Nat} {a : Nat × Option Nat} (hi : i < L.length) (h : apartL (L.getD i 0) T = false) : seekL L (L.drop i) T a = seekL L (L.drop (i + 1)) T a := by rw [dropD hi, seekL, if_neg (by rw [h]; decide)]
theorem all_s {p : Nat → Bool} {L : List Nat} {k : Nat} (hk : k < L.length) : (L.take (k + 1)).all p = ((L.take k).all p && p (L.getD k 0)) := by
  rw [List.take_succ_eq_append_getElem hk, List.all_append, List.getD_eq_getElem?_getD, List.getElem?_eq_getElem hk]
  simp
theorem all_f {p : Nat → Bool} {L : List Nat} {k b : Nat} (hb : b = if (L.take k).all p = true then 1 else 0) (h : b = 0) : b = if L.all p = true then 1 else 0 := by
  have h1 : (L.take k).all p = false := by
    cases e : (L.take k).all p
    · rfl
    · rw [e, if_pos rfl] at hb; omega
  have h2 : L.all p = false := by
    cases e : L.all p
    · rfl
    · have := List.all_eq_true.mp e
      have h3 : (L.take k).all p = true := List.all_eq_true.mpr (fun x hx => this x (List.mem_of_mem_take hx))
      rw [h3] at h1; cases h1
  rw [h2, h]; rfl
theorem all_e {p : Nat → Bool} {L : List Nat} {k b : Nat} (hb : b = if (L.take k).all p = true then 1 else 0) (h : L.length ≤ k) : b = if L.all p = true then 1 else 0 := by
  rw [List.take_of_length_le h] at hb
  exact hb
theorem all_1 {L T : List Nat} {k b : Nat} (hk : k < L.length) (hb : b = if (L.take k).all (fun g => !apartL g T) = true then 1 else 0) (h : ¬ b = 0) (h2 : apartL (L.getD k 0) T = false) : 1 = if (L.take (k + 1)).all (fun g => !apartL g T) = true then 1 else 0 := by
  have h1 : (L.take k).all (fun g => !apartL g T) = true := by
    cases e : (L.take k).all (fun g => !apartL g T)
    · rw [e] at hb; exact absurd hb h
    · rfl
  rw [all_s hk, h1, h2]
  rfl
theorem all_0 {L T : List Nat} {k : Nat} (hk : k < L.length) (h2 : apartL (L.getD k 0) T = true) : 0 = if (L.take (k + 1)).all (fun g => !apartL g T) = true then 1 else 0 := by
  rw [all_s hk, h2]
  simp
theorem all_b {p : Nat → Bool} {L : List Nat} {b : Nat} (hb : b = if L.all p = true then 1 else 0) : b ≤ 1 := by rw [hb]; split <;> omega
theorem all_t {p : Nat → Bool} {L : List Nat} {b : Nat} (hb : b = if L.all p = true then 1 else 0) (h : ¬ b = 0) : L.all p = true := by
  cases e : L.all p
  · rw [e] at hb; exact absurd hb h
  · rfl
theorem all_n {p : Nat → Bool} {L : List Nat} {b : Nat} (hb : b = if L.all p = true then 1 else 0) (h : b = 0) : ¬ L.all p = true := by
  intro e
  rw [e, if_pos rfl] at hb; omega
theorem tk_s {f : Nat → Int32} {T : List Nat} {g : Nat} (hT : ∀ j, j < T.length → f j = nI (T.getD j 0)) : ∀ j, j < (T ++ [g]).length → va_up f T.length (nI g) j = nI ((T ++ [g]).getD j 0) := by
  intro j hj
  rw [List.length_append, List.length_singleton] at hj
  rw [List.getD_eq_getElem?_getD]
  by_cases h : j = T.length
  · subst h
    rw [va_up_s, List.getElem?_append_right (Nat.le_refl _), Nat.sub_self]
    rfl
  · rw [va_up_n h, List.getElem?_append_left (by omega), ← List.getD_eq_getElem?_getD]
    exact hT j (by omega)
theorem tk_8 {T : List Nat} {g : Nat} (hT : ∀ j, j < T.length → T.getD j 0 < 256) (hg : g < 256) : ∀ j, j < (T ++ [g]).length → (T ++ [g]).getD j 0 < 256 := by
  intro j hj
  rw [List.length_append, List.length_singleton] at hj
  rw [List.getD_eq_getElem?_getD]
  by_cases h : j = T.length
  · subst h
    rw [List.getElem?_append_right (Nat.le_refl _), Nat.sub_self]
    exact hg
  · rw [List.getElem?_append_left (by omega), ← List.getD_eq_getElem?_getD]
    exact hT j (by omega)
theorem tk_b {f f2 : Nat → Int32} {T : List Nat} {g : Nat} (h : ∀ j, j < (T ++ [g]).length → f2 j = va_up f T.length (nI g) j) (hT : ∀ j, j < T.length → f j = nI (T.getD j 0)) : ∀ j, j < T.length → f2 j = nI (T.getD j 0) := by
  intro j hj
  rw [h j (by rw [List.length_append]; omega), va_up_n (by omega), hT j hj]
theorem tk_c {f f2 f3 : Nat → Int32} {T : List Nat} {g : Nat} (h3 : ∀ j, j < T.length → f3 j = f2 j) (h : ∀ j, j < (T ++ [g]).length → f2 j = va_up f T.length (nI g) j) : ∀ j, j < T.length → f3 j = f j := by
  intro j hj
  rw [h3 j hj, h j (by rw [List.length_append]; omega), va_up_n (by omega)]
