/-! X0: least, who has come, the tables row by row -/
theorem comP_hr {hour : Nat → Int32} {h : Nat} : ∀ p, ∀ x ∈ comP hour h p, hour x = nI h
  | 0, x, hx => by cases hx
  | p + 1, x, hx => by
    rw [comP] at hx
    split at hx
    · rename_i e
      rcases List.mem_append.mp hx with h2 | h2
      · exact comP_hr p x h2
      · rw [List.mem_singleton] at h2; rw [h2]; exact e
    · exact comP_hr p x hx
theorem comH_hr {hour : Nat → Int32} {n : Nat} : ∀ h, ∀ x ∈ comH hour n h, ∃ y, y < h ∧ hour x = nI y
  | 0, x, hx => by cases hx
  | h + 1, x, hx => by
    rw [comH] at hx
    rcases List.mem_append.mp hx with h2 | h2
    · obtain ⟨y, h3, h4⟩ := comH_hr h x h2
      exact ⟨y, by omega, h4⟩
    · exact ⟨h, by omega, comP_hr n x h2⟩
def hrLe (hour : Nat → Int32) (a b : Nat) : Prop := ∃ x y, x ≤ y ∧ y < 24 ∧ hour a = nI x ∧ hour b = nI y
theorem comP_pw {hour : Nat → Int32} {h : Nat} (h24 : h < 24) : ∀ p, (comP hour h p).Pairwise (hrLe hour)
  | 0 => List.Pairwise.nil
  | p + 1 => by
    rw [comP]
    split
    · rename_i e
      refine List.pairwise_append.mpr ⟨comP_pw h24 p, List.pairwise_singleton _ _, fun a ha b hb => ?_⟩
      rw [List.mem_singleton] at hb
      exact ⟨h, h, Nat.le_refl _, h24, comP_hr p a ha, by rw [hb]; exact e⟩
    · exact comP_pw h24 p
theorem comH_pw {hour : Nat → Int32} {n : Nat} : ∀ h, h ≤ 24 → (comH hour n h).Pairwise (hrLe hour)
  | 0, _ => List.Pairwise.nil
  | h + 1, hh => by
    rw [comH]
    refine List.pairwise_append.mpr ⟨comH_pw h (by omega), comP_pw (by omega) n, fun a ha b hb => ?_⟩
    obtain ⟨y, h3, h4⟩ := comH_hr h a ha
    exact ⟨y, h, by omega, by omega, h4, comP_hr n b hb⟩
theorem com_late {hour : Nat → Int32} {n i j : Nat} (h : ∀ p, p < n → ∃ x, x < 24 ∧ hour p = nI x) (hij : i ≤ j) (hj : j < n) : hrLe hour ((comL hour n).getD i 0) ((comL hour n).getD j 0) := by
  have hl := comL_len h
  rcases Nat.lt_or_eq_of_le hij with h2 | h2
  · have := List.pairwise_iff_getElem.mp (comH_pw (hour := hour) (n := n) 24 (Nat.le_refl _)) i j (by rw [show (comH hour n 24).length = n from hl]; omega) (by rw [show (comH hour n 24).length = n from hl]; omega) h2
    rw [List.getD_eq_getElem?_getD, List.getD_eq_getElem?_getD, List.getElem?_eq_getElem (by rw [hl]; omega), List.getElem?_eq_getElem (by rw [hl]; omega)]
    exact this
  · subst h2
    obtain ⟨x, h3, h4⟩ := h _ (com_lt2 h i hj)
    exact ⟨x, x, Nat.le_refl _, h3, h4, h4⟩
/-- who has come of the first k -/
def cmZ (com : Nat → Nat) : Nat → Nat
  | 0 => 0
  | k + 1 => cmZ com k ||| 2 ^ com k
theorem cmZ_bit {com : Nat → Nat} {p : Nat} : ∀ k, (cmZ com k).testBit p = true → ∃ j, j < k ∧ com j = p
  | 0, h => by rw [cmZ, Nat.zero_testBit] at h; cases h
  | k + 1, h => by
    rw [cmZ, Nat.testBit_or, Bool.or_eq_true] at h
    rcases h with h | h
    · obtain ⟨j, h1, h2⟩ := cmZ_bit k h
      exact ⟨j, by omega, h2⟩
    · rw [Nat.testBit_two_pow, decide_eq_true_eq] at h
      exact ⟨k, by omega, h⟩
theorem cmZ_lt {com : Nat → Nat} {n : Nat} : ∀ k, (∀ j, j < k → com j < n) → cmZ com k < 2 ^ n
  | 0, _ => Nat.two_pow_pos n
  | k + 1, h => or_lt (cmZ_lt k (fun j hj => h j (by omega))) (Nat.pow_lt_pow_right (by decide) (h k (by omega)))
theorem cmZ_bits {com : Nat → Nat} : ∀ k, bitsN (cmZ com k) 8 ≤ k
  | 0 => by rw [cmZ]; decide
  | k + 1 => by
    have := cmZ_bits (com := com) k
    have h2 := bits_or (cmZ com k) (com k) 8
    rw [cmZ]; omega
theorem nd0_of {a b : Nat} (h : ∀ i, a.testBit i = true → b.testBit i = true) : nd a b = 0 := by
  apply Nat.eq_of_testBit_eq
  intro i
  rw [nd_bit, Nat.zero_testBit]
  cases e : a.testBit i
  · rfl
  · rw [h i e]; rfl
theorem nd0_le {a b : Nat} (h : nd a b = 0) : a ≤ b := Nat.le_of_testBit fun i hi => sub_bit h hi
theorem nd0_nd {a b c : Nat} (h : nd a c = 0) : nd (nd a b) c = 0 := nd0_of fun i hi => sub_bit h (by rw [nd_bit, Bool.and_eq_true] at hi; exact hi.1)
theorem nd0_cm {com : Nat → Nat} {y k : Nat} (h : nd y (cmZ com k) = 0) : nd (y ||| 2 ^ com k) (cmZ com (k + 1)) = 0 := nd0_of fun i hi => by
  rw [Nat.testBit_or, Bool.or_eq_true] at hi
  rw [cmZ, Nat.testBit_or, Bool.or_eq_true]
  rcases hi with h2 | h2
  · exact Or.inl (sub_bit h h2)
  · exact Or.inr h2
theorem bits_sub {a b : Nat} (h : nd a b = 0) (m : Nat) : bitsN a m ≤ bitsN b m := by have := bits_nd h m; omega
theorem pkR_div {T : Int32} {c r m : Nat} (h : pkR T c r m) (hm : m ≤ 7) : T / 10 = nI c ∧ 9 - (T - T / 10 * 10) = nI r := by
  obtain ⟨h1, h2, h3⟩ := h
  have e1 : (10 * c + 9 - r) / 10 = c := by omega
  have e2 : (10 * c + 9 - r) % 10 = 9 - r := by omega
  have a1 : T / 10 = nI c := by
    rw [h1, show (10 : Int32) = nI 10 from rfl, pk_div (by omega) (by decide) (by decide), e1]
  have a2 : T - T / 10 * 10 = nI (9 - r) := by
    rw [h1, show (10 : Int32) = nI 10 from rfl, pk_rem (by omega) (by decide) (by decide), e2]
  refine ⟨a1, ?_⟩
  rw [a2, show (9 : Int32) = nI 9 from rfl, pk_sub (by omega)]
  exact congrArg nI (by omega)
section TB
variable {K : Nat → Nat → Int32} {cost hour : Nat → Int32} {n st k y : Nat} {ch rd : Nat → Int32}
theorem tbR.put {k2 y2 : Nat} {a b : Int32} (h : tbR K cost hour n st ch rd k2 y2) (hne : 128 * k2 + y2 ≠ 128 * k + y) : tbR K cost hour n st (va_up ch (128 * k + y) a) (va_up rd (128 * k + y) b) k2 y2 := by
  obtain ⟨c, r, h1, h2, h3⟩ := h
  exact ⟨c, r, by rw [va_up_n hne]; exact h1, by rw [va_up_n hne]; exact h2, h3⟩
theorem tbR.new {c r : Nat} (h : pkR (lsV (GL K n st) (fun j => (comL hour n).getD j 0) cost hour n k y) c r (bitsN y 8 + (n - k))) : tbR K cost hour n st (va_up ch (128 * k + y) (nI c)) (va_up rd (128 * k + y) (nI r)) k y := ⟨c, r, va_up_s, va_up_s, h⟩
def tbA (K : Nat → Nat → Int32) (cost hour : Nat → Int32) (n st : Nat) (ch rd : Nat → Int32) (m : Nat) : Prop := ∀ k y, m ≤ k → k ≤ n → nd y (cmZ (fun j => (comL hour n).getD j 0) k) = 0 → tbR K cost hour n st ch rd k y
def tbY (K : Nat → Nat → Int32) (cost hour : Nat → Int32) (n st : Nat) (ch rd : Nat → Int32) (k y : Nat) : Prop := ∀ z, z < y → nd z (cmZ (fun j => (comL hour n).getD j 0) k) = 0 → tbR K cost hour n st ch rd k z
theorem tbA_top : tbA K cost hour n st ch rd (n + 1) := fun k y h1 h2 _ => absurd h1 (by omega)
theorem tbY_0 : tbY K cost hour n st ch rd k 0 := fun z h _ => absurd h (Nat.not_lt_zero _)
theorem tbY_skip (h : tbY K cost hour n st ch rd k y) (hn : ¬ nd y (cmZ (fun j => (comL hour n).getD j 0) k) = 0) : tbY K cost hour n st ch rd k (y + 1) := fun z h1 h2 => by
  by_cases e : z = y
  · subst e; exact absurd h2 hn
  · exact h z (by omega) h2
theorem tbY_put {c r : Nat} (h : tbY K cost hour n st ch rd k y) (hp : pkR (lsV (GL K n st) (fun j => (comL hour n).getD j 0) cost hour n k y) c r (bitsN y 8 + (n - k))) : tbY K cost hour n st (va_up ch (128 * k + y) (nI c)) (va_up rd (128 * k + y) (nI r)) k (y + 1) := fun z h1 h2 => by
  by_cases e : z = y
  · subst e; exact tbR.new hp
  · exact (h z (by omega) h2).put (by omega)
theorem tbA_put {a b : Int32} (h : tbA K cost hour n st ch rd (k + 1)) (hy : y < 128) : tbA K cost hour n st (va_up ch (128 * k + y) a) (va_up rd (128 * k + y) b) (k + 1) := fun k2 y2 h1 h2 h3 => (h k2 y2 h1 h2 h3).put (by omega)
theorem tbA_step (h : tbA K cost hour n st ch rd (k + 1)) (hY : tbY K cost hour n st ch rd k y) (hy : cmZ (fun j => (comL hour n).getD j 0) k < y) : tbA K cost hour n st ch rd k := fun k2 y2 h1 h2 h3 => by
  by_cases e : k2 = k
  · subst e
    exact hY y2 (Nat.lt_of_le_of_lt (nd0_le h3) hy) h3
  · exact h k2 y2 (by omega) h2 h3
end TB
theorem least_k {kx : Int32} {m n : Nat} (hx : kx = nI m - 1) (hc : ¬ kx < 0) (hm : m ≤ n + 1) (hn : n ≤ 7) : ∃ k, k + 1 = m ∧ kx = nI k := by
  rcases Nat.eq_zero_or_pos m with h | h
  · subst h
    exact absurd (by rw [hx]; decide) hc
  · refine ⟨m - 1, by omega, ?_⟩
    rw [hx, show (1 : Int32) = nI 1 from rfl, pk_sub h]
theorem least_m {kx : Int32} {m n : Nat} (hx : kx = nI m - 1) (hc : kx < 0) (hm : m ≤ n + 1) (hn : n ≤ 7) : m = 0 := by
  rcases Nat.eq_zero_or_pos m with h | h
  · exact h
  · rw [hx, show (1 : Int32) = nI 1 from rfl, pk_sub h] at hc
    exact absurd hc (nI_pos (by omega))
