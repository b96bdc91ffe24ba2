/-! SPEC 1: sets, strangers, sums -/
def bitsN (s : Nat) : Nat → Nat
  | 0 => 0
  | k + 1 => bitsN s k + if s.testBit k then 1 else 0
theorem bitsN_le (s : Nat) : ∀ k, bitsN s k ≤ k
  | 0 => Nat.le_refl 0
  | k + 1 => by have := bitsN_le s k; unfold bitsN; split <;> omega
/-- the strangers of p among q -/
def strS (K : Nat → Nat → Int32) (p : Nat) : Nat → Nat
  | 0 => 0
  | q + 1 => if q ≠ p ∧ K p q = -1 then strS K p q ||| 2 ^ q else strS K p q
theorem strS_lt (K : Nat → Nat → Int32) (p : Nat) : ∀ q, strS K p q < 2 ^ q
  | 0 => Nat.zero_lt_one
  | q + 1 => by
    have h := strS_lt K p q
    have h2 : 2 ^ q < 2 ^ (q + 1) := Nat.pow_lt_pow_right (by decide) (Nat.lt_succ_self q)
    unfold strS
    split
    · exact or_lt (Nat.lt_trans h h2) h2
    · exact Nat.lt_trans h h2
theorem strS_bit (K : Nat → Nat → Int32) (p : Nat) : ∀ n i, (strS K p n).testBit i = (decide (i < n) && decide (i ≠ p ∧ K p i = -1))
  | 0, i => by simp [strS]
  | q + 1, i => by
    have ih := strS_bit K p q i
    unfold strS
    rcases Nat.lt_trichotomy i q with h | h | h
    · split
      · rw [Nat.testBit_or, ih, Nat.testBit_two_pow_of_ne (by omega)]; simp [h, Nat.lt_succ_of_lt h]
      · rw [ih]; simp [h, Nat.lt_succ_of_lt h]
    · subst h
      split
      · rename_i h2; rw [Nat.testBit_or, ih, Nat.testBit_two_pow_self]; simp [h2]
      · rename_i h2; rw [ih]; simp [h2]
    · split
      · rw [Nat.testBit_or, ih, Nat.testBit_two_pow_of_ne (by omega)]; simp [show ¬ i < q by omega, show ¬ i < q + 1 by omega]
      · rw [ih]; simp [show ¬ i < q by omega, show ¬ i < q + 1 by omega]
theorem strS_y {K : Nat → Nat → Int32} {p q : Nat} (h1 : ¬ q = p) (h2 : K p q = -1) : strS K p (q + 1) = strS K p q ||| 2 ^ q := if_pos ⟨h1, h2⟩
theorem strS_n1 {K : Nat → Nat → Int32} {p q : Nat} (h1 : q = p) : strS K p (q + 1) = strS K p q ||| 0 := by rw [Nat.or_zero]; exact if_neg (fun h => h.1 h1)
theorem strS_n2 {K : Nat → Nat → Int32} {p q : Nat} (h1 : ¬ K p q = -1) : strS K p (q + 1) = strS K p q ||| 0 := by rw [Nat.or_zero]; exact if_neg (fun h => h1 h.2)
/-- a sum over the members of a set -/
def sumS (f : Nat → Int32) (s : Nat) : Nat → Int32
  | 0 => 0
  | p + 1 => sumS f s p + if s.testBit p then f p else 0
theorem sumS_y {f : Nat → Int32} {s p : Nat} (h : s.testBit p = true) : sumS f s (p + 1) = sumS f s p + f p := by rw [sumS, if_pos h]
theorem sumS_n {f : Nat → Int32} {s p : Nat} (h : s.testBit p = false) : sumS f s (p + 1) = sumS f s p + 0 := by rw [sumS, if_neg (by rw [h]; decide)]
