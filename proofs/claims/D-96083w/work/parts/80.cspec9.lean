/-! X0: the least, in whole numbers: ten times the cost, and nine less the coaches -/
def pkR (T : Int32) (c r m : Nat) : Prop := T = nI (10 * c + 9 - r) ∧ r ≤ m ∧ c ≤ 216 * m
theorem sum10 {cost hour : Nat → Int32} {S : Nat} {now : Int32} : ∀ m, sumS (fun p => 10 * cost p * (now - hour p)) S m = 10 * lvF cost hour S now m
  | 0 => by rw [sumS, lvF]; decide
  | m + 1 => by
    rw [sumS, lvF, sum10 m, Int32.mul_add]
    split
    · rw [Int32.mul_assoc]
    · rw [show (10 : Int32) * 0 = 0 from by decide]
theorem lv_n {cost hour : Nat → Int32} {S n h : Nat} (hc : ∀ p, p < n → ∃ c, c ≤ 9 ∧ cost p = nI c) (hh : ∀ p, p < n → S.testBit p = true → ∃ x, x ≤ h ∧ hour p = nI x) (h24 : h ≤ 24) : ∀ m, m ≤ n → ∃ v, v ≤ 216 * bitsN S m ∧ lvF cost hour S (nI h) m = nI v
  | 0, _ => ⟨0, Nat.zero_le _, rfl⟩
  | m + 1, hm => by
    obtain ⟨v, hv, e⟩ := lv_n hc hh h24 m (by omega)
    rw [lvF, bitsN, e]
    cases hb : S.testBit m
    · rw [if_neg (by decide), if_neg (by decide)]
      exact ⟨v, by omega, Int32.add_zero _⟩
    · rw [if_pos rfl, if_pos rfl]
      obtain ⟨c, hc9, ec⟩ := hc m (by omega)
      obtain ⟨x, hx, ex⟩ := hh m (by omega) hb
      rw [ec, ex, pk_sub hx, pk_mul, nI_add]
      have h1 : c * (h - x) ≤ 9 * 24 := Nat.mul_le_mul hc9 (by omega)
      exact ⟨v + c * (h - x), by omega, rfl⟩
theorem bitsN_mono {S a b : Nat} (h : a ≤ b) : bitsN S a ≤ bitsN S b := by
  induction h with
  | refl => exact Nat.le_refl _
  | step _ ih => rw [bitsN]; omega
theorem pkR_E {cost hour : Nat → Int32} {y n v m : Nat} (e : lvF cost hour y 24 n = nI v) (hv : v ≤ 216 * m) : pkR (lsE cost hour y n) v 0 m := by
  refine ⟨?_, Nat.zero_le _, hv⟩
  unfold lsE
  rw [sum10, e, show (10 : Int32) = nI 10 from rfl, pk_mul, show (9 : Int32) = nI 9 from rfl, nI_add]
  rfl
theorem pkR_W {cost hour : Nat → Int32} {now T : Int32} {g n l c r m b : Nat} (e : lvF cost hour g now n = nI l) (hl : l ≤ 216 * b) (hT : pkR T c r m) (hm : m ≤ 7) (hb : 1 ≤ b) : pkR (lsW cost hour now g n + T) (l + c) (r + 1) (m + b) := by
  obtain ⟨h1, h2, h3⟩ := hT
  refine ⟨?_, by omega, by omega⟩
  unfold lsW
  rw [sum10, e, h1, show (10 : Int32) = nI 10 from rfl, pk_mul, Int32.add_assoc, nI_add, Int32.add_comm, ← Int32.sub_eq_add_neg, show (1 : Int32) = nI 1 from rfl, pk_sub (by omega)]
  exact congrArg nI (by omega)
theorem pkR_lt {T B : Int32} {c r cb rb m : Nat} (hT : pkR T c r m) (hB : pkR B cb rb m) (hm : m ≤ 8) : ¬ B ≤ T ↔ (c < cb ∨ (c = cb ∧ rb < r)) := by
  obtain ⟨h1, h2, h3⟩ := hT
  obtain ⟨g1, g2, g3⟩ := hB
  rw [h1, g1, Int32.le_iff_toInt_le, nI_toInt (by omega), nI_toInt (by omega)]
  omega
