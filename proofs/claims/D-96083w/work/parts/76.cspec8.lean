/-! X0: whether so many more can be had, all strangers -/
def grB (K : Nat → Nat → Int32) (n : Nat) : Nat → Nat → Nat → Bool
  | 0, _, m => decide (m = 0)
  | r + 1, Z, m => decide (m = 0) || ((Z.testBit (n - (r + 1)) && grB K n r (Z &&& strS K (n - (r + 1)) n) (m - 1)) || grB K n r Z m)
theorem grB_z {K : Nat → Nat → Int32} {n r Z : Nat} : grB K n r Z 0 = true := by cases r <;> simp [grB]
theorem grB_e {K : Nat → Nat → Int32} {n Z m : Nat} (hm : ¬ m = 0) : grB K n 0 Z m = false := decide_eq_false hm
theorem grB_s {K : Nat → Nat → Int32} {n Z m p : Nat} (hm : ¬ m = 0) (hp : p < n) : grB K n (n - p) Z m = ((Z.testBit p && grB K n (n - (p + 1)) (Z &&& strS K p n) (m - 1)) || grB K n (n - (p + 1)) Z m) := by
  obtain ⟨r, e⟩ : ∃ r, n - p = r + 1 := ⟨n - p - 1, by omega⟩
  rw [e, grB, decide_eq_false hm, Bool.false_or, show n - (r + 1) = p by omega, show n - (p + 1) = r by omega]
