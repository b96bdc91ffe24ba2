/-! sets as numbers: nd a b is a without b -/
theorem nb_and (a b : Nat) : nI a &&& nI b = nI (a &&& b) := by
  apply Int32.toBitVec_inj.1
  show BitVec.ofNat 32 a &&& BitVec.ofNat 32 b = BitVec.ofNat 32 (a &&& b)
  apply BitVec.eq_of_getLsbD_eq
  intro i hi
  simp [hi]
theorem nb_or (a b : Nat) : nI a ||| nI b = nI (a ||| b) := by
  apply Int32.toBitVec_inj.1
  show BitVec.ofNat 32 a ||| BitVec.ofNat 32 b = BitVec.ofNat 32 (a ||| b)
  apply BitVec.eq_of_getLsbD_eq
  intro i hi
  simp [hi]
theorem nb_xor (a b : Nat) : nI a ^^^ nI b = nI (a ^^^ b) := by
  apply Int32.toBitVec_inj.1
  show BitVec.ofNat 32 a ^^^ BitVec.ofNat 32 b = BitVec.ofNat 32 (a ^^^ b)
  apply BitVec.eq_of_getLsbD_eq
  intro i hi
  simp [hi]
def nd (a b : Nat) : Nat := a ^^^ (a &&& b)
theorem nd_bit (a b i : Nat) : (nd a b).testBit i = (a.testBit i && !b.testBit i) := by
  unfold nd
  rw [Nat.testBit_xor, Nat.testBit_and]
  cases a.testBit i <;> cases b.testBit i <;> rfl
theorem nb_not (i : Nat) (h : i < 32) : ((-1 : Int32).toBitVec).getLsbD i = true := (by decide +kernel : ∀ i, i < 32 → ((-1 : Int32).toBitVec).getLsbD i = true) i h
theorem nb_nd (a b : Nat) : nI a &&& (nI b ^^^ (-1)) = nI (nd a b) := by
  apply Int32.toBitVec_inj.1
  rw [Int32.toBitVec_and, Int32.toBitVec_xor]
  show BitVec.ofNat 32 a &&& (BitVec.ofNat 32 b ^^^ (-1 : Int32).toBitVec) = BitVec.ofNat 32 (nd a b)
  apply BitVec.eq_of_getLsbD_eq
  intro i hi
  rw [BitVec.getLsbD_and, BitVec.getLsbD_xor, nb_not i hi, BitVec.getLsbD_ofNat, BitVec.getLsbD_ofNat, BitVec.getLsbD_ofNat, nd_bit]
  cases a.testBit i <;> cases b.testBit i <;> simp [hi]
theorem nb_sl : ∀ n, n < 32 → ((nI n &&& 31).toBitVec.smod 32).toNat = n := by decide +kernel
theorem nb_shl (q : Nat) (h : q < 31) : (1 : Int32) <<< (nI q &&& 31) = nI (2 ^ q) := by
  have h1 : 2 ^ q < 2 ^ 31 := Nat.pow_lt_pow_right (by decide) h
  have := pk_shlN (n := 1) (nI q &&& 31) q (nb_sl q (by omega)) (by omega)
  rw [Nat.one_mul] at this
  exact this
theorem nb_shr (a p : Nat) (ha : a < 2 ^ 31) (hp : p < 32) : nI a >>> (nI p &&& 31) = nI (a >>> p) := by
  rw [pk_shrN ha (nI p &&& 31) p (nb_sl p hp), Nat.shiftRight_eq_div_pow]
theorem nd_le (a b : Nat) : nd a b ≤ a := by
  apply Nat.le_of_testBit
  intro i h
  rw [nd_bit] at h
  cases h2 : a.testBit i
  · rw [h2] at h; cases h
  · rfl
theorem bit_mod (a p : Nat) : a >>> p &&& 1 = if a.testBit p then 1 else 0 := by
  rw [Nat.and_one_is_mod, Nat.testBit, Nat.one_and_eq_mod_two]
  rcases Nat.mod_two_eq_zero_or_one (a >>> p) with h | h <;> simp [h]
theorem lt_bit {a i n : Nat} (h : a < 2 ^ n) (hi : a.testBit i = true) : i < n := by
  rcases Nat.lt_or_ge i n with h2 | h2
  · exact h2
  · rw [Nat.testBit_lt_two_pow (Nat.lt_of_lt_of_le h (Nat.pow_le_pow_right (by decide) h2))] at hi; cases hi
theorem or_lt {a b n : Nat} (ha : a < 2 ^ n) (hb : b < 2 ^ n) : a ||| b < 2 ^ n := Nat.or_lt_two_pow ha hb
theorem l_ge (x y : Int64) : y ≤ x ↔ y.toInt ≤ x.toInt := Int64.le_iff_toInt_le
theorem l_lt (x y : Int64) : x < y ↔ x.toInt < y.toInt := Int64.lt_iff_toInt_lt
theorem cmp_lt (x y : Int64) : lg_cmp x y < 0 ↔ x.toInt < y.toInt := by rw [lg_cmp_lt, l_lt]
theorem cmp_gt (x y : Int64) : 0 < lg_cmp x y ↔ y.toInt < x.toInt := by rw [lg_cmp_gt, l_lt]
def inL (v lo hi : Int64) : Bool := decide (lo.toInt ≤ v.toInt ∧ v.toInt ≤ hi.toInt)
theorem nI_m1 {n : Nat} (h : n < 2 ^ 30) : (nI n - 1).toInt = (n : Int) - 1 := by
  rw [show (1 : Int32) = nI 1 from rfl, pk_sub_toInt h (by decide)]
  rfl
theorem nat_of {x : Int32} {k : Nat} (h : 0 ≤ x.toInt ∧ x.toInt < (k : Int)) (hk : k < 2 ^ 31) : ∃ P : Nat, P < k ∧ x = nI P := by
  refine ⟨x.toInt.toNat, by omega, Int32.toInt_inj.mp ?_⟩
  rw [nI_toInt (by omega)]
  omega
theorem nat_of_le {x : Int32} {k : Nat} (h : 0 ≤ x.toInt ∧ x.toInt ≤ (k : Int)) (hk : k < 2 ^ 31 - 1) : ∃ P : Nat, P < k + 1 ∧ x = nI P := nat_of (by omega) (by omega)
theorem in_i {x : Int32} {lo hi : Int64} (b : Bool) (h : inL x.toInt64 lo hi = b) : decide (lo.toInt ≤ x.toInt ∧ x.toInt ≤ hi.toInt) = b := by
  rw [← h, inL, Int32.toInt_toInt64]
