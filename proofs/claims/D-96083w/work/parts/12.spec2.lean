/-! SPEC 2: who knows whom -/
def knF (K : Nat → Nat → Int32) (p q : Nat) (v : Int32) : Nat → Nat → Int32 := fun a b => if (a = p ∧ b = q) ∨ (a = q ∧ b = p) then v else K a b
theorem knF_eq (K : Nat → Nat → Int32) (p q : Nat) (v : Int32) : va_up (va_up K p (va_up (K p) q v)) q (va_up (va_up K p (va_up (K p) q v) q) p v) = knF K p q v := by
  funext a b
  unfold knF va_up
  by_cases h1 : a = q
  · subst h1
    by_cases h2 : b = p
    · simp [h2]
    · by_cases h3 : a = p
      · subst h3
        by_cases h4 : b = a
        · exact absurd h4 h2
        · simp [h4]
      · simp [h2, h3]
  · by_cases h3 : a = p
    · subst h3
      by_cases h4 : b = q
      · simp [h4, h1]
      · simp [h1, h4]
    · simp [h1, h3]
/-- a new one's row and column -/
def newK (K : Nat → Nat → Int32) (n i : Nat) : Nat → Nat → Int32 := fun a b => if (a = n ∧ b < i) ∨ (b = n ∧ a < i) then -1 else K a b
theorem newK_0 (K : Nat → Nat → Int32) (n : Nat) : newK K n 0 = K := by funext a b; simp [newK]
theorem newK_s (K : Nat → Nat → Int32) (n i : Nat) : knF (newK K n i) n i (-1) = newK K n (i + 1) := by
  funext a b
  unfold knF newK
  by_cases h : (a = n ∧ b = i) ∨ (a = i ∧ b = n)
  · rw [if_pos h, if_pos (by omega)]
  · rw [if_neg h]
    by_cases h2 : (a = n ∧ b < i) ∨ (b = n ∧ a < i)
    · rw [if_pos h2, if_pos (by omega)]
    · rw [if_neg h2, if_neg (by omega)]
/-- pair by pair: those below (p, q) have their new value, where g gives one -/
def upS (K : Nat → Nat → Int32) (g : Nat → Nat → Option Int32) (p q : Nat) : Nat → Nat → Int32 := fun a b =>
  if b < a ∧ (a < p ∨ (a = p ∧ b < q)) then (g a b).getD (K a b) else if a < b ∧ (b < p ∨ (b = p ∧ a < q)) then (g b a).getD (K a b) else K a b
theorem upS_0 (K : Nat → Nat → Int32) (g : Nat → Nat → Option Int32) : upS K g 0 0 = K := by
  funext a b
  unfold upS
  rw [if_neg (by omega), if_neg (by omega)]
theorem upS_row (K : Nat → Nat → Int32) (g : Nat → Nat → Option Int32) (p : Nat) : upS K g p p = upS K g (p + 1) 0 := by
  funext a b
  unfold upS
  by_cases h1 : b < a ∧ (a < p ∨ (a = p ∧ b < p))
  · rw [if_pos h1, if_pos (by omega)]
  · rw [if_neg h1, if_neg (by omega : ¬ (b < a ∧ (a < p + 1 ∨ (a = p + 1 ∧ b < 0))))]
    by_cases h2 : a < b ∧ (b < p ∨ (b = p ∧ a < p))
    · rw [if_pos h2, if_pos (by omega)]
    · rw [if_neg h2, if_neg (by omega)]
theorem upS_none {K : Nat → Nat → Int32} {g : Nat → Nat → Option Int32} {p q : Nat} (h : g p q = none) : upS K g p (q + 1) = upS K g p q := by
  funext a b
  unfold upS
  by_cases h1 : b < a ∧ (a < p ∨ (a = p ∧ b < q))
  · rw [if_pos h1, if_pos (by omega)]
  · rw [if_neg h1]
    by_cases h3 : b < a ∧ (a < p ∨ (a = p ∧ b < q + 1))
    · rw [if_pos h3, show a = p by omega, show b = q by omega, h, if_neg (by omega)]; rfl
    · rw [if_neg h3]
      by_cases h2 : a < b ∧ (b < p ∨ (b = p ∧ a < q))
      · rw [if_pos h2, if_pos (by omega)]
      · rw [if_neg h2]
        by_cases h4 : a < b ∧ (b < p ∨ (b = p ∧ a < q + 1))
        · rw [if_pos h4, show a = q by omega, show b = p by omega, h]; rfl
        · rw [if_neg h4]
theorem upS_some {K : Nat → Nat → Int32} {g : Nat → Nat → Option Int32} {p q : Nat} {v : Int32} (hq : q < p) (h : g p q = some v) : upS K g p (q + 1) = knF (upS K g p q) p q v := by
  funext a b
  unfold knF upS
  by_cases h0 : (a = p ∧ b = q) ∨ (a = q ∧ b = p)
  · rw [if_pos h0]
    rcases h0 with ⟨rfl, rfl⟩ | ⟨rfl, rfl⟩
    · rw [if_pos (by omega), h]; rfl
    · rw [if_neg (by omega), if_pos (by omega), h]; rfl
  · rw [if_neg h0]
    by_cases h1 : b < a ∧ (a < p ∨ (a = p ∧ b < q))
    · rw [if_pos h1, if_pos (by omega)]
    · rw [if_neg h1, if_neg (by omega : ¬ (b < a ∧ (a < p ∨ (a = p ∧ b < q + 1))))]
      by_cases h2 : a < b ∧ (b < p ∨ (b = p ∧ a < q))
      · rw [if_pos h2, if_pos (by omega)]
      · rw [if_neg h2, if_neg (by omega)]
theorem upS_at {K : Nat → Nat → Int32} {g : Nat → Nat → Option Int32} {p q : Nat} (hq : q < p) : upS K g p q p q = K p q := by
  unfold upS
  rw [if_neg (by omega), if_neg (by omega)]
/-- all of a set know each other -/
def meetG (S a b : Nat) : Option Int32 := if S.testBit a = true ∧ S.testBit b = true then some 0 else none
def meetK (K : Nat → Nat → Int32) (S n : Nat) : Nat → Nat → Int32 := upS K (meetG S) n 0
theorem meetG_y {S a b : Nat} (h1 : S.testBit a = true) (h2 : S.testBit b = true) : meetG S a b = some 0 := if_pos ⟨h1, h2⟩
theorem meetG_n1 {S a b : Nat} (h1 : S.testBit a = false) : meetG S a b = none := if_neg (by rw [h1]; simp)
theorem meetG_n2 {S a b : Nat} (h1 : S.testBit b = false) : meetG S a b = none := if_neg (by rw [h1]; simp)
/-- how many two of a set are strangers -/
def mC1 (K : Nat → Nat → Int32) (S p : Nat) : Nat → Nat
  | 0 => 0
  | q + 1 => mC1 K S p q + if S.testBit p = true ∧ S.testBit q = true ∧ K p q = -1 then 1 else 0
def mC (K : Nat → Nat → Int32) (S : Nat) : Nat → Nat
  | 0 => 0
  | p + 1 => mC K S p + mC1 K S p p
theorem mC1_y {K : Nat → Nat → Int32} {S p q : Nat} (h1 : S.testBit p = true) (h2 : S.testBit q = true) (h3 : K p q = -1) : mC1 K S p (q + 1) = mC1 K S p q + 1 := by rw [mC1, if_pos ⟨h1, h2, h3⟩]
theorem mC1_n1 {K : Nat → Nat → Int32} {S p q : Nat} (h1 : S.testBit p = false) : mC1 K S p (q + 1) = mC1 K S p q := by rw [mC1, if_neg (by rw [h1]; simp)]; rfl
theorem mC1_n2 {K : Nat → Nat → Int32} {S p q : Nat} (h1 : S.testBit q = false) : mC1 K S p (q + 1) = mC1 K S p q := by rw [mC1, if_neg (by rw [h1]; simp)]; rfl
theorem mC1_n3 {K : Nat → Nat → Int32} {S p q : Nat} (h1 : ¬ K p q = -1) : mC1 K S p (q + 1) = mC1 K S p q := by rw [mC1, if_neg (by simp [h1])]; rfl
theorem mC1_le (K : Nat → Nat → Int32) (S p : Nat) : ∀ q, mC1 K S p q ≤ q
  | 0 => Nat.le_refl 0
  | q + 1 => by have := mC1_le K S p q; rw [mC1]; split <;> omega
theorem mC_le (K : Nat → Nat → Int32) (S : Nat) : ∀ p, mC K S p ≤ p * p
  | 0 => Nat.le_refl 0
  | p + 1 => by
    have h1 := mC_le K S p
    have h2 := mC1_le K S p p
    rw [mC, Nat.add_mul, Nat.mul_add]
    omega
/-- a year -/
def yrV (v : Int32) : Int32 := if v < 99 then v + 1 else 99
def yrG (mem : Int32) (v : Int32) : Bool := decide (¬ mem = 0 ∧ mem < yrV v)
def yearG (K : Nat → Nat → Int32) (mem : Int32) (a b : Nat) : Option Int32 := if K a b = -1 then none else some (if yrG mem (K a b) = true then -1 else yrV (K a b))
def yearK (K : Nat → Nat → Int32) (mem : Int32) (n : Nat) : Nat → Nat → Int32 := upS K (yearG K mem) n 0
def yC1 (K : Nat → Nat → Int32) (mem : Int32) (p : Nat) : Nat → Nat
  | 0 => 0
  | q + 1 => yC1 K mem p q + if ¬ K p q = -1 ∧ yrG mem (K p q) = true then 1 else 0
def yC (K : Nat → Nat → Int32) (mem : Int32) : Nat → Nat
  | 0 => 0
  | p + 1 => yC K mem p + yC1 K mem p p
theorem yC1_y {K : Nat → Nat → Int32} {mem : Int32} {p q : Nat} (h1 : ¬ K p q = -1) (h2 : yrG mem (K p q) = true) : yC1 K mem p (q + 1) = yC1 K mem p q + 1 := by rw [yC1, if_pos ⟨h1, h2⟩]
theorem yC1_n1 {K : Nat → Nat → Int32} {mem : Int32} {p q : Nat} (h1 : K p q = -1) : yC1 K mem p (q + 1) = yC1 K mem p q := by rw [yC1, if_neg (by simp [h1])]; rfl
theorem yC1_n2 {K : Nat → Nat → Int32} {mem : Int32} {p q : Nat} (h1 : yrG mem (K p q) = false) : yC1 K mem p (q + 1) = yC1 K mem p q := by rw [yC1, if_neg (by simp [h1])]; rfl
theorem yearG_n {K : Nat → Nat → Int32} {mem : Int32} {a b : Nat} (h : K a b = -1) : yearG K mem a b = none := if_pos h
theorem yearG_y {K : Nat → Nat → Int32} {mem : Int32} {a b : Nat} (h : ¬ K a b = -1) (h2 : yrG mem (K a b) = true) : yearG K mem a b = some (-1) := by rw [yearG, if_neg h, if_pos h2]
theorem yearG_y2 {K : Nat → Nat → Int32} {mem : Int32} {a b : Nat} (h : ¬ K a b = -1) (h2 : yrG mem (K a b) = false) : yearG K mem a b = some (yrV (K a b)) := by rw [yearG, if_neg h, if_neg (by rw [h2]; decide)]
/-- the seed, drawn -/
def drS (sd : Int32) : Int32 := sd * 1103515245 + 12345
def drU (sd : Int32) : Int32 := ((drS sd).toUInt32 >>> ((16 : Int32).toUInt32 &&& Int32.toUInt32 31)).toInt32
def drV (sd k : Int32) : Int32 := drU sd - drU sd / k * k
