/-! X0: what a set costs that leaves; how many groups have both; who of a set are strangers -/
def lvF (cost hour : Nat → Int32) (S : Nat) (h : Int32) : Nat → Int32
  | 0 => 0
  | p + 1 => lvF cost hour S h p + if S.testBit p = true then cost p * (h - hour p) else 0
theorem lvF_y {cost hour : Nat → Int32} {S : Nat} {h : Int32} {p : Nat} (hp : S.testBit p = true) : lvF cost hour S h (p + 1) = lvF cost hour S h p + cost p * (h - hour p) := by rw [lvF, if_pos hp]
theorem lvF_n {cost hour : Nat → Int32} {S : Nat} {h : Int32} {p : Nat} (hp : S.testBit p = false) : lvF cost hour S h (p + 1) = lvF cost hour S h p + 0 := by rw [lvF, if_neg (by rw [hp]; decide)]
def clN (p q : Nat) : List Nat → Nat
  | [] => 0
  | g :: t => (if g.testBit p = true ∧ g.testBit q = true then 1 else 0) + clN p q t
theorem clN_y {p q g : Nat} {t : List Nat} (h1 : g.testBit p = true) (h2 : g.testBit q = true) : clN p q (g :: t) = 1 + clN p q t := by rw [clN, if_pos ⟨h1, h2⟩]
theorem clN_1 {p q g : Nat} {t : List Nat} (h : g.testBit p = false) : clN p q (g :: t) = clN p q t := by rw [clN, if_neg (fun z => by rw [h] at z; cases z.1), Nat.zero_add]
theorem clN_2 {p q g : Nat} {t : List Nat} (h : g.testBit q = false) : clN p q (g :: t) = clN p q t := by rw [clN, if_neg (fun z => by rw [h] at z; cases z.2), Nat.zero_add]
theorem clN_le (p q : Nat) : ∀ L : List Nat, clN p q L ≤ L.length
  | [] => Nat.le_refl 0
  | g :: t => by
    have := clN_le p q t
    rw [clN, List.length_cons]
    split <;> omega
def wcG (cl : Nat → Nat → Nat) (K : Nat → Nat → Int32) (p q : Nat) (b : Int32 × Nat) : Int32 × Nat := if K p q = -1 ∧ (b.1 = -1 ∨ b.2 < cl p q) then (nI (10 * p + q), cl p q) else b
def wcJ (cl : Nat → Nat → Nat) (K : Nat → Nat → Int32) (p : Nat) (b : Int32 × Nat) : Nat → Int32 × Nat
  | 0 => b
  | q + 1 => if p < q then wcG cl K p q (wcJ cl K p b q) else wcJ cl K p b q
def wcI (cl : Nat → Nat → Nat) (K : Nat → Nat → Int32) (n : Nat) : Nat → Int32 × Nat
  | 0 => (-1, 0)
  | p + 1 => wcJ cl K p (wcI cl K n p) n
def wcC (cl : Nat → Nat → Nat) (K : Nat → Nat → Int32) (n : Nat) : Int32 := if (wcI cl K n n).1 = -1 then -5 else 0
theorem wcJ_0 (cl : Nat → Nat → Nat) (K : Nat → Nat → Int32) (p : Nat) (b : Int32 × Nat) : ∀ q, q ≤ p + 1 → wcJ cl K p b q = b
  | 0, _ => rfl
  | q + 1, h => by rw [wcJ, if_neg (by omega)]; exact wcJ_0 cl K p b q (by omega)
theorem wcJ_y {cl : Nat → Nat → Nat} {K : Nat → Nat → Int32} {p q m : Nat} {x : Int32} {b : Int32 × Nat} (hb : (x, m) = wcJ cl K p b q) (hp : p < q) (h1 : K p q = -1) (h2 : x = -1 ∨ m < cl p q) : (nI (10 * p + q), cl p q) = wcJ cl K p b (q + 1) := by
  rw [wcJ, if_pos hp, ← hb, wcG, if_pos ⟨h1, h2⟩]
theorem wcJ_n {cl : Nat → Nat → Nat} {K : Nat → Nat → Int32} {p q m : Nat} {x : Int32} {b : Int32 × Nat} (hb : (x, m) = wcJ cl K p b q) (hp : p < q) (h : ¬ (K p q = -1 ∧ (x = -1 ∨ m < cl p q))) : (x, m) = wcJ cl K p b (q + 1) := by
  rw [wcJ, if_pos hp, ← hb, wcG, if_neg h]
def asB (K : Nat → Nat → Int32) (n S : Nat) : Nat → Bool
  | 0 => true
  | p + 1 => asB K n S p && (!(S.testBit p) || decide (nd (nd S (2 ^ p)) (strS K p n) = 0))
theorem asB_no {K : Nat → Nat → Int32} {n S p : Nat} (h1 : S.testBit p = true) (h2 : ¬ nd (nd S (2 ^ p)) (strS K p n) = 0) : ∀ m, p < m → asB K n S m = false
  | 0, h => absurd h (Nat.not_lt_zero _)
  | m + 1, h => by
    rw [asB]
    rcases Nat.lt_or_ge p m with h3 | h3
    · rw [asB_no h1 h2 m h3, Bool.false_and]
    · have e : p = m := by omega
      subst e
      rw [h1, decide_eq_false h2]
      simp
/-- the most that one more could let go, by sets -/
def hrF (L : List Nat) (K : Nat → Nat → Int32) (n st : Nat) : Nat → Nat
  | 0 => 0
  | k + 1 => if 1 ≤ k ∧ bitsN k 8 = st - 1 ∧ asB K n k n = true then max (hrF L K n st k) (1 + mostV L (nd (2 ^ n - 1) k)) else hrF L K n st k
theorem hrF_1 (L : List Nat) (K : Nat → Nat → Int32) (n st : Nat) : hrF L K n st 1 = 0 := by rw [hrF, if_neg (by omega)]; rfl
theorem hrF_y {L : List Nat} {K : Nat → Nat → Int32} {n st k : Nat} (h0 : 1 ≤ k) (h1 : bitsN k 8 = st - 1) (h2 : asB K n k n = true) : hrF L K n st (k + 1) = max (hrF L K n st k) (1 + mostV L (nd (2 ^ n - 1) k)) := by rw [hrF, if_pos ⟨h0, h1, h2⟩]
theorem hrF_n {L : List Nat} {K : Nat → Nat → Int32} {n st k : Nat} (h : ¬ (bitsN k 8 = st - 1 ∧ asB K n k n = true)) : hrF L K n st (k + 1) = hrF L K n st k := by rw [hrF, if_neg (fun z => h z.2)]
theorem hrF_le {L : List Nat} (hz : ∀ g ∈ L, g ≠ 0) (K : Nat → Nat → Int32) (n st : Nat) : ∀ k, hrF L K n st k ≤ 2 ^ n + k
  | 0 => Nat.zero_le _
  | k + 1 => by
    have ih := hrF_le hz K n st k
    rw [hrF]
    split
    · have h1 := mostV_le hz (nd (2 ^ n - 1) k)
      have h2 := nd_le (2 ^ n - 1) k
      omega
    · omega
