/-! SPEC 4: choosing -/
theorem gF_ne (ok : Nat → Nat → Bool) (n st : Nat) : ∀ r S k, (k < st ∨ S ≠ 0) → ∀ g ∈ gF ok n st r S k, g ≠ 0
  | 0, S, k, h, g, hg => by
    rw [gF] at hg
    split at hg
    · rw [List.mem_singleton] at hg; rw [hg]; omega
    · cases hg
  | r + 1, S, k, h, g, hg => by
    rw [gF] at hg
    split at hg
    · rw [List.mem_singleton] at hg; rw [hg]; omega
    · rcases List.mem_append.mp hg with h2 | h2
      · split at h2
        · refine gF_ne ok n st r _ _ (Or.inr fun e => ?_) g h2
          have e2 := congrArg (fun x => x.testBit (n - (r + 1))) e
          simp only [Nat.testBit_or, Nat.testBit_two_pow_self, Nat.zero_testBit, Bool.or_true] at e2
          cases e2
        · cases h2
      · exact gF_ne ok n st r S k h g h2
theorem isL_GL {f : Nat → Int32} {K : Nat → Nat → Int32} {n st : Nat} (hn : n ≤ 8) (h2 : 2 ≤ st) (h4 : st ≤ 4) : isL (wrL f 0 (GL K n st)) (GL K n st) :=
  ⟨wrL_in, GL_len hn h4, fun g hg => ⟨Nat.lt_of_lt_of_le (GL_lt g hg) (Nat.pow_le_pow_right (by decide) hn), gF_ne _ _ _ _ _ _ (Or.inl (by omega)) g hg⟩⟩
theorem isL.nz {f : Nat → Int32} {L : List Nat} (h : isL f L) : ∀ g ∈ L, g ≠ 0 := fun g hg => (h.2.2 g hg).2
theorem foldl_le {α : Type} {L : List α} {f : Nat → α → Nat} {N : Nat} (h : ∀ x ∈ L, ∀ b, b ≤ N → f b x ≤ N) : ∀ b, b ≤ N → L.foldl f b ≤ N := by
  induction L with
  | nil => intro b hb; exact hb
  | cons x t ih => intro b hb; exact ih (fun y hy => h y (List.mem_cons_of_mem _ hy)) _ (h x List.mem_cons_self b hb)
theorem mostV_le {L : List Nat} (h0 : ∀ g ∈ L, g ≠ 0) : ∀ S, mostV L S ≤ S := by
  intro S
  induction S using Nat.strongRecOn with
  | _ S ih =>
    rw [mostV_eq h0]
    refine foldl_le (fun g hg b hb => ?_) 0 (Nat.zero_le _)
    split
    · rename_i h
      have h1 := nd_lt h (h0 g hg)
      have h2 := ih _ h1
      exact Nat.max_le.mpr ⟨hb, by omega⟩
    · exact hb
def mostG (L : List Nat) (S b g : Nat) : Nat := if nd g S = 0 then max b (1 + mostV L (nd S g)) else b
theorem mostV_G {L : List Nat} (h0 : ∀ g ∈ L, g ≠ 0) (S : Nat) : mostV L S = L.foldl (mostG L S) 0 := mostV_eq h0 S
theorem mostG_n {L : List Nat} {S b g : Nat} (h : ¬ nd g S = 0) : mostG L S b g = b := if_neg h
theorem mostG_y1 {L : List Nat} {S b g : Nat} (h : nd g S = 0) (h2 : 1 + mostV L (nd S g) ≤ b) : mostG L S b g = b := by rw [mostG, if_pos h]; omega
theorem mostG_y2 {L : List Nat} {S b g : Nat} (h : nd g S = 0) (h2 : b < 1 + mostV L (nd S g)) : mostG L S b g = 1 + mostV L (nd S g) := by rw [mostG, if_pos h]; omega
theorem foldl_d {L : List Nat} {f : Nat → Nat → Nat} {i b t : Nat} (hi : i < L.length) (h : (L.drop i).foldl f b = t) : (L.drop (i + 1)).foldl f (f b (L.getD i 0)) = t := by
  rw [dropD hi, List.foldl_cons] at h
  exact h
theorem foldl_e {L : List Nat} {f : Nat → Nat → Nat} {i b t : Nat} (hi : L.length ≤ i) (h : (L.drop i).foldl f b = t) : b = t := by
  rw [List.drop_eq_nil_of_le hi] at h
  exact h
theorem eqm1 {a b : Nat} (ha : a < 2 ^ 30) (hb : b < 2 ^ 30) : nI a = nI b - 1 ↔ a + 1 = b := by
  rw [← Int32.toInt_inj, nI_toInt (by omega), nI_m1 hb]
  omega
theorem bestL_lt {L : List Nat} {S N : Nat} (hN : 0 < N) : ∀ M : List Nat, (∀ g ∈ M, g < N) → bestL L S M < N
  | [], _ => hN
  | g :: t, h => by
    rw [bestL]
    split
    · exact h g List.mem_cons_self
    · exact bestL_lt hN t (fun x hx => h x (List.mem_cons_of_mem _ hx))
theorem firstL_lt {S N : Nat} (hN : 0 < N) : ∀ M : List Nat, (∀ g ∈ M, g < N) → firstL S M < N
  | [], _ => hN
  | g :: t, h => by
    rw [firstL]
    split
    · exact h g List.mem_cons_self
    · exact firstL_lt hN t (fun x hx => h x (List.mem_cons_of_mem _ hx))
/-- the group a coachman sends -/
def msS (K : Nat → Nat → Int32) (n : Nat) (p : Nat) : Int32 := nI (bitsN (strS K p n) 8)
def better (K : Nat → Nat → Int32) (cost : Nat → Int32) (n kd g b : Nat) : Bool := if kd = 2 then decide (sumS cost b n < sumS cost g n) else decide (sumS (msS K n) g n < sumS (msS K n) b n)
def chooseG (K : Nat → Nat → Int32) (cost : Nat → Int32) (n kd Y b g : Nat) : Nat := if nd g Y = 0 ∧ (b = 0 ∨ better K cost n kd g b = true) then g else b
def sentV (K : Nat → Nat → Int32) (cost : Nat → Int32) (n st kd a Y tc : Nat) : Nat :=
  if kd = 3 ∧ 0 < tc ∧ bitsN Y 8 < a then 0
  else if kd = 1 ∨ kd = 3 then firstL Y (GL K n st)
  else if ¬ kd = 2 ∧ ¬ kd = 4 then bestL (GL K n st) Y (GL K n st)
  else (GL K n st).foldl (chooseG K cost n kd Y) 0
theorem chG_n {K : Nat → Nat → Int32} {cost : Nat → Int32} {n kd Y b g : Nat} (h : ¬ nd g Y = 0) : chooseG K cost n kd Y b g = b := if_neg (fun q => h q.1)
theorem chG_0 {K : Nat → Nat → Int32} {cost : Nat → Int32} {n kd Y b g : Nat} (h : nd g Y = 0) (h2 : b = 0) : chooseG K cost n kd Y b g = g := if_pos ⟨h, Or.inl h2⟩
theorem chG_b {K : Nat → Nat → Int32} {cost : Nat → Int32} {n kd Y b g x : Nat} (h : nd g Y = 0) (hx : x = if better K cost n kd g b = true then 1 else 0) (h2 : ¬ x = 0) : chooseG K cost n kd Y b g = g := by
  cases e : better K cost n kd g b
  · rw [e] at hx; exact absurd hx h2
  · exact if_pos ⟨h, Or.inr e⟩
theorem chG_w {K : Nat → Nat → Int32} {cost : Nat → Int32} {n kd Y b g x : Nat} (h0 : ¬ b = 0) (hx : x = if better K cost n kd g b = true then 1 else 0) (h2 : x = 0) : chooseG K cost n kd Y b g = b := by
  cases e : better K cost n kd g b
  · refine if_neg (fun q => ?_)
    rcases q.2 with q | q
    · exact h0 q
    · rw [e] at q; cases q
  · rw [e, if_pos rfl] at hx; omega
theorem bt_1 {K : Nat → Nat → Int32} {cost : Nat → Int32} {n kd g b : Nat} (h : kd = 2) (h2 : ¬ sumS cost g n ≤ sumS cost b n) : 1 = if better K cost n kd g b = true then 1 else 0 := by
  rw [better, if_pos h, if_pos (decide_eq_true (Int32.not_le.mp h2))]
theorem bt_2 {K : Nat → Nat → Int32} {cost : Nat → Int32} {n kd g b : Nat} (h : kd = 2) (h2 : sumS cost g n ≤ sumS cost b n) : 0 = if better K cost n kd g b = true then 1 else 0 := by
  rw [better, if_pos h, if_neg (by rw [decide_eq_false (Int32.not_lt.mpr h2)]; decide)]
theorem bt_3 {K : Nat → Nat → Int32} {cost : Nat → Int32} {n kd g b : Nat} (h : ¬ kd = 2) (h2 : ¬ sumS (msS K n) b n ≤ sumS (msS K n) g n) : 1 = if better K cost n kd g b = true then 1 else 0 := by
  rw [better, if_neg h, if_pos (decide_eq_true (Int32.not_le.mp h2))]
theorem bt_4 {K : Nat → Nat → Int32} {cost : Nat → Int32} {n kd g b : Nat} (h : ¬ kd = 2) (h2 : sumS (msS K n) b n ≤ sumS (msS K n) g n) : 0 = if better K cost n kd g b = true then 1 else 0 := by
  rw [better, if_neg h, if_neg (by rw [decide_eq_false (Int32.not_lt.mpr h2)]; decide)]
