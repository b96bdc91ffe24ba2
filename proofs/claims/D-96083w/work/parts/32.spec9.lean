/-! SPEC 9: ever, feast -/
theorem wI_dropR {E : En} {A : Nat → Prop} {s : State} {H : Heap} {locs : List Loc} {a b : va_W} (hI : wI E A s H locs (a ++ b)) : wI E A s H locs a := by
  have hP := va_P_iff.mp hI.1
  obtain ⟨n1, a1⟩ := va_D_iff.mp hI.2.1
  refine ⟨va_P_iff.mpr fun x hx => hP x (List.mem_append_left _ hx), va_D_iff.mpr ⟨?_, fun x hx => a1 x (List.mem_append_left _ hx)⟩, hI.2.2⟩
  rw [List.map_append] at n1
  exact (List.nodup_append.mp n1).1
theorem chs_35 : ∀ n, n ≤ 7 → ∀ st, st ≤ 4 → chs n st ≤ 35 := by decide +kernel
theorem GL_35 {K : Nat → Nat → Int32} {n st : Nat} (hn : n ≤ 7) (hs : st ≤ 4) : (GL K n st).length ≤ 35 := Nat.le_trans (gF_len _ _ _ _ _ _ (Nat.zero_le _)) (chs_35 n hn _ (by omega))
def everP (K : Nat → Nat → Int32) (n st : Nat) : Nat × Option Nat := seekL (GL K n st) (GL K n st) [] (0, none)
def ever1 (K : Nat → Nat → Int32) (n st : Nat) : Nat := if st = 2 then mC K (2 ^ n - 1) n else (everP K n st).1
def ever2 (K : Nat → Nat → Int32) (n st : Nat) : Int32 := if st = 2 then nI (mC K (2 ^ n - 1) n) else soI (everP K n st).2
theorem ever_2 {K : Nat → Nat → Int32} {n st : Nat} (h : st = 2) : ever1 K n st = mC K (2 ^ n - 1) n := if_pos h
theorem ever_2b {K : Nat → Nat → Int32} {n st : Nat} (h : st = 2) : ever2 K n st = nI (mC K (2 ^ n - 1) n) := if_pos h
theorem ever_n {K : Nat → Nat → Int32} {n st : Nat} (h : ¬ st = 2) : ever1 K n st = (seekL (GL K n st) (List.drop 0 (GL K n st)) [] (0, none)).1 := if_neg h
theorem ever_nb {K : Nat → Nat → Int32} {n st : Nat} (h : ¬ st = 2) : ever2 K n st = soI (seekL (GL K n st) (List.drop 0 (GL K n st)) [] (0, none)).2 := if_neg h
def feastC (n : Nat) (x : Int32) : Int32 := if (0 ≤ x.toInt ∧ x.toInt < ((2 ^ n : Nat) : Int)) then 0 else -2
def feastV (K : Nat → Nat → Int32) (n st : Nat) (x : Int32) : Int32 := if (0 ≤ x.toInt ∧ x.toInt < ((2 ^ n : Nat) : Int)) then nI (ever1 K n st) - nI (ever1 (meetK K x.toNatClampNeg n) n st) else -2
theorem isSetP_n {n P : Nat} (h : P < 2 ^ n) (hn : 2 ^ n ≤ 2 ^ 7) : 0 ≤ (nI P).toInt ∧ (nI P).toInt < ((2 ^ n : Nat) : Int) := by
  rw [nI_toInt (by omega)]
  omega
theorem feastC_f {n : Nat} {x : Int32} (h : ¬ (0 ≤ x.toInt ∧ x.toInt < ((2 ^ n : Nat) : Int))) : feastC n x = -2 := if_neg h
theorem feastV_f {K : Nat → Nat → Int32} {n st : Nat} {x : Int32} (h : ¬ (0 ≤ x.toInt ∧ x.toInt < ((2 ^ n : Nat) : Int))) : feastV K n st x = -2 := if_neg h
theorem feastC_t {n P : Nat} (h : P < 2 ^ n) (hn : 2 ^ n ≤ 2 ^ 7) : feastC n (nI P) = 0 := if_pos (isSetP_n h hn)
theorem feastV_t {K : Nat → Nat → Int32} {n st P : Nat} (h : P < 2 ^ n) (hn : 2 ^ n ≤ 2 ^ 7) : feastV K n st (nI P) = nI (ever1 K n st) - nI (ever1 (meetK K P n) n st) := by
  rw [feastV, if_pos (isSetP_n h hn), nI_clamp (by omega)]
