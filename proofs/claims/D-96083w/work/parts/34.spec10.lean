/-! SPEC 10: least -/
theorem foldl_d3 {L : List Nat} {f : Int32 → Nat → Int32} {i : Nat} {b t : Int32} (hi : i < L.length) (h : (L.drop i).foldl f b = t) : (L.drop (i + 1)).foldl f (f b (L.getD i 0)) = t := by
  rw [dropD hi, List.foldl_cons] at h
  exact h
theorem foldl_e3 {L : List Nat} {f : Int32 → Nat → Int32} {i : Nat} {b t : Int32} (hi : L.length ≤ i) (h : (L.drop i).foldl f b = t) : b = t := by
  rw [List.drop_eq_nil_of_le hi] at h
  exact h
def mn32 (w b : Int32) : Int32 := if w < b then w else b
def lsW (cost hour : Nat → Int32) (now : Int32) (g n : Nat) : Int32 := -1 + sumS (fun p => 10 * cost p * (now - hour p)) g n
def lsN (com : Nat → Nat) (hour : Nat → Int32) (k : Nat) : Int32 := if k = 0 then 0 else hour (com (k - 1))
def lsE (cost hour : Nat → Int32) (lf n : Nat) : Int32 := sumS (fun p => 10 * cost p * (24 - hour p)) lf n + 9
def lsM (n k lf : Nat) : Nat := 2 * (n - k) + bitsN lf 8
def lsF (L : List Nat) (com : Nat → Nat) (cost hour : Nat → Int32) (n : Nat) : Nat → Nat → Nat → Int32
  | 0, _, _ => 0
  | f + 1, k, lf => L.foldl (fun b g => if nd g lf = 0 then mn32 (lsW cost hour (lsN com hour k) g n + lsF L com cost hour n f k (nd lf g)) b else b) (if k = n then lsE cost hour lf n else lsF L com cost hour n f (k + 1) (lf ||| 2 ^ com k))
def lsV (L : List Nat) (com : Nat → Nat) (cost hour : Nat → Int32) (n k lf : Nat) : Int32 := lsF L com cost hour n (lsM n k lf + 1) k lf
def lsB (L : List Nat) (com : Nat → Nat) (cost hour : Nat → Int32) (n k lf : Nat) : Int32 := if k = n then lsE cost hour lf n else lsV L com cost hour n (k + 1) (lf ||| 2 ^ com k)
def lsG (L : List Nat) (com : Nat → Nat) (cost hour : Nat → Int32) (n k lf : Nat) (b : Int32) (g : Nat) : Int32 := if nd g lf = 0 then mn32 (lsW cost hour (lsN com hour k) g n + lsV L com cost hour n k (nd lf g)) b else b
theorem lsM_1 {n k lf c : Nat} (h : k < n) : lsM n (k + 1) (lf ||| 2 ^ c) < lsM n k lf := by
  have := bits_or lf c 8
  unfold lsM
  omega
theorem lsM_2 {n k lf g : Nat} (h : nd g lf = 0) (h2 : g < 256) (h3 : g ≠ 0) : lsM n k (nd lf g) < lsM n k lf := by
  have h4 := bits_nd h 8
  have h5 := bits_pos 8 h2 h3
  unfold lsM
  omega
theorem lsF_fuel {L : List Nat} {com : Nat → Nat} {cost hour : Nat → Int32} {n : Nat} (hL : ∀ g ∈ L, g < 2 ^ 8 ∧ g ≠ 0) : ∀ f1 f2 k lf, k ≤ n → lsM n k lf < f1 → lsM n k lf < f2 → lsF L com cost hour n f1 k lf = lsF L com cost hour n f2 k lf
  | 0, _, _, _, _, h, _ => absurd h (Nat.not_lt_zero _)
  | _ + 1, 0, _, _, _, _, h => absurd h (Nat.not_lt_zero _)
  | f1 + 1, f2 + 1, k, lf, hk, h1, h2 => by
    rw [lsF, lsF]
    have e : (if k = n then lsE cost hour lf n else lsF L com cost hour n f1 (k + 1) (lf ||| 2 ^ com k)) = (if k = n then lsE cost hour lf n else lsF L com cost hour n f2 (k + 1) (lf ||| 2 ^ com k)) := by
      by_cases h : k = n
      · rw [if_pos h, if_pos h]
      · rw [if_neg h, if_neg h]
        have := lsM_1 (n := n) (k := k) (lf := lf) (c := com k) (by omega)
        exact lsF_fuel hL f1 f2 _ _ (by omega) (by omega) (by omega)
    rw [e]
    refine foldl_ext (fun g hg b => ?_) _
    by_cases h : nd g lf = 0
    · have := lsM_2 (n := n) (k := k) h (hL g hg).1 (hL g hg).2
      rw [if_pos h, if_pos h, lsF_fuel hL f1 f2 k (nd lf g) hk (by omega) (by omega)]
    · rw [if_neg h, if_neg h]
theorem lsV_eq {L : List Nat} {com : Nat → Nat} {cost hour : Nat → Int32} {n k lf : Nat} (hL : ∀ g ∈ L, g < 2 ^ 8 ∧ g ≠ 0) (hk : k ≤ n) : L.foldl (lsG L com cost hour n k lf) (lsB L com cost hour n k lf) = lsV L com cost hour n k lf := by
  rw [lsV, lsF]
  have e : lsB L com cost hour n k lf = (if k = n then lsE cost hour lf n else lsF L com cost hour n (lsM n k lf) (k + 1) (lf ||| 2 ^ com k)) := by
    unfold lsB
    by_cases h : k = n
    · rw [if_pos h, if_pos h]
    · rw [if_neg h, if_neg h]
      have := lsM_1 (n := n) (k := k) (lf := lf) (c := com k) (by omega)
      exact lsF_fuel hL _ _ _ _ (by omega) (by omega) (by omega)
  rw [e]
  refine foldl_ext (fun g hg b => ?_) _
  unfold lsG
  by_cases h : nd g lf = 0
  · have := lsM_2 (n := n) (k := k) h (hL g hg).1 (hL g hg).2
    rw [if_pos h, if_pos h]
    unfold lsV
    rw [lsF_fuel hL (lsM n k (nd lf g) + 1) (lsM n k lf) k (nd lf g) hk (by omega) (by omega)]
  · rw [if_neg h, if_neg h]
section LS
variable {L : List Nat} {com : Nat → Nat} {cost hour : Nat → Int32} {n k lf g : Nat} {b w : Int32}
theorem lsG_n (h : ¬ nd g lf = 0) : lsG L com cost hour n k lf b g = b := if_neg h
theorem lsG_1 (h : nd g lf = 0) (hw : w = lsW cost hour (lsN com hour k) g n) (h2 : ¬ b ≤ w + lsV L com cost hour n k (nd lf g)) : lsG L com cost hour n k lf b g = w + lsV L com cost hour n k (nd lf g) := by
  rw [lsG, if_pos h, ← hw, mn32, if_pos (Int32.not_le.mp h2)]
theorem lsG_2 (h : nd g lf = 0) (hw : w = lsW cost hour (lsN com hour k) g n) (h2 : b ≤ w + lsV L com cost hour n k (nd lf g)) : lsG L com cost hour n k lf b g = b := by
  rw [lsG, if_pos h, ← hw, mn32, if_neg (fun q => Int32.not_le.mpr q h2)]
theorem lsW_y {now : Int32} {i : Nat} (hw : w = -1 + sumS (fun p => 10 * cost p * (now - hour p)) g i) (h : g.testBit i = true) : w + 10 * cost i * (now - hour i) = -1 + sumS (fun p => 10 * cost p * (now - hour p)) g (i + 1) := by
  rw [sumS_y h, hw, Int32.add_assoc]
theorem lsW_n {now : Int32} {i : Nat} (hw : w = -1 + sumS (fun p => 10 * cost p * (now - hour p)) g i) (h : g.testBit i = false) : w + 0 = -1 + sumS (fun p => 10 * cost p * (now - hour p)) g (i + 1) := by
  rw [sumS_n h, hw, Int32.add_assoc]
def lsMm (L : List Nat) (com : Nat → Nat) (cost hour : Nat → Int32) (n : Nat) (m : Nat → Int32) : Prop := ∀ k lf, k ≤ n → lf < 128 → ¬ m (k * 128 + lf) < 0 → m (k * 128 + lf) = lsV L com cost hour n k lf
theorem lsMm.put {m : Nat → Int32} {v : Int32} (h : lsMm L com cost hour n m) (hl : lf < 128) (hv : v = lsV L com cost hour n k lf) : lsMm L com cost hour n (va_up m (k * 128 + lf) v) := by
  intro k2 l2 hk2 hl2 hn
  by_cases e : k2 * 128 + l2 = k * 128 + lf
  · have e1 : k2 = k := by omega
    have e2 : l2 = lf := by omega
    subst e1 e2
    rw [va_up_s, hv]
  · rw [va_up_n e] at hn ⊢
    exact h k2 l2 hk2 hl2 hn
end LS
theorem ls_sh : ∀ k, k < 8 → (nI k <<< (7 &&& 31) : Int32) = nI (k * 128) := by decide +kernel
theorem ls_or {k lf : Nat} (hl : lf < 128) : nI (k * 128 ||| lf) = nI (k * 128 + lf) := by
  congr 1
  rw [show k * 128 = 2 ^ 7 * k by omega, ← Nat.two_pow_add_eq_or_of_lt (by omega)]
def everC (x : Int32) : Int32 := if 0 ≤ x.toInt ∧ x.toInt ≤ 1 then 0 else -2
def everV (K : Nat → Nat → Int32) (n st : Nat) (x : Int32) : Int32 := if 0 ≤ x.toInt ∧ x.toInt ≤ 1 then (if x = 0 then nI (ever1 K n st) else ever2 K n st) else -2
theorem everC_f {x : Int32} (h : ¬ (0 ≤ x.toInt ∧ x.toInt ≤ 1)) : everC x = -2 := if_neg h
theorem everC_t {x : Int32} (h : 0 ≤ x.toInt ∧ x.toInt ≤ 1) : everC x = 0 := if_pos h
theorem everV_f {K : Nat → Nat → Int32} {n st : Nat} {x : Int32} (h : ¬ (0 ≤ x.toInt ∧ x.toInt ≤ 1)) : everV K n st x = -2 := if_neg h
theorem everV_0 {K : Nat → Nat → Int32} {n st : Nat} {x : Int32} (h : x = 0) : everV K n st x = nI (ever1 K n st) := by
  subst h; rfl
theorem everV_1 {K : Nat → Nat → Int32} {n st : Nat} {x : Int32} (h : 0 ≤ x.toInt ∧ x.toInt ≤ 1) (h2 : ¬ x = 0) : everV K n st x = ever2 K n st := by rw [everV, if_pos h, if_neg h2]
