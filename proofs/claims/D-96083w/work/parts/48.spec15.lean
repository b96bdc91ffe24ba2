/-! SPEC 15: texts: tokens, statements. b: the bytes, sz: how many, a: where a token is looked for -/
def wh (p : Nat → Bool) (b : Nat → Nat) (sz : Nat) : Nat → Nat → Nat
  | 0, a => a
  | f + 1, a => if a < sz ∧ p (b a) = true then wh p b sz f (a + 1) else a
def whl (p : Nat → Bool) (b : Nat → Nat) (sz a : Nat) : Nat := wh p b sz (sz - a) a
theorem whl_y {p : Nat → Bool} {b : Nat → Nat} {sz a : Nat} (h : a < sz) (h2 : p (b a) = true) : whl p b sz (a + 1) = whl p b sz a := by
  unfold whl
  rw [show sz - a = (sz - (a + 1)) + 1 by omega, wh, if_pos ⟨h, h2⟩]
theorem whl_n {p : Nat → Bool} {b : Nat → Nat} {sz a : Nat} (h : ¬ (a < sz ∧ p (b a) = true)) : whl p b sz a = a := by
  unfold whl
  cases sz - a with
  | zero => rfl
  | succ f => rw [wh, if_neg h]
theorem wh_ge {p : Nat → Bool} {b : Nat → Nat} {sz : Nat} : ∀ f a, a ≤ wh p b sz f a
  | 0, a => Nat.le_refl a
  | f + 1, a => by
    rw [wh]
    split
    · exact Nat.le_trans (Nat.le_succ a) (wh_ge f (a + 1))
    · exact Nat.le_refl a
theorem wh_le {p : Nat → Bool} {b : Nat → Nat} {sz : Nat} : ∀ f a, a ≤ sz → wh p b sz f a ≤ sz
  | 0, a, h => h
  | f + 1, a, h => by
    rw [wh]
    split
    · rename_i h2; exact wh_le f (a + 1) h2.1
    · exact h
theorem whl_ge {p : Nat → Bool} {b : Nat → Nat} {sz a : Nat} : a ≤ whl p b sz a := wh_ge _ _
theorem whl_le {p : Nat → Bool} {b : Nat → Nat} {sz a : Nat} (h : a ≤ sz) : whl p b sz a ≤ sz := wh_le _ _ h
theorem wh_all {p : Nat → Bool} {b : Nat → Nat} {sz : Nat} : ∀ f a j, a ≤ j → j < wh p b sz f a → p (b j) = true
  | 0, a, j, h1, h2 => absurd h2 (by show ¬ j < a; omega)
  | f + 1, a, j, h1, h2 => by
    rw [wh] at h2
    split at h2
    · rename_i h3
      by_cases e : j = a
      · subst e; exact h3.2
      · exact wh_all f (a + 1) j (by omega) h2
    · omega
theorem whl_all {p : Nat → Bool} {b : Nat → Nat} {sz a j : Nat} (h1 : a ≤ j) (h2 : j < whl p b sz a) : p (b j) = true := wh_all _ _ _ h1 h2
def bSp (x : Nat) : Bool := decide (x = 32)
def bLet (x : Nat) : Bool := decide (97 ≤ x ∧ x ≤ 122)
def bDig (x : Nat) : Bool := decide (48 ≤ x ∧ x ≤ 57)
/-- where the token begins; its kind (0 the end, 1 a word, 2 a number, 3 a semicolon, 4 none); behind it; its number -/
def fr (b : Nat → Nat) (sz a : Nat) : Nat := whl bSp b sz a
def kd (b : Nat → Nat) (sz a : Nat) : Nat := if fr b sz a = sz then 0 else if bLet (b (fr b sz a)) = true then 1 else if bDig (b (fr b sz a)) = true then 2 else if b (fr b sz a) = 59 then 3 else 4
def nx (b : Nat → Nat) (sz a : Nat) : Nat := if fr b sz a = sz then fr b sz a else if bLet (b (fr b sz a)) = true then whl bLet b sz (fr b sz a) else if bDig (b (fr b sz a)) = true then whl bDig b sz (fr b sz a) else fr b sz a + 1
def fgN (b : Nat → Nat) (f : Nat) : Nat → Nat
  | 0 => 0
  | k + 1 => if k < 2 then fgN b f k * 10 + b (f + k) - 48 else 100000
def fg (b : Nat → Nat) (sz a : Nat) : Nat := if kd b sz a = 2 then fgN b (fr b sz a) (nx b sz a - fr b sz a) else 0
theorem fr_ge {b : Nat → Nat} {sz a : Nat} : a ≤ fr b sz a := whl_ge
theorem fr_le {b : Nat → Nat} {sz a : Nat} (h : a ≤ sz) : fr b sz a ≤ sz := whl_le h
theorem nx_ge {b : Nat → Nat} {sz a : Nat} : fr b sz a ≤ nx b sz a := by
  unfold nx
  split
  · exact Nat.le_refl _
  · split
    · exact whl_ge
    · split
      · exact whl_ge
      · exact Nat.le_succ _
theorem nx_le {b : Nat → Nat} {sz a : Nat} (h : a ≤ sz) : nx b sz a ≤ sz := by
  have h1 := fr_le (b := b) h
  unfold nx
  split
  · exact h1
  · split
    · exact whl_le h1
    · split
      · exact whl_le h1
      · omega
theorem kd_lt {b : Nat → Nat} {sz a : Nat} : kd b sz a < 5 := by
  unfold kd
  split
  · decide
  · split
    · decide
    · split
      · decide
      · split <;> decide
theorem fgN_le {b : Nat → Nat} {f : Nat} (hb : ∀ k, k < 2 → b (f + k) < 256) : ∀ k, fgN b f k ≤ 100000
  | 0 => Nat.zero_le _
  | 1 => by have := hb 0 (by decide); show (if 0 < 2 then 0 * 10 + b (f + 0) - 48 else 100000) ≤ 100000; rw [if_pos (by decide)]; omega
  | 2 => by have h0 := hb 0 (by decide); have h1 := hb 1 (by decide); show (if 1 < 2 then (if 0 < 2 then 0 * 10 + b (f + 0) - 48 else 100000) * 10 + b (f + 1) - 48 else 100000) ≤ 100000; rw [if_pos (by decide), if_pos (by decide)]; omega
  | k + 3 => by rw [fgN, if_neg (by omega)]; exact Nat.le_refl _
section TK
variable {b : Nat → Nat} {sz a f : Nat}
theorem kd_0 (e : fr b sz a = sz) : kd b sz a = 0 := if_pos e
theorem kd_1 (e : ¬ fr b sz a = sz) (h : bLet (b (fr b sz a)) = true) : kd b sz a = 1 := by unfold kd; rw [if_neg e, if_pos h]
theorem kd_2 (e : ¬ fr b sz a = sz) (h : ¬ bLet (b (fr b sz a)) = true) (h2 : bDig (b (fr b sz a)) = true) : kd b sz a = 2 := by unfold kd; rw [if_neg e, if_neg h, if_pos h2]
theorem kd_3 (e : ¬ fr b sz a = sz) (h : ¬ bLet (b (fr b sz a)) = true) (h2 : ¬ bDig (b (fr b sz a)) = true) (h3 : b (fr b sz a) = 59) : kd b sz a = 3 := by unfold kd; rw [if_neg e, if_neg h, if_neg h2, if_pos h3]
theorem kd_4 (e : ¬ fr b sz a = sz) (h : ¬ bLet (b (fr b sz a)) = true) (h2 : ¬ bDig (b (fr b sz a)) = true) (h3 : ¬ b (fr b sz a) = 59) : kd b sz a = 4 := by unfold kd; rw [if_neg e, if_neg h, if_neg h2, if_neg h3]
theorem nx_0 (e : fr b sz a = sz) : nx b sz a = fr b sz a := if_pos e
theorem nx_1 (e : ¬ fr b sz a = sz) (h : bLet (b (fr b sz a)) = true) : nx b sz a = whl bLet b sz (fr b sz a) := by unfold nx; rw [if_neg e, if_pos h]
theorem nx_2 (e : ¬ fr b sz a = sz) (h : ¬ bLet (b (fr b sz a)) = true) (h2 : bDig (b (fr b sz a)) = true) : nx b sz a = whl bDig b sz (fr b sz a) := by unfold nx; rw [if_neg e, if_neg h, if_pos h2]
theorem nx_3 (e : ¬ fr b sz a = sz) (h : ¬ bLet (b (fr b sz a)) = true) (h2 : ¬ bDig (b (fr b sz a)) = true) : nx b sz a = fr b sz a + 1 := by unfold nx; rw [if_neg e, if_neg h, if_neg h2]
theorem fg_n (h : ¬ kd b sz a = 2) : fg b sz a = 0 := if_neg h
theorem fg_2 (h : kd b sz a = 2) : fg b sz a = fgN b (fr b sz a) (nx b sz a - fr b sz a) := if_pos h
end TK
/-- a word of the list of constants stands here -/
def isW (b : Nat → Nat) (sz a i : Nat) : Bool := decide (kd b sz a = 1 ∧ nx b sz a - fr b sz a = sLen.getD i 0 ∧ ∀ j, j < sLen.getD i 0 → nI (b (fr b sz a + j)) = (sByt.getD i []).getD j 0)
/-- a number between two stands here -/
def numOk (b : Nat → Nat) (sz a : Nat) (lo hi : Int) : Bool := decide (kd b sz a = 2 ∧ lo ≤ (fg b sz a : Int) ∧ (fg b sz a : Int) ≤ hi)
def numE (b : Nat → Nat) (sz a : Nat) (lo hi : Int) : Except Nat (Nat × Nat) := if numOk b sz a lo hi = true then .ok (fg b sz a, nx b sz a) else .error (fr b sz a)
theorem numE_t {b : Nat → Nat} {sz a : Nat} {lo hi : Int} (h1 : kd b sz a = 2) (h2 : lo ≤ (fg b sz a : Int) ∧ (fg b sz a : Int) ≤ hi) : numE b sz a lo hi = .ok (fg b sz a, nx b sz a) := if_pos (decide_eq_true ⟨h1, h2⟩)
theorem numE_f1 {b : Nat → Nat} {sz a : Nat} {lo hi : Int} (h1 : ¬ kd b sz a = 2) : numE b sz a lo hi = .error (fr b sz a) := if_neg (by unfold numOk; rw [decide_eq_false (fun z => h1 z.1)]; decide)
theorem numE_f2 {b : Nat → Nat} {sz a : Nat} {lo hi : Int} (h1 : ¬ (lo ≤ (fg b sz a : Int) ∧ (fg b sz a : Int) ≤ hi)) : numE b sz a lo hi = .error (fr b sz a) := if_neg (by unfold numOk; rw [decide_eq_false (fun z => h1 z.2)]; decide)
theorem numE_ok {b : Nat → Nat} {sz a x p : Nat} {lo hi : Int} (h : numE b sz a lo hi = .ok (x, p)) : kd b sz a = 2 ∧ x = fg b sz a ∧ p = nx b sz a ∧ lo ≤ (x : Int) ∧ (x : Int) ≤ hi := by
  unfold numE at h
  split at h
  · rename_i h1
    have h2 := of_decide_eq_true h1
    cases h
    exact ⟨h2.1, rfl, rfl, h2.2⟩
  · cases h
def twoE (b : Nat → Nat) (sz n a : Nat) : Except Nat (Nat × Nat × Nat) := match numE b sz (nx b sz a) 0 ((n : Int) - 1) with
  | .error f => .error f
  | .ok (x, p) => if kd b sz p = 2 ∧ fg b sz p = x then .error (fr b sz p) else match numE b sz p 0 ((n : Int) - 1) with
    | .error f => .error f
    | .ok (y, p2) => .ok (x, y, p2)
def knoE (b : Nat → Nat) (sz n : Nat) (K : Nat → Nat → Int32) (a : Nat) : Except Nat ((Nat → Nat → Int32) × Nat) := match twoE b sz n a with
  | .error f => .error f
  | .ok (x, y, p) => if isW b sz p 7 = true then (match numE b sz (nx b sz p) 0 99 with
    | .error f => .error f
    | .ok (v, p2) => .ok (knF K x y (nI v), p2)) else .ok (knF K x y 0, p)
def metF (b : Nat → Nat) (sz n : Nat) : Nat → Nat → Nat → Except Nat (Nat × Nat)
  | 0, S, a => .ok (S, a)
  | f + 1, S, a => if kd b sz a = 2 then (if fg b sz a < n ∧ S.testBit (fg b sz a) = true then .error (fr b sz a) else match numE b sz a 0 ((n : Int) - 1) with
    | .error f => .error f
    | .ok (x, p) => metF b sz n f (S ||| 2 ^ x) p) else .ok (S, a)
def metE (b : Nat → Nat) (sz n a : Nat) : Except Nat (Nat × Nat) := match numE b sz (nx b sz a) 0 ((n : Int) - 1) with
  | .error f => .error f
  | .ok (x, p) => metF b sz n (sz + 1 - p) (2 ^ x) p
/-- the town: people, seats, memory, hours, costs, who knows whom -/
abbrev TW : Type := Nat × Nat × Nat × (Nat → Int32) × (Nat → Int32) × (Nat → Nat → Int32)
def stm (b : Nat → Nat) (sz : Nat) (n st mm : Nat) (hour cost : Nat → Int32) (K : Nat → Nat → Int32) (a : Nat) : Except Nat (TW × Nat) :=
  if isW b sz a 1 = true ∧ n < 7 then (match numE b sz (nx b sz a) 0 23 with
    | .error f => .error f
    | .ok (h, p) => match numE b sz p 0 9 with
      | .error f => .error f
      | .ok (c, p2) => .ok ((n + 1, st, mm, va_up hour n (nI h), va_up cost n (nI c), newK K n n), p2))
  else if isW b sz a 2 = true then (match knoE b sz n K a with
    | .error f => .error f
    | .ok (K', p) => .ok ((n, st, mm, hour, cost, K'), p))
  else if isW b sz a 3 = true then (match twoE b sz n a with
    | .error f => .error f
    | .ok (x, y, p) => .ok ((n, st, mm, hour, cost, knF K x y (-1)), p))
  else if isW b sz a 4 = true then (match numE b sz (nx b sz a) 2 4 with
    | .error f => .error f
    | .ok (x, p) => .ok ((n, x, mm, hour, cost, K), p))
  else if isW b sz a 5 = true then (match numE b sz (nx b sz a) 0 99 with
    | .error f => .error f
    | .ok (x, p) => .ok ((n, st, x, hour, cost, K), p))
  else if isW b sz a 6 = true then (match metE b sz n a with
    | .error f => .error f
    | .ok (S, p) => .ok ((n, st, mm, hour, cost, meetK K S n), p))
  else .error (fr b sz a)
def rdF (b : Nat → Nat) (sz : Nat) : Nat → TW → Nat → Nat → Except Nat (TW × Nat)
  | 0, t, _, c => .ok (t, c)
  | f + 1, t, a, c => if kd b sz a = 0 then .ok (t, c) else if kd b sz a = 3 then (match stm b sz t.1 t.2.1 t.2.2.1 t.2.2.2.1 t.2.2.2.2.1 t.2.2.2.2.2 (nx b sz a) with
    | .error f => .error f
    | .ok (t', p) => rdF b sz f t' p (c + 1)) else .error (fr b sz a)
def rdA (b : Nat → Nat) (sz : Nat) (t : TW) : Except Nat (TW × Nat) := match stm b sz t.1 t.2.1 t.2.2.1 t.2.2.2.1 t.2.2.2.2.1 t.2.2.2.2.2 0 with
  | .error f => .error f
  | .ok (t', p) => rdF b sz (sz + 1 - p) t' p 1
/-! .. and what they give, case by case -/
section TE
variable {b : Nat → Nat} {sz n st mm a p x y f v S g c : Nat} {hour cost : Nat → Int32} {K K' : Nat → Nat → Int32}
theorem twoE_1 (h : numE b sz (nx b sz a) 0 ((n : Int) - 1) = .error f) : twoE b sz n a = .error f := by unfold twoE; rw [h]
theorem twoE_2 (h : numE b sz (nx b sz a) 0 ((n : Int) - 1) = .ok (x, p)) (h1 : kd b sz p = 2) (h2 : fg b sz p = x) : twoE b sz n a = .error (fr b sz p) := by unfold twoE; rw [h]; exact if_pos ⟨h1, h2⟩
theorem twoE_3 (h : numE b sz (nx b sz a) 0 ((n : Int) - 1) = .ok (x, p)) (h1 : ¬ (kd b sz p = 2 ∧ fg b sz p = x)) (h2 : numE b sz p 0 ((n : Int) - 1) = .error f) : twoE b sz n a = .error f := by unfold twoE; rw [h]; dsimp only; rw [if_neg h1, h2]
theorem twoE_4 {p2 : Nat} (h : numE b sz (nx b sz a) 0 ((n : Int) - 1) = .ok (x, p)) (h1 : ¬ (kd b sz p = 2 ∧ fg b sz p = x)) (h2 : numE b sz p 0 ((n : Int) - 1) = .ok (y, p2)) : twoE b sz n a = .ok (x, y, p2) := by unfold twoE; rw [h]; dsimp only; rw [if_neg h1, h2]
theorem twoE_ok {p2 : Nat} (h : twoE b sz n a = .ok (x, y, p2)) : x < n ∧ y < n ∧ ¬ x = y ∧ ∃ p, p = nx b sz (nx b sz a) ∧ p2 = nx b sz p := by
  unfold twoE at h
  split at h
  · cases h
  · rename_i x' p' h1
    obtain ⟨-, hx, hp, h2, h3⟩ := numE_ok h1
    split at h
    · cases h
    · rename_i h4
      split at h
      · cases h
      · rename_i y' q' h5
        obtain ⟨k5, hy, hq, h6, h7⟩ := numE_ok h5
        cases h
        exact ⟨by omega, by omega, fun e => h4 ⟨k5, by rw [← hy, e]⟩, p', hp, hq⟩
theorem knoE_1 (h : twoE b sz n a = .error f) : knoE b sz n K a = .error f := by unfold knoE; rw [h]
theorem knoE_2 (h : twoE b sz n a = .ok (x, y, p)) (hw : isW b sz p 7 = true) (h2 : numE b sz (nx b sz p) 0 99 = .error f) : knoE b sz n K a = .error f := by unfold knoE; rw [h]; dsimp only; rw [if_pos hw, h2]
theorem knoE_3 {p2 : Nat} (h : twoE b sz n a = .ok (x, y, p)) (hw : isW b sz p 7 = true) (h2 : numE b sz (nx b sz p) 0 99 = .ok (v, p2)) : knoE b sz n K a = .ok (knF K x y (nI v), p2) := by unfold knoE; rw [h]; dsimp only; rw [if_pos hw, h2]
theorem knoE_4 (h : twoE b sz n a = .ok (x, y, p)) (hw : isW b sz p 7 = false) : knoE b sz n K a = .ok (knF K x y 0, p) := by unfold knoE; rw [h]; dsimp only; rw [if_neg (by rw [hw]; decide)]
theorem nx_gt (h : ¬ kd b sz a = 0) (ha : a ≤ sz) : a < nx b sz a := by
  have h1 := fr_ge (b := b) (sz := sz) (a := a)
  have h2 := fr_le (b := b) ha
  have hne : ¬ fr b sz a = sz := fun e => h (kd_0 e)
  have hs : ∀ q : Nat → Bool, q (b (fr b sz a)) = true → fr b sz a < whl q b sz (fr b sz a) := fun q hq => by
    rw [← whl_y (by omega) hq]
    exact Nat.lt_of_lt_of_le (Nat.lt_succ_self _) whl_ge
  unfold nx
  rw [if_neg hne]
  split
  · rename_i h3; have := hs _ h3; omega
  · split
    · rename_i h3; have := hs _ h3; omega
    · omega
theorem metF_n (h : ¬ kd b sz a = 2) : metF b sz n f S a = .ok (S, a) := by
  cases f with
  | zero => rfl
  | succ f => rw [metF, if_neg h]
theorem metF_1 (ha : a ≤ sz) (h : kd b sz a = 2) (h2 : fg b sz a < n) (h3 : S.testBit (fg b sz a) = true) : metF b sz n (sz + 1 - a) S a = .error (fr b sz a) := by
  rw [show sz + 1 - a = (sz - a) + 1 by omega, metF, if_pos h, if_pos ⟨h2, h3⟩]
theorem metF_2 (ha : a ≤ sz) (h : kd b sz a = 2) (h2 : ¬ (fg b sz a < n ∧ S.testBit (fg b sz a) = true)) (h3 : numE b sz a 0 ((n : Int) - 1) = .error f) : metF b sz n (sz + 1 - a) S a = .error f := by
  rw [show sz + 1 - a = (sz - a) + 1 by omega, metF, if_pos h, if_neg h2, h3]
theorem metF_f : ∀ g1 g2 S a, a ≤ sz → sz + 1 - a ≤ g1 → sz + 1 - a ≤ g2 → metF b sz n g1 S a = metF b sz n g2 S a
  | 0, g2, S, a, ha, h1, h2 => by omega
  | g1 + 1, 0, S, a, ha, h1, h2 => by omega
  | g1 + 1, g2 + 1, S, a, ha, h1, h2 => by
    rw [metF, metF]
    by_cases hk : kd b sz a = 2
    · rw [if_pos hk, if_pos hk]
      split
      · rfl
      · cases he : numE b sz a 0 ((n : Int) - 1) with
        | error f => rfl
        | ok u =>
          obtain ⟨x, p⟩ := u
          obtain ⟨-, -, hp, -, -⟩ := numE_ok he
          have := nx_gt (b := b) (by rw [hk]; decide) ha
          have := nx_le (b := b) ha
          exact metF_f g1 g2 _ _ (by omega) (by omega) (by omega)
    · rw [if_neg hk, if_neg hk]
theorem metF_3 (ha : a ≤ sz) (h : kd b sz a = 2) (h2 : ¬ (fg b sz a < n ∧ S.testBit (fg b sz a) = true)) (h3 : numE b sz a 0 ((n : Int) - 1) = .ok (x, p)) : metF b sz n (sz + 1 - p) (S ||| 2 ^ x) p = metF b sz n (sz + 1 - a) S a := by
  have hg := nx_gt (b := b) (by rw [h]; decide) ha
  have hl := nx_le (b := b) ha
  obtain ⟨-, -, hp, -, -⟩ := numE_ok h3
  rw [show sz + 1 - a = (sz - a) + 1 by omega, metF, if_pos h, if_neg h2, h3]
  exact metF_f _ _ _ _ (by omega) (by omega) (by omega)
theorem metE_1 (h : numE b sz (nx b sz a) 0 ((n : Int) - 1) = .error f) : metE b sz n a = .error f := by unfold metE; rw [h]
theorem metE_2 (h : numE b sz (nx b sz a) 0 ((n : Int) - 1) = .ok (x, p)) : metE b sz n a = metF b sz n (sz + 1 - p) (2 ^ x) p := by unfold metE; rw [h]
end TE
def tpOk (f : Nat → Int32) (b : Nat → Nat) (sz : Nat) : Prop := ∀ j, j < sz → f j = nI (b j) ∧ b j < 256
theorem tpOk.of {f g : Nat → Int32} {b : Nat → Nat} {sz : Nat} (e : f = g) (h : tpOk g b sz) : tpOk f b sz := e ▸ h
theorem isLet_n : ∀ x, x < 256 → isLet (nI x) = bLet x := by decide +kernel
theorem isDig_n : ∀ x, x < 256 → isDig (nI x) = bDig x := by decide +kernel
theorem bDig_ge {x : Nat} (h : bDig x = true) : 48 ≤ x ∧ x ≤ 57 := of_decide_eq_true h
theorem fgN_s {b : Nat → Nat} {x y f : Nat} (hxy : x ≤ y) (hf : f = fgN b x (y - x)) (h : y - x < 2) : f * 10 + b y - 48 = fgN b x (y + 1 - x) := by
  rw [show y + 1 - x = (y - x) + 1 by omega, fgN, if_pos h, ← hf, show x + (y - x) = y by omega]
theorem fgN_b {b : Nat → Nat} {x y : Nat} (hxy : x ≤ y) (h : 2 ≤ y - x) : 100000 = fgN b x (y + 1 - x) := by
  rw [show y + 1 - x = (y - x) + 1 by omega, fgN, if_neg (by omega)]
theorem fgN_le2 {b : Nat → Nat} {x y sz : Nat} (hb : ∀ j, j < sz → b j < 256) (hy : y ≤ sz) (hxy : x ≤ y) : fgN b x (y - x) ≤ 100000 := by
  match h : y - x with
  | 0 => exact Nat.zero_le _
  | 1 => show (if 0 < 2 then 0 * 10 + b (x + 0) - 48 else 100000) ≤ 100000; have := hb (x + 0) (by omega); rw [if_pos (by decide)]; omega
  | 2 =>
    show (if 1 < 2 then (if 0 < 2 then 0 * 10 + b (x + 0) - 48 else 100000) * 10 + b (x + 1) - 48 else 100000) ≤ 100000
    have := hb (x + 0) (by omega)
    have := hb (x + 1) (by omega)
    rw [if_pos (by decide), if_pos (by decide)]; omega
  | k + 3 => rw [fgN, if_neg (by omega)]; exact Nat.le_refl _
theorem fg_le {b : Nat → Nat} {sz a : Nat} (hb : ∀ j, j < sz → b j < 256) (ha : a ≤ sz) : fg b sz a ≤ 100000 := by
  unfold fg
  split
  · exact fgN_le2 hb (nx_le ha) nx_ge
  · exact Nat.zero_le _
theorem tpOk.lt {f : Nat → Int32} {b : Nat → Nat} {sz : Nat} (h : tpOk f b sz) : ∀ j, j < sz → b j < 256 := fun j hj => (h j hj).2
section IW
variable {b : Nat → Nat} {sz a w : Nat}
theorem isW_f1 (h : ¬ kd b sz a = 1) : isW b sz a w = false := decide_eq_false (fun z => h z.1)
theorem isW_f2 (h : ¬ nx b sz a - fr b sz a = sLen.getD w 0) : isW b sz a w = false := decide_eq_false (fun z => h z.2.1)
theorem isW_f3 {j : Nat} (hj : j < sLen.getD w 0) (h : ¬ nI (b (fr b sz a + j)) = (sByt.getD w []).getD j 0) : isW b sz a w = false := decide_eq_false (fun z => h (z.2.2 j hj))
theorem isW_t (h : kd b sz a = 1) (h2 : nx b sz a - fr b sz a = sLen.getD w 0) (h3 : ∀ j, j < sLen.getD w 0 → nI (b (fr b sz a + j)) = (sByt.getD w []).getD j 0) : isW b sz a w = true := decide_eq_true ⟨h, h2, h3⟩
theorem isW_k (h : isW b sz a w = true) : kd b sz a = 1 := (of_decide_eq_true h).1
end IW
section SP
variable {b : Nat → Nat} {sz n st mm a p x y f v S c : Nat} {hour cost : Nat → Int32} {K K' : Nat → Nat → Int32}
theorem nx2_le (ha : a ≤ sz) : nx b sz a ≤ nx b sz (nx b sz a) := Nat.le_trans fr_ge nx_ge
theorem numE_p {lo hi : Int} (h : numE b sz a lo hi = .ok (x, p)) (ha : a ≤ sz) : a ≤ p ∧ p ≤ sz := by
  obtain ⟨-, -, rfl, -, -⟩ := numE_ok h
  exact ⟨Nat.le_trans fr_ge nx_ge, nx_le ha⟩
theorem metF_p : ∀ f S a, a ≤ sz → metF b sz n f S a = .ok (v, p) → a ≤ p ∧ p ≤ sz
  | 0, S, a, ha, h => by cases h; exact ⟨Nat.le_refl _, ha⟩
  | f + 1, S, a, ha, h => by
    rw [metF] at h
    split at h
    · split at h
      · cases h
      · split at h
        · cases h
        · rename_i x q hq
          obtain ⟨h1, h2⟩ := numE_p hq ha
          obtain ⟨h3, h4⟩ := metF_p f _ q h2 h
          exact ⟨by omega, h4⟩
    · cases h; exact ⟨Nat.le_refl _, ha⟩
theorem stm_p {t : TW} (h : stm b sz n st mm hour cost K a = .ok (t, p)) (ha : a ≤ sz) (hn : n ≤ 7) : a < p ∧ p ≤ sz ∧ t.1 ≤ 7 := by
  have h1 := nx_le (b := b) ha
  have l0 := nx2_le (b := b) ha
  have hg : ∀ w, isW b sz a w = true → a < nx b sz a := fun w hw => nx_gt (by rw [isW_k hw]; decide) ha
  unfold stm at h
  split at h
  · rename_i hw
    have := hg _ hw.1
    split at h
    · cases h
    · rename_i h2 q e1
      obtain ⟨l1, l2⟩ := numE_p e1 h1
      split at h
      · cases h
      · rename_i c2 q2 e2
        obtain ⟨l3, l4⟩ := numE_p e2 l2
        cases h
        exact ⟨by omega, l4, by show n + 1 ≤ 7; omega⟩
  · split at h
    · rename_i hw
      have := hg _ hw
      split at h
      · cases h
      · rename_i K9 q e1
        cases h
        unfold knoE at e1
        split at e1
        · cases e1
        · rename_i x9 y9 q9 e2
          obtain ⟨-, -, -, p9, rfl, rfl⟩ := twoE_ok e2
          have l1 := nx2_le (b := b) h1
          have l2 := nx_le (b := b) h1
          have l3 := nx2_le (b := b) l2
          have l4 := nx_le (b := b) l2
          have l5 := nx2_le (b := b) l4
          have l6 := nx_le (b := b) l4
          split at e1
          · split at e1
            · cases e1
            · rename_i v9 q8 e3
              obtain ⟨l7, l8⟩ := numE_p e3 l6
              cases e1
              exact ⟨by omega, l8, hn⟩
          · cases e1
            have := fr_ge (b := b) (sz := sz) (a := nx b sz (nx b sz a))
            have := nx_ge (b := b) (sz := sz) (a := nx b sz (nx b sz a))
            exact ⟨by omega, by omega, hn⟩
    · split at h
      · rename_i hw
        have := hg _ hw
        split at h
        · cases h
        · rename_i x9 y9 q9 e2
          cases h
          obtain ⟨-, -, -, p9, rfl, rfl⟩ := twoE_ok e2
          have l1 := nx2_le (b := b) h1
          have l2 := nx_le (b := b) h1
          have l3 := nx2_le (b := b) l2
          have l4 := nx_le (b := b) l2
          exact ⟨by omega, by omega, hn⟩
      · split at h
        · rename_i hw
          have := hg _ hw
          split at h
          · cases h
          · rename_i x9 q9 e2
            obtain ⟨l1, l2⟩ := numE_p e2 h1
            cases h
            exact ⟨by omega, l2, hn⟩
        · split at h
          · rename_i hw
            have := hg _ hw
            split at h
            · cases h
            · rename_i x9 q9 e2
              obtain ⟨l1, l2⟩ := numE_p e2 h1
              cases h
              exact ⟨by omega, l2, hn⟩
          · split at h
            · rename_i hw
              have := hg _ hw
              split at h
              · cases h
              · rename_i S9 q9 e2
                cases h
                unfold metE at e2
                split at e2
                · cases e2
                · rename_i x8 q8 e3
                  obtain ⟨l1, l2⟩ := numE_p e3 h1
                  obtain ⟨l3, l4⟩ := metF_p _ _ _ l2 e2
                  exact ⟨by omega, l4, hn⟩
            · cases h
theorem rdF_f : ∀ g1 g2 (t : TW) a c, a ≤ sz → t.1 ≤ 7 → sz + 1 - a ≤ g1 → sz + 1 - a ≤ g2 → rdF b sz g1 t a c = rdF b sz g2 t a c
  | 0, g2, t, a, c, ha, hn, h1, h2 => by omega
  | g1 + 1, 0, t, a, c, ha, hn, h1, h2 => by omega
  | g1 + 1, g2 + 1, t, a, c, ha, hn, h1, h2 => by
    rw [rdF, rdF]
    by_cases h0 : kd b sz a = 0
    · rw [if_pos h0, if_pos h0]
    · rw [if_neg h0, if_neg h0]
      by_cases h3 : kd b sz a = 3
      · rw [if_pos h3, if_pos h3]
        cases he : stm b sz t.1 t.2.1 t.2.2.1 t.2.2.2.1 t.2.2.2.2.1 t.2.2.2.2.2 (nx b sz a) with
        | error f => rfl
        | ok u =>
          obtain ⟨t', p⟩ := u
          have hl := nx_le (b := b) ha
          have hg := nx_gt (b := b) h0 ha
          obtain ⟨h4, h5, h6⟩ := stm_p he hl hn
          exact rdF_f g1 g2 t' p (c + 1) h5 h6 (by omega) (by omega)
      · rw [if_neg h3, if_neg h3]
theorem rdF_0 {t : TW} (h : kd b sz a = 0) : rdF b sz f t a c = .ok (t, c) := by
  cases f with
  | zero => rfl
  | succ f => rw [rdF, if_pos h]
theorem rdF_1 {t : TW} (ha : a ≤ sz) (h : ¬ kd b sz a = 0) (h3 : ¬ kd b sz a = 3) : rdF b sz (sz + 1 - a) t a c = .error (fr b sz a) := by
  rw [show sz + 1 - a = (sz - a) + 1 by omega, rdF, if_neg h, if_neg h3]
theorem rdF_2 (ha : a ≤ sz) (h3 : kd b sz a = 3) (he : stm b sz n st mm hour cost K (nx b sz a) = .error f) : rdF b sz (sz + 1 - a) (n, st, mm, hour, cost, K) a c = .error f := by
  rw [show sz + 1 - a = (sz - a) + 1 by omega, rdF, if_neg (by rw [h3]; decide), if_pos h3]
  dsimp only
  rw [he]
theorem rdF_3 {t' : TW} (ha : a ≤ sz) (hn : n ≤ 7) (h3 : kd b sz a = 3) (he : stm b sz n st mm hour cost K (nx b sz a) = .ok (t', p)) : rdF b sz (sz + 1 - p) t' p (c + 1) = rdF b sz (sz + 1 - a) (n, st, mm, hour, cost, K) a c := by
  have hl := nx_le (b := b) ha
  have hg := nx_gt (b := b) (by rw [h3]; decide) ha
  obtain ⟨h4, h5, h6⟩ := stm_p he hl hn
  rw [show sz + 1 - a = (sz - a) + 1 by omega, rdF, if_neg (by rw [h3]; decide), if_pos h3]
  dsimp only
  rw [he]
  exact rdF_f _ _ _ _ _ h5 h6 (by omega) (by omega)
theorem rdA_1 (h : stm b sz n st mm hour cost K 0 = .error f) : rdA b sz (n, st, mm, hour, cost, K) = .error f := by unfold rdA; dsimp only; rw [h]
theorem rdA_2 {t' : TW} (h : stm b sz n st mm hour cost K 0 = .ok (t', p)) : rdA b sz (n, st, mm, hour, cost, K) = rdF b sz (sz + 1 - p) t' p 1 := by unfold rdA; dsimp only; rw [h]
end SP
/-- what a text makes of the town, and what is answered -/
def twT (t0 : TW) (r : Except Nat (TW × Nat)) : TW := match r with
  | .ok (t, _) => t
  | .error _ => t0
def twC (r : Except Nat (TW × Nat)) : Int32 := match r with
  | .ok _ => 0
  | .error _ => -2
def twV (r : Except Nat (TW × Nat)) : Int32 := match r with
  | .ok (_, c) => nI c
  | .error f => -20 - nI f
