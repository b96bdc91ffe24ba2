/-! the component's way through all groups that shut each other out -/
def gsF (PL : List Nat) : Nat → Nat → Nat → Nat × Nat → Nat × Nat
  | 0, _, _, acc => acc
  | f + 1, O, c, acc => match PL.dropWhile (fun x => decide (¬ nd x O = 0)) with
    | [] => (max acc.1 c, min acc.2 c)
    | x :: t => (x :: t).foldl (fun a y => if nd y O = 0 ∧ ¬ y &&& x = 0 then gsF PL f (nd O y) (c + 1) a else a) acc
def gsG (PL : List Nat) (O c x : Nat) (a : Nat × Nat) (y : Nat) : Nat × Nat := if nd y O = 0 ∧ ¬ y &&& x = 0 then gsF PL (bitsN (nd O y) 21 + 1) (nd O y) (c + 1) a else a
def gsV (PL : List Nat) (O c : Nat) (acc : Nat × Nat) : Nat × Nat := gsF PL (bitsN O 21 + 1) O c acc
def pOk (PL : List Nat) : Prop := PL.length ≤ 35 ∧ ∀ x ∈ PL, x < 2 ^ 21 ∧ x ≠ 0
theorem pOk.lt {PL : List Nat} (h : pOk PL) {j : Nat} (hj : j < PL.length) : PL.getD j 0 < 2 ^ 21 := (h.2 _ (getD_mem hj)).1
theorem gs_bits {PL : List Nat} (h : pOk PL) {O y : Nat} (hy : y ∈ PL) (h0 : nd y O = 0) : bitsN (nd O y) 21 < bitsN O 21 := by
  have h1 := bits_nd h0 21
  have h2 := bits_pos 21 (h.2 y hy).1 (h.2 y hy).2
  omega
theorem foldl_ext2 {α β : Type} {f g : α → β → α} : ∀ (L : List β), (∀ b ∈ L, ∀ a, f a b = g a b) → ∀ a, L.foldl f a = L.foldl g a
  | [], _, _ => rfl
  | x :: t, h, a => by rw [List.foldl_cons, List.foldl_cons, h x List.mem_cons_self a, foldl_ext2 t (fun b hb => h b (List.mem_cons_of_mem _ hb))]
theorem gsF_fuel {PL : List Nat} (h : pOk PL) : ∀ f1 f2 O c acc, bitsN O 21 < f1 → bitsN O 21 < f2 → gsF PL f1 O c acc = gsF PL f2 O c acc
  | 0, _, _, _, _, h1, _ => absurd h1 (Nat.not_lt_zero _)
  | _ + 1, 0, _, _, _, _, h2 => absurd h2 (Nat.not_lt_zero _)
  | f1 + 1, f2 + 1, O, c, acc, h1, h2 => by
    rw [gsF, gsF]
    cases hd : PL.dropWhile (fun x => decide (¬ nd x O = 0)) with
    | nil => rfl
    | cons x t =>
      dsimp only
      refine foldl_ext2 _ (fun y hy a => ?_) acc
      by_cases h3 : nd y O = 0 ∧ ¬ y &&& x = 0
      · rw [if_pos h3, if_pos h3]
        have hm : y ∈ PL := (List.dropWhile_sublist _).subset (hd ▸ hy)
        have := gs_bits h hm h3.1
        exact gsF_fuel h f1 f2 _ _ _ (by omega) (by omega)
      · rw [if_neg h3, if_neg h3]
theorem gsV_nil {PL : List Nat} {O c : Nat} {acc : Nat × Nat} (h : PL.dropWhile (fun x => decide (¬ nd x O = 0)) = []) : gsV PL O c acc = (max acc.1 c, min acc.2 c) := by
  unfold gsV
  rw [gsF, h]
theorem gsV_cons {PL : List Nat} (hp : pOk PL) {O c x : Nat} {t : List Nat} {acc : Nat × Nat} (h : PL.dropWhile (fun x => decide (¬ nd x O = 0)) = x :: t) : gsV PL O c acc = (x :: t).foldl (gsG PL O c x) acc := by
  unfold gsV
  rw [gsF, h]
  dsimp only
  refine foldl_ext2 _ (fun y hy a => ?_) acc
  unfold gsG
  by_cases h3 : nd y O = 0 ∧ ¬ y &&& x = 0
  · rw [if_pos h3, if_pos h3]
    have hm : y ∈ PL := (List.dropWhile_sublist _).subset (h ▸ hy)
    have := gs_bits hp hm h3.1
    exact gsF_fuel hp _ _ _ _ _ (by omega) (by omega)
  · rw [if_neg h3, if_neg h3]
theorem foldl_inv {α β : Type} {f : α → β → α} {P : α → Prop} : ∀ (L : List β), (∀ b ∈ L, ∀ a, P a → P (f a b)) → ∀ a, P a → P (L.foldl f a)
  | [], _, _, h => h
  | x :: t, h, a, ha => foldl_inv t (fun b hb => h b (List.mem_cons_of_mem _ hb)) _ (h x List.mem_cons_self a ha)
theorem gsF_le {PL : List Nat} (h : pOk PL) : ∀ f O c acc, c + bitsN O 21 ≤ 21 → acc.1 ≤ 35 → acc.2 ≤ 35 → (gsF PL f O c acc).1 ≤ 35 ∧ (gsF PL f O c acc).2 ≤ 35
  | 0, _, _, _, _, h1, h2 => ⟨h1, h2⟩
  | f + 1, O, c, acc, hc, h1, h2 => by
    rw [gsF]
    cases hd : PL.dropWhile (fun x => decide (¬ nd x O = 0)) with
    | nil => exact ⟨by show max acc.1 c ≤ 35; omega, by show min acc.2 c ≤ 35; omega⟩
    | cons x t =>
      dsimp only
      refine foldl_inv (P := fun a => a.1 ≤ 35 ∧ a.2 ≤ 35) _ (fun y hy a ha => ?_) acc ⟨h1, h2⟩
      by_cases h3 : nd y O = 0 ∧ ¬ y &&& x = 0
      · rw [if_pos h3]
        have hm : y ∈ PL := (List.dropWhile_sublist _).subset (hd ▸ hy)
        have := gs_bits h hm h3.1
        exact gsF_le h f _ _ _ (by omega) ha.1 ha.2
      · rw [if_neg h3]; exact ha
theorem gsV_le {PL : List Nat} (h : pOk PL) {O c : Nat} {acc : Nat × Nat} (hc : c + bitsN O 21 ≤ 21) (h1 : acc.1 ≤ 35) (h2 : acc.2 ≤ 35) : (gsV PL O c acc).1 ≤ 35 ∧ (gsV PL O c acc).2 ≤ 35 := gsF_le h _ _ _ _ hc h1 h2
theorem dropW_s {PL : List Nat} {q : Nat → Bool} {i : Nat} (h : PL.dropWhile q = (PL.drop i).dropWhile q) (hi : i < PL.length) (hq : q (PL.getD i 0) = true) : PL.dropWhile q = (PL.drop (i + 1)).dropWhile q := by
  rw [h, dropD hi, List.dropWhile_cons, if_pos hq]
theorem dropW_e {PL : List Nat} {q : Nat → Bool} {i : Nat} (h : PL.dropWhile q = (PL.drop i).dropWhile q) (hi : PL.length ≤ i) : PL.dropWhile q = [] := by
  rw [h, List.drop_eq_nil_of_le hi]; rfl
theorem dropW_f {PL : List Nat} {q : Nat → Bool} {i : Nat} (h : PL.dropWhile q = (PL.drop i).dropWhile q) (hi : i < PL.length) (hq : q (PL.getD i 0) = false) : PL.dropWhile q = PL.getD i 0 :: PL.drop (i + 1) := by
  rw [h, dropD hi, List.dropWhile_cons, if_neg (by rw [hq]; decide)]
theorem fold_d {α : Type} {f : α → Nat → α} {PL : List Nat} {i : Nat} {a t : α} (hi : i < PL.length) (h : (PL.drop i).foldl f a = t) : (PL.drop (i + 1)).foldl f (f a (PL.getD i 0)) = t := by
  rw [dropD hi, List.foldl_cons] at h; exact h
theorem fold_e {α : Type} {f : α → Nat → α} {PL : List Nat} {i : Nat} {a t : α} (hi : PL.length ≤ i) (h : (PL.drop i).foldl f a = t) : a = t := by
  rw [List.drop_eq_nil_of_le hi] at h; exact h
theorem gsG_y {PL : List Nat} {O c x y : Nat} {a : Nat × Nat} (h1 : nd y O = 0) (h2 : ¬ y &&& x = 0) : gsG PL O c x a y = gsV PL (nd O y) (c + 1) a := if_pos ⟨h1, h2⟩
theorem gsG_n1 {PL : List Nat} {O c x y : Nat} {a : Nat × Nat} (h1 : ¬ nd y O = 0) : gsG PL O c x a y = a := if_neg (fun z => h1 z.1)
theorem gsG_n2 {PL : List Nat} {O c x y : Nat} {a : Nat × Nat} (h1 : y &&& x = 0) : gsG PL O c x a y = a := if_neg (fun z => z.2 h1)
def orL : List Nat → Nat → Nat
  | _, 0 => 0
  | PL, i + 1 => orL PL i ||| PL.getD i 0
theorem orL_lt {PL : List Nat} (h : pOk PL) : ∀ i, i ≤ PL.length → orL PL i < 2 ^ 21
  | 0, _ => Nat.two_pow_pos 21
  | i + 1, hi => or_lt (orL_lt h i (by omega)) (h.lt (by omega))
theorem mostG_m {L : List Nat} {S b g : Nat} (h : nd g S = 0) : max b (1 + mostV L (nd S g)) = mostG L S b g := (if_pos h).symm
theorem up_all {f : Nat → Int32} {i : Nat} {g : Nat → Int32} (h : ∀ q, q < i → f q = g q) : ∀ q, q < i + 1 → va_up f i (g i) q = g q := by
  intro q hq
  unfold va_up
  by_cases e : q = i
  · subst e; rw [if_pos rfl]
  · rw [if_neg e]; exact h q (by omega)
theorem mayM_all {K : Nat → Nat → Int32} {n : Nat} : mayM K n 0 (2 ^ n - 1) 0 := by
  intro p _ hp
  rw [Nat.testBit_two_pow_sub_one, decide_eq_true_eq]
  unfold okM
  rw [okS_iff]
  refine ⟨fun _ q hq hb => ?_, fun _ => hp⟩
  rw [Nat.zero_testBit] at hb
  cases hb
