/-! PLAIN LAWS 2: worst; two strangers counted twice; one more -/
def wR (a : Int32 × Int32) (b : Int32 × Nat) : Prop := a.1 = b.1 ∧ ((b.1 = -1 ∧ a.2 = -1) ∨ (¬ b.1 = -1 ∧ a.2 = nI b.2 ∧ b.2 ≤ 35))
theorem nI_m1' {x : Nat} (h : x < 2 ^ 30) : ¬ nI x = -1 := by
  intro e
  have h1 := congrArg Int32.toInt e
  rw [nI_toInt (by omega)] at h1
  have h2 : (-1 : Int32).toInt = -1 := by decide
  omega
section WR
variable {K : Nat → Nat → Int32} {n st p q : Nat} {a : Int32 × Int32} {b : Int32 × Nat}
theorem wR_s (hp : p < q) (hq : q < n) (hn : n ≤ 7) (hs : st ≤ 4) (h : wR a b) : wR (wsG K n st p q a) (wcG (fun p q => clN p q (GL K n st)) K p q b) := by
  have hc : clsV K n st p q = nI (clN p q (GL K n st)) := cls_cl (by omega) hq (by omega)
  have hl : clN p q (GL K n st) ≤ 35 := Nat.le_trans (clN_le p q _) (GL_35 hn hs)
  unfold wsG wcG
  by_cases hk : K p q = -1
  · have hiff : a.2 < clsV K n st p q ↔ (b.1 = -1 ∨ b.2 < clN p q (GL K n st)) := by
      rw [hc]
      rcases h.2 with ⟨h1, h2⟩ | ⟨h1, h2, h3⟩
      · rw [h2]
        refine ⟨fun _ => Or.inl h1, fun _ => ?_⟩
        rw [Int32.lt_iff_toInt_lt, nI_toInt (by omega)]
        have h9 : (-1 : Int32).toInt = -1 := by decide
        omega
      · rw [h2, n_lt (by omega) (by omega)]
        exact ⟨Or.inr, fun z => z.elim (fun e => absurd e h1) id⟩
    by_cases hx : a.2 < clsV K n st p q
    · rw [if_pos ⟨hk, hx⟩, if_pos ⟨hk, hiff.mp hx⟩]
      exact ⟨rfl, Or.inr ⟨nI_m1' (by omega), hc, hl⟩⟩
    · rw [if_neg (fun z => hx z.2), if_neg (fun z => hx (hiff.mpr z.2))]
      exact h
  · rw [if_neg (fun z => hk z.1), if_neg (fun z => hk z.1)]
    exact h
theorem wR_J (hn : n ≤ 7) (hs : st ≤ 4) (h : wR a b) : ∀ q, q ≤ n → wR (wsJ K n st p a q) (wcJ (fun p q => clN p q (GL K n st)) K p b q)
  | 0, _ => h
  | q + 1, hq => by
    rw [wsJ, wcJ]
    by_cases e : p < q
    · rw [if_pos e, if_pos e]
      exact wR_s e (by omega) hn hs (wR_J hn hs h q (by omega))
    · rw [if_neg e, if_neg e]
      exact wR_J hn hs h q (by omega)
theorem wR_I (hn : n ≤ 7) (hs : st ≤ 4) : ∀ p, wR (wsI K n st p) (wcI (fun p q => clN p q (GL K n st)) K n p)
  | 0 => ⟨rfl, Or.inl ⟨rfl, rfl⟩⟩
  | p + 1 => wR_J hn hs (wR_I hn hs p) n (Nat.le_refl n)
theorem worst_v (hn : n ≤ 7) (hs : st ≤ 4) : (wsI K n st n).1 = (wcI (fun p q => clN p q (GL K n st)) K n n).1 := (wR_I hn hs n).1
theorem worst_c (hn : n ≤ 7) (hs : st ≤ 4) : worstC K n st = wcC (fun p q => clN p q (GL K n st)) K n := by unfold worstC wcC; rw [worst_v hn hs]
end WR
/-! two strangers, counted from both -/
def cR (K : Nat → Nat → Int32) (p : Nat) : Nat → Nat
  | 0 => 0
  | q + 1 => cR K p q + (if q ≠ p ∧ K p q = -1 then 1 else 0)
def cT (K : Nat → Nat → Int32) (m : Nat) : Nat → Nat
  | 0 => 0
  | p + 1 => cT K m p + cR K p m
theorem bits_str {K : Nat → Nat → Int32} {p n : Nat} : ∀ k, k ≤ n → bitsN (strS K p n) k = cR K p k
  | 0, _ => rfl
  | k + 1, h => by
    rw [bitsN, cR, bits_str k (by omega), strS_bit, decide_eq_true (show k < n by omega), Bool.true_and]
    by_cases e : k ≠ p ∧ K p k = -1
    · rw [decide_eq_true e, if_pos rfl, if_pos e]
    · rw [decide_eq_false e, if_neg (by decide), if_neg e]
theorem bits_hi {S n : Nat} (h : S < 2 ^ n) : ∀ k, n ≤ k → bitsN S k = bitsN S n := by
  intro k hk
  induction hk with
  | refl => rfl
  | step hk ih => rw [bitsN, ih, bit_hi h hk]; rfl
theorem stN_cT {K : Nat → Nat → Int32} {n : Nat} (hn : n ≤ 8) : ∀ p, stN K n p = cT K n p
  | 0 => rfl
  | p + 1 => by rw [stN, cT, stN_cT hn p, bits_hi (strS_lt K p n) 8 hn, bits_str n (Nat.le_refl n)]
theorem cT_s {K : Nat → Nat → Int32} {n m : Nat} (hs : kSym K n) (hm : m < n) : ∀ k, k ≤ m → cT K (m + 1) k = cT K m k + cR K m k
  | 0, _ => rfl
  | k + 1, h => by
    rw [cT, cT, cT_s hs hm k (by omega), cR, cR, hs k m (by omega) hm]
    by_cases e : K m k = -1
    · rw [if_pos ⟨by omega, e⟩, if_pos ⟨by omega, e⟩]; omega
    · rw [if_neg (fun z => e z.2), if_neg (fun z => e z.2)]; omega
theorem mC1_cR {K : Nat → Nat → Int32} {n p : Nat} (hp : p < n) : ∀ q, q ≤ p → mC1 K (2 ^ n - 1) p q = cR K p q
  | 0, _ => rfl
  | q + 1, h => by
    rw [mC1, cR, mC1_cR hp q (by omega), Nat.testBit_two_pow_sub_one, Nat.testBit_two_pow_sub_one, decide_eq_true hp, decide_eq_true (show q < n by omega)]
    by_cases e : K p q = -1
    · rw [if_pos ⟨rfl, rfl, e⟩, if_pos ⟨by omega, e⟩]
    · rw [if_neg (fun z => e z.2.2), if_neg (fun z => e z.2)]
theorem cT_2 {K : Nat → Nat → Int32} {n : Nat} (hs : kSym K n) : ∀ m, m ≤ n → cT K m m = 2 * mC K (2 ^ n - 1) m
  | 0, _ => rfl
  | m + 1, h => by
    rw [cT, cT_s hs (by omega) m (Nat.le_refl m), cT_2 hs m (by omega), mC, mC1_cR (by omega) m (Nat.le_refl m), cR, if_neg (fun z => z.1 rfl)]
    omega
theorem stN_2 {K : Nat → Nat → Int32} {n : Nat} (hn : n ≤ 8) (hs : kSym K n) : stN K n n / 2 = mC K (2 ^ n - 1) n := by
  rw [stN_cT hn, cT_2 hs n (Nat.le_refl n)]; omega
/-! the most, by what it is: the greatest number with its two bounds -/
section MV
variable {L : List Nat} {S g m : Nat}
theorem mostF_le : ∀ (M : List Nat) (b : Nat), b ≤ M.foldl (mostG L S) b
  | [], _ => Nat.le_refl _
  | g :: t, b => by
    rw [List.foldl_cons]
    refine Nat.le_trans ?_ (mostF_le t _)
    unfold mostG
    split <;> omega
theorem mostF_ge : ∀ (M : List Nat) (b : Nat), g ∈ M → nd g S = 0 → 1 + mostV L (nd S g) ≤ M.foldl (mostG L S) b
  | [], _, h, _ => by cases h
  | x :: t, b, h, h0 => by
    rw [List.foldl_cons]
    rcases List.mem_cons.mp h with e | e
    · subst e
      refine Nat.le_trans ?_ (mostF_le t _)
      unfold mostG
      rw [if_pos h0]; omega
    · exact mostF_ge t _ e h0
theorem mostF_ub : ∀ (M : List Nat) (b : Nat), b ≤ m → (∀ g ∈ M, nd g S = 0 → 1 + mostV L (nd S g) ≤ m) → M.foldl (mostG L S) b ≤ m
  | [], _, h, _ => h
  | x :: t, b, h, h1 => by
    rw [List.foldl_cons]
    refine mostF_ub t _ ?_ (fun g hg => h1 g (List.mem_cons_of_mem _ hg))
    unfold mostG
    split
    · rename_i e
      have := h1 x List.mem_cons_self e
      omega
    · exact h
theorem mostV_a (h0 : ∀ g ∈ L, g ≠ 0) (hg : g ∈ L) (h : nd g S = 0) : 1 + mostV L (nd S g) ≤ mostV L S := by rw [mostV_G h0 S]; exact mostF_ge L 0 hg h
theorem mostV_u (h0 : ∀ g ∈ L, g ≠ 0) (h : ∀ g ∈ L, nd g S = 0 → 1 + mostV L (nd S g) ≤ m) : mostV L S ≤ m := by rw [mostV_G h0 S]; exact mostF_ub L 0 (Nat.zero_le m) h
theorem nd_mono {A B g : Nat} (h : nd A B = 0) : nd (nd A g) (nd B g) = 0 := nd0_of fun i hi => by
  rw [nd_bit, Bool.and_eq_true] at hi ⊢
  exact ⟨sub_bit h hi.1, hi.2⟩
theorem nd0_tr {a b c : Nat} (h1 : nd a b = 0) (h2 : nd b c = 0) : nd a c = 0 := nd0_of fun _ hi => sub_bit h2 (sub_bit h1 hi)
theorem mostV_mono (h0 : ∀ g ∈ L, g ≠ 0) : ∀ A B, nd A B = 0 → mostV L A ≤ mostV L B := by
  intro A
  induction A using Nat.strongRecOn with
  | _ A ih =>
    intro B h
    refine mostV_u h0 fun g hg e => ?_
    have h1 := ih (nd A g) (nd_lt e (h0 g hg)) (nd B g) (nd_mono h)
    have h2 := mostV_a h0 hg (nd0_tr e h)
    omega
end MV
section HR
variable {L L' Ls : List Nat} {n : Nat}
theorem most_low (h0 : ∀ g ∈ L, g ≠ 0) (h0' : ∀ g ∈ L', g ≠ 0) (hs : ∀ g, g < 2 ^ n → (g ∈ L' ↔ g ∈ L)) : ∀ B, B < 2 ^ n → mostV L' B = mostV L B := by
  intro B
  induction B using Nat.strongRecOn with
  | _ B ih =>
    intro hB
    have hlt : ∀ g, nd g B = 0 → g < 2 ^ n := fun g e => Nat.lt_of_le_of_lt (nd0_le e) hB
    refine Nat.le_antisymm ?_ ?_
    · refine mostV_u h0' fun g hg e => ?_
      have hg' := (hs g (hlt g e)).mp hg
      rw [ih (nd B g) (nd_lt e (h0 g hg')) (Nat.lt_of_le_of_lt (nd_le B g) hB)]
      exact mostV_a h0 hg' e
    · refine mostV_u h0 fun g hg e => ?_
      have hg' := (hs g (hlt g e)).mpr hg
      rw [← ih (nd B g) (nd_lt e (h0 g hg)) (Nat.lt_of_le_of_lt (nd_le B g) hB)]
      exact mostV_a h0' hg' e
theorem nd_or1 {A g : Nat} (hg : g < 2 ^ n) : nd (A ||| 2 ^ n) g = nd A g ||| 2 ^ n := by
  apply Nat.eq_of_testBit_eq
  intro i
  rw [nd_bit, or_bit, or_bit, nd_bit]
  by_cases e : n = i
  · subst e; rw [bit_hi hg (Nat.le_refl n), decide_eq_true rfl]; simp
  · rw [decide_eq_false e, Bool.or_false, Bool.or_false]
theorem nd_or2 {A S : Nat} (hA : A < 2 ^ n) : nd (A ||| 2 ^ n) (S ||| 2 ^ n) = nd A S := by
  apply Nat.eq_of_testBit_eq
  intro i
  rw [nd_bit, or_bit, or_bit, nd_bit]
  by_cases e : n = i
  · subst e; rw [bit_hi hA (Nat.le_refl n), decide_eq_true rfl]; simp
  · rw [decide_eq_false e, Bool.or_false, Bool.or_false]
theorem nd_sw (A g S : Nat) : nd (nd A g) S = nd (nd A S) g := by
  apply Nat.eq_of_testBit_eq
  intro i
  rw [nd_bit, nd_bit, nd_bit, nd_bit, Bool.and_assoc, Bool.and_assoc, Bool.and_comm (!g.testBit i)]
theorem hire_ub (h0 : ∀ g ∈ L, g ≠ 0) (h0' : ∀ g ∈ L', g ≠ 0) (hs : ∀ g, g < 2 ^ n → (g ∈ L' ↔ g ∈ L)) (hl : ∀ g ∈ L', g < 2 ^ n ∨ ∃ S, S ∈ Ls ∧ S < 2 ^ n ∧ g = S ||| 2 ^ n) : ∀ A, A < 2 ^ n → ∀ m, mostV L A ≤ m → (∀ S ∈ Ls, nd S A = 0 → 1 + mostV L (nd A S) ≤ m) → mostV L' (A ||| 2 ^ n) ≤ m := by
  intro A
  induction A using Nat.strongRecOn with
  | _ A ih =>
    intro hA m hm hS
    refine mostV_u h0' fun g hg e => ?_
    rcases hl g hg with hgn | ⟨S, hSm, hSn, rfl⟩
    · have hg' := (hs g hgn).mp hg
      have e1 : nd g A = 0 := nd0_of fun i hi => by
        have := sub_bit e hi
        rw [or_bit, decide_eq_false (by have := lt_bit hgn hi; omega), Bool.or_false] at this
        exact this
      have ha := mostV_a h0 hg' e1
      rw [nd_or1 hgn]
      have := ih (nd A g) (nd_lt e1 (h0 g hg')) (Nat.lt_of_le_of_lt (nd_le A g) hA) (m - 1) (by omega) (fun S hSm hz => by
        have hSA : nd S A = 0 := nd0_tr hz (nd0_nd (nd0_of fun _ h => h))
        have hgS : nd g (nd A S) = 0 := nd0_of fun i hi => by
          rw [nd_bit, Bool.and_eq_true, sub_bit e1 hi]
          refine ⟨rfl, ?_⟩
          cases hb : S.testBit i
          · rfl
          · have h9 := sub_bit hz hb
            rw [nd_bit, hi] at h9
            simp at h9
        have h1 := mostV_a h0 hg' hgS
        have h2 := hS S hSm hSA
        rw [nd_sw A g S]
        omega)
      have h1m : 1 ≤ m := by omega
      omega
    · have hSA : nd S A = 0 := nd0_of fun i hi => by
        have := sub_bit e (show (S ||| 2 ^ n).testBit i = true by rw [or_bit, hi]; rfl)
        rw [or_bit, decide_eq_false (by have := lt_bit hSn hi; omega), Bool.or_false] at this
        exact this
      rw [nd_or2 hA, most_low h0 h0' hs _ (Nat.lt_of_le_of_lt (nd_le A S) hA)]
      exact hS S hSm hSA
end HR
theorem hrF_ge {L : List Nat} {K : Nat → Nat → Int32} {n st S : Nat} (h1 : 1 ≤ S) (h2 : bitsN S 8 = st - 1) (h3 : asB K n S n = true) : ∀ k, S < k → 1 + mostV L (nd (2 ^ n - 1) S) ≤ hrF L K n st k
  | 0, h => absurd h (Nat.not_lt_zero _)
  | k + 1, h => by
    by_cases e : S = k
    · subst e
      rw [hrF, if_pos ⟨h1, h2, h3⟩]; omega
    · have := hrF_ge (L := L) h1 h2 h3 k (by omega)
      rw [hrF]
      split <;> omega
theorem hrF_ub {L : List Nat} {K : Nat → Nat → Int32} {n st m : Nat} : ∀ k, (∀ S, S < k → bitsN S 8 = st - 1 → asB K n S n = true → 1 + mostV L (nd (2 ^ n - 1) S) ≤ m) → hrF L K n st k ≤ m
  | 0, _ => Nat.zero_le m
  | k + 1, h => by
    have ih := hrF_ub (L := L) (K := K) (n := n) (st := st) (m := m) k (fun S hS => h S (by omega))
    rw [hrF]
    split
    · rename_i e
      have := h k (by omega) e.2.1 e.2.2
      omega
    · exact ih
theorem asB_iff {K : Nat → Nat → Int32} {n S : Nat} : ∀ m, asB K n S m = true ↔ ∀ p, p < m → S.testBit p = true → nd (nd S (2 ^ p)) (strS K p n) = 0
  | 0 => ⟨fun _ p h => absurd h (Nat.not_lt_zero _), fun _ => rfl⟩
  | m + 1 => by
    rw [asB, Bool.and_eq_true, asB_iff m, Bool.or_eq_true, Bool.not_eq_true', decide_eq_true_eq]
    constructor
    · rintro ⟨h1, h2⟩ p hp hb
      by_cases e : p = m
      · subst e
        rcases h2 with h2 | h2
        · rw [h2] at hb; cases hb
        · exact h2
      · exact h1 p (by omega) hb
    · intro h
      refine ⟨fun p hp => h p (by omega), ?_⟩
      cases hb : S.testBit m
      · exact Or.inl rfl
      · exact Or.inr (h m (by omega) hb)
theorem asB_ok {K : Nat → Nat → Int32} {n S : Nat} (hs : kSym K n) (hS : S < 2 ^ n) : asB K n S n = true ↔ ∀ p, p < n → S.testBit p = true → okM K S p = true := by
  rw [asB_iff]
  constructor
  · intro h p hp hb
    refine okM_iff.mpr fun q hq hbq => ?_
    have := sub_bit (h p hp hb) (show (nd S (2 ^ p)).testBit q = true by rw [nd_bit, hbq, Nat.testBit_two_pow, decide_eq_false (by omega)]; rfl)
    rw [strS_bit, Bool.and_eq_true, decide_eq_true_eq, decide_eq_true_eq] at this
    exact this.2.2
  · intro h p hp hb
    refine nd0_of fun q hq => ?_
    rw [nd_bit, Nat.testBit_two_pow, Bool.and_eq_true, Bool.not_eq_true', decide_eq_false_iff_not] at hq
    have hqn := lt_bit hS hq.1
    rw [strS_bit, decide_eq_true hqn, Bool.true_and, decide_eq_true_eq]
    refine ⟨fun e => hq.2 e.symm, ?_⟩
    rcases Nat.lt_or_gt_of_ne hq.2 with h9 | h9
    · rw [hs p q hp hqn]; exact okM_iff.mp (h q hqn hq.1) p h9 hb
    · exact okM_iff.mp (h p hp hb) q h9 hq.1
theorem okM_new {K : Nat → Nat → Int32} {n g p : Nat} (hp : p < n) : okM (newK K n n) g p = okM K g p := by
  rw [Bool.eq_iff_iff, okM_iff, okM_iff]
  have hk : ∀ q, q < p → newK K n n p q = K p q := fun q hq => by rw [newK, if_neg (by omega)]
  exact ⟨fun h q hq hb => (hk q hq).symm.trans (h q hq hb), fun h q hq hb => (hk q hq).trans (h q hq hb)⟩
theorem okM_newn {K : Nat → Nat → Int32} {n g : Nat} : okM (newK K n n) g n = true := okM_iff.mpr fun q hq _ => by rw [newK, if_pos (Or.inl ⟨rfl, hq⟩)]
theorem bits_or9 {S n : Nat} (hS : S < 2 ^ n) (hn : n < 8) : bitsN (S ||| 2 ^ n) 8 = bitsN S 8 + 1 := bitsN_new hS 8 hn
section HG
variable {K : Nat → Nat → Int32} {n st : Nat}
theorem new_low (hn : n ≤ 7) (g : Nat) (hg : g < 2 ^ n) : g ∈ GL (newK K n n) (n + 1) st ↔ g ∈ GL K n st := by
  have hg1 : g < 2 ^ (n + 1) := Nat.lt_of_lt_of_le hg (Nat.pow_le_pow_right (by decide) (by omega))
  rw [mem_GL (by omega), mem_GL (by omega)]
  constructor
  · rintro ⟨-, h2, h3⟩
    exact ⟨hg, h2, fun p hp hb => (okM_new hp).symm.trans (h3 p (by omega) hb)⟩
  · rintro ⟨-, h2, h3⟩
    exact ⟨hg1, h2, fun p _ hb => (okM_new (lt_bit hg hb)).trans (h3 p (lt_bit hg hb) hb)⟩
theorem new_hi (hn : n ≤ 7) (h2 : 2 ≤ st) {S : Nat} (hS : S < 2 ^ n) : (S ||| 2 ^ n) ∈ GL (newK K n n) (n + 1) st ↔ S ∈ GL K n (st - 1) := by
  have hlt : S ||| 2 ^ n < 2 ^ (n + 1) := or_lt (Nat.lt_of_lt_of_le hS (Nat.pow_le_pow_right (by decide) (by omega))) (Nat.pow_lt_pow_right (by decide) (by omega))
  have hb : ∀ p, p < n → (S ||| 2 ^ n).testBit p = S.testBit p := fun p hp => by rw [or_bit, decide_eq_false (by omega), Bool.or_false]
  rw [mem_GL (by omega), mem_GL (by omega), bits_or9 hS (by omega)]
  constructor
  · rintro ⟨-, h3, h4⟩
    exact ⟨hS, by omega, fun p hp hbp => (okM_c (fun i hi => (hb i (by omega)).symm)).trans ((okM_new hp).symm.trans (h4 p (by omega) (by rw [hb p hp]; exact hbp)))⟩
  · rintro ⟨-, h3, h4⟩
    refine ⟨hlt, by omega, fun p hp hbp => ?_⟩
    by_cases e : p = n
    · subst e; exact okM_newn
    · have hp' : p < n := by omega
      rw [hb p hp'] at hbp
      exact (okM_new hp').trans ((okM_c (fun i hi => hb i (by omega))).trans (h4 p hp' hbp))
theorem hire_v (hn : n ≤ 7) (h2 : 2 ≤ st) (hs : kSym K n) : mostV (GL (newK K n n) (n + 1) st) (2 ^ (n + 1) - 1) = max (mostV (GL K n st) (2 ^ n - 1)) (hrF (GL K n st) K n st (2 ^ n)) := by
  have h0 : ∀ g ∈ GL K n st, g ≠ 0 := GL_ne (by omega)
  have h0' : ∀ g ∈ GL (newK K n n) (n + 1) st, g ≠ 0 := GL_ne (by omega)
  have hp := Nat.two_pow_pos n
  have hA : 2 ^ n - 1 < 2 ^ n := by omega
  have eA : (2 ^ n - 1) ||| 2 ^ n = 2 ^ (n + 1) - 1 := by
    apply Nat.eq_of_testBit_eq
    intro i
    rw [or_bit, Nat.testBit_two_pow_sub_one, Nat.testBit_two_pow_sub_one, Bool.eq_iff_iff, Bool.or_eq_true, decide_eq_true_eq, decide_eq_true_eq, decide_eq_true_eq]
    omega
  have hsub : ∀ S, S < 2 ^ n → nd S (2 ^ n - 1) = 0 := fun S hS => nd0_of fun i hi => by rw [Nat.testBit_two_pow_sub_one, decide_eq_true (lt_bit hS hi)]
  have hsp : ∀ g ∈ GL (newK K n n) (n + 1) st, g < 2 ^ n ∨ ∃ S, S ∈ GL K n (st - 1) ∧ S < 2 ^ n ∧ g = S ||| 2 ^ n := by
    intro g hg
    have hg1 : g < 2 ^ (n + 1) := GL_lt g hg
    by_cases e : g < 2 ^ n
    · exact Or.inl e
    · have hb : g.testBit n = true := by
        cases hb : g.testBit n
        · exact absurd (Nat.lt_pow_two_of_testBit g (fun i hi => by
            by_cases e2 : i = n
            · subst e2; exact hb
            · exact bit_hi hg1 (by omega))) e
        · rfl
      have eg : g = nd g (2 ^ n) ||| 2 ^ n := by
        apply Nat.eq_of_testBit_eq
        intro i
        rw [or_bit, nd_bit, Nat.testBit_two_pow]
        by_cases e2 : n = i
        · subst e2; rw [hb, decide_eq_true rfl]; rfl
        · rw [decide_eq_false e2]; simp
      have hS : nd g (2 ^ n) < 2 ^ n := Nat.lt_pow_two_of_testBit _ (fun i hi => by
        rw [nd_bit, Nat.testBit_two_pow]
        by_cases e2 : n = i
        · subst e2; rw [decide_eq_true rfl]; simp
        · rw [bit_hi hg1 (by omega)]; rfl)
      refine Or.inr ⟨nd g (2 ^ n), (new_hi hn h2 hS).mp (by rw [← eg]; exact hg), hS, eg⟩
  have hcond : ∀ S, S < 2 ^ n → (S ∈ GL K n (st - 1) ↔ bitsN S 8 = st - 1 ∧ asB K n S n = true) := by
    intro S hS
    rw [mem_GL (by omega), asB_ok hs hS]
    exact ⟨fun h => h.2, fun h => ⟨hS, h⟩⟩
  rw [← eA]
  refine Nat.le_antisymm ?_ (Nat.max_le.mpr ⟨?_, ?_⟩)
  · refine hire_ub h0 h0' (new_low hn) hsp (2 ^ n - 1) hA _ (Nat.le_max_left _ _) (fun S hS _ => Nat.le_trans ?_ (Nat.le_max_right _ _))
    have hSn : S < 2 ^ n := GL_lt S hS
    obtain ⟨c1, c2⟩ := (hcond S hSn).mp hS
    refine hrF_ge ?_ c1 c2 (2 ^ n) hSn
    rcases Nat.eq_zero_or_pos S with e | e
    · subst e
      have : bitsN 0 8 = 0 := by decide
      omega
    · exact e
  · rw [← most_low h0 h0' (new_low hn) (2 ^ n - 1) hA]
    exact mostV_mono h0' _ _ (nd0_of fun i hi => by rw [or_bit, hi]; rfl)
  · refine hrF_ub (2 ^ n) (fun S hS c1 c2 => ?_)
    have hm := (new_hi hn h2 hS).mpr ((hcond S hS).mpr ⟨c1, c2⟩)
    have h3 := mostV_a (S := (2 ^ n - 1) ||| 2 ^ n) h0' hm (nd0_of fun i hi => by
      rw [or_bit, Bool.or_eq_true, decide_eq_true_eq] at hi ⊢
      rcases hi with h | h
      · exact Or.inl (sub_bit (hsub S hS) h)
      · exact Or.inr h)
    rw [nd_or2 hA, most_low h0 h0' (new_low hn) _ (Nat.lt_of_le_of_lt (nd_le _ S) hA)] at h3
    exact h3
theorem hire_i (hn : n ≤ 7) (h2 : 2 ≤ st) (hs : kSym K n) : nI (mostV (GL (newK K n n) (n + 1) st) (2 ^ (n + 1) - 1)) - nI (mostV (GL K n st) (2 ^ n - 1)) = nI (hrF (GL K n st) K n st (2 ^ n) - mostV (GL K n st) (2 ^ n - 1)) := by
  rw [hire_v hn h2 hs, pk_sub (Nat.le_max_left _ _)]
  exact congrArg nI (by omega)
end HG
