/-! PLAIN LAWS 1: groups by membership; whether a set has a group; the groups that a pair closes -/
theorem okM_iff {K : Nat → Nat → Int32} {S p : Nat} : okM K S p = true ↔ ∀ q, q < p → S.testBit q = true → K p q = -1 := okS_iff p
theorem okM_c {K : Nat → Nat → Int32} {S S' p : Nat} (h : ∀ i, i < p → S.testBit i = S'.testBit i) : okM K S p = okM K S' p := by
  rw [Bool.eq_iff_iff, okM_iff, okM_iff]
  exact ⟨fun a q hq hb => a q hq (by rw [h q hq]; exact hb), fun a q hq hb => a q hq (by rw [← h q hq]; exact hb)⟩
theorem bit_hi {S f p : Nat} (h : S < 2 ^ f) (hp : f ≤ p) : S.testBit p = false := Nat.testBit_lt_two_pow (Nat.lt_of_lt_of_le h (Nat.pow_le_pow_right (by decide) hp))
theorem or_bit {S p i : Nat} : (S ||| 2 ^ p).testBit i = (S.testBit i || decide (p = i)) := by rw [Nat.testBit_or, Nat.testBit_two_pow]
theorem eq_of_bits {a b n : Nat} (ha : a < 2 ^ n) (hb : b < 2 ^ n) (h : ∀ i, i < n → a.testBit i = b.testBit i) : a = b := by
  apply Nat.eq_of_testBit_eq
  intro i
  by_cases hi : i < n
  · exact h i hi
  · rw [bit_hi ha (by omega), bit_hi hb (by omega)]
theorem bits_eq {S g : Nat} (hg : g < 2 ^ 8) (h : nd S g = 0) (hb : bitsN g 8 = bitsN S 8) : g = S := by
  have h1 := bits_nd h 8
  have h2 : nd g S = 0 := by
    by_cases e : nd g S = 0
    · exact e
    · have := bits_pos 8 (Nat.lt_of_le_of_lt (nd_le g S) hg) e
      omega
  exact Nat.le_antisymm (nd0_le h2) (nd0_le h)
theorem mem_gF {K : Nat → Nat → Int32} {n st g : Nat} (hn : n ≤ 8) : ∀ r S k, r ≤ n → S < 2 ^ (n - r) → bitsN S 8 = k → k ≤ st → (g ∈ gF (okM K) n st r S k ↔ g < 2 ^ n ∧ bitsN g 8 = st ∧ (∀ i, i < n - r → g.testBit i = S.testBit i) ∧ ∀ p, n - r ≤ p → p < n → g.testBit p = true → okM K g p = true)
  | 0, S, k, _, hS, hb, hk => by
    rw [gF]
    rw [Nat.sub_zero] at hS ⊢
    constructor
    · intro h
      split at h
      · rename_i e
        rw [List.mem_singleton] at h
        subst h
        exact ⟨hS, by omega, fun _ _ => rfl, fun p h1 h2 => absurd h1 (by omega)⟩
      · cases h
    · rintro ⟨h1, h2, h3, -⟩
      have e : g = S := eq_of_bits h1 hS h3
      rw [if_pos (by rw [← hb, ← e]; exact h2)]
      exact List.mem_singleton.mpr e
  | r + 1, S, k, hr, hS, hb, hk => by
    have hn8 : 2 ^ n ≤ 2 ^ 8 := Nat.pow_le_pow_right (by decide) hn
    have hSn : S < 2 ^ n := Nat.lt_of_lt_of_le hS (Nat.pow_le_pow_right (by decide) (by omega))
    by_cases e : k = st
    · subst e
      rw [gF_full, List.mem_singleton]
      constructor
      · intro h
        subst h
        refine ⟨hSn, hb, fun _ _ => rfl, fun q h1 h2 h3 => ?_⟩
        rw [bit_hi hS h1] at h3; cases h3
      · rintro ⟨h1, h2, h3, -⟩
        refine bits_eq (by omega) (nd0_of fun i hi => ?_) (by omega)
        rw [h3 i (lt_bit hS hi)]; exact hi
    · obtain ⟨p, hp⟩ : ∃ p, n - (r + 1) = p := ⟨_, rfl⟩
      have hp1 : n - r = p + 1 := by omega
      have hpn : p < n := by omega
      have hSp : S < 2 ^ p := hp ▸ hS
      have hS1 : S < 2 ^ (p + 1) := Nat.lt_of_lt_of_le hSp (Nat.pow_le_pow_right (by decide) (by omega))
      have i1 := mem_gF (g := g) (K := K) (st := st) hn r S k (by omega) (by rw [hp1]; exact hS1) hb hk
      rw [hp1] at i1
      by_cases ho : okM K S p = true
      · have i2 := mem_gF (g := g) (K := K) (st := st) hn r (S ||| 2 ^ p) (k + 1) (by omega) (by rw [hp1]; exact or_lt hS1 (Nat.pow_lt_pow_right (by decide) (by omega))) (by rw [bitsN_new hSp 8 (by omega), hb]) (by omega)
        rw [hp1] at i2
        rw [gF_y e (by rw [hp]; exact ho), List.mem_append, hp, i1, i2]
        constructor
        · rintro (⟨a1, a2, a3, a4⟩ | ⟨a1, a2, a3, a4⟩)
          · refine ⟨a1, a2, fun i hi => ?_, fun q h1 h2 h3 => ?_⟩
            · rw [a3 i (by omega), or_bit, decide_eq_false (by omega), Bool.or_false]
            · by_cases e2 : q = p
              · subst e2
                rw [← ho]
                exact okM_c (fun i hi => by rw [a3 i (by omega), or_bit, decide_eq_false (by omega), Bool.or_false])
              · exact a4 q (by omega) h2 h3
          · refine ⟨a1, a2, fun i hi => a3 i (by omega), fun q h1 h2 h3 => ?_⟩
            by_cases e2 : q = p
            · subst e2
              rw [a3 q (by omega), bit_hi hSp (by omega)] at h3; cases h3
            · exact a4 q (by omega) h2 h3
        · rintro ⟨a1, a2, a3, a4⟩
          cases hg : g.testBit p
          · right
            refine ⟨a1, a2, fun i hi => ?_, fun q h1 h2 h3 => a4 q (by omega) h2 h3⟩
            by_cases e2 : i = p
            · subst e2; rw [hg, bit_hi hSp (by omega)]
            · exact a3 i (by omega)
          · left
            refine ⟨a1, a2, fun i hi => ?_, fun q h1 h2 h3 => a4 q (by omega) h2 h3⟩
            rw [or_bit]
            by_cases e2 : i = p
            · subst e2; rw [hg, decide_eq_true rfl, Bool.or_true]
            · rw [decide_eq_false (by omega), Bool.or_false]; exact a3 i (by omega)
      · have ho' : okM K S p = false := Bool.eq_false_iff.mpr ho
        rw [gF_n e (by rw [hp]; exact ho'), hp, i1]
        constructor
        · rintro ⟨a1, a2, a3, a4⟩
          refine ⟨a1, a2, fun i hi => a3 i (by omega), fun q h1 h2 h3 => ?_⟩
          by_cases e2 : q = p
          · subst e2
            rw [a3 q (by omega), bit_hi hSp (by omega)] at h3; cases h3
          · exact a4 q (by omega) h2 h3
        · rintro ⟨a1, a2, a3, a4⟩
          refine ⟨a1, a2, fun i hi => ?_, fun q h1 h2 h3 => a4 q (by omega) h2 h3⟩
          by_cases e2 : i = p
          · subst e2
            rw [bit_hi hSp (by omega)]
            cases hg : g.testBit i
            · rfl
            · exact absurd ((okM_c (fun j hj => (a3 j hj).symm)).trans (a4 i (Nat.le_refl _) hpn hg)) ho
          · exact a3 i (by omega)
theorem mem_GL {K : Nat → Nat → Int32} {n st g : Nat} (hn : n ≤ 8) : g ∈ GL K n st ↔ g < 2 ^ n ∧ bitsN g 8 = st ∧ ∀ p, p < n → g.testBit p = true → okM K g p = true := by
  have h := mem_gF (K := K) (st := st) (g := g) hn n 0 0 (Nat.le_refl n) (Nat.two_pow_pos _) (by decide) (Nat.zero_le st)
  rw [GL, h]
  rw [Nat.sub_self]
  exact ⟨fun ⟨a, b, _, d⟩ => ⟨a, b, fun p hp => d p (Nat.zero_le p) hp⟩, fun ⟨a, b, d⟩ => ⟨a, b, fun i hi => absurd hi (Nat.not_lt_zero i), fun p _ hp => d p hp⟩⟩
theorem isGrp_mem {K : Nat → Nat → Int32} {n st S : Nat} (hn : n ≤ 8) (hS : S < 2 ^ n) : isGrp K n st S = decide (S ∈ GL K n st) := by
  unfold isGrp
  refine decide_eq_decide.mpr ?_
  rw [mem_GL hn]
  constructor
  · rintro ⟨h1, h2⟩
    exact ⟨hS, h1, fun p hp hb => okM_iff.mpr fun q hq hbq => h2 p hp q hq hb hbq⟩
  · rintro ⟨-, h1, h2⟩
    exact ⟨h1, fun p hp q hq hb hbq => okM_iff.mp (h2 p hp hb) q hq hbq⟩
theorem gF_sub {ok : Nat → Nat → Bool} {n st : Nat} : ∀ r S k, ∀ g ∈ gF ok n st r S k, nd S g = 0
  | 0, S, k, g, hg => by
    rw [gF] at hg
    split at hg
    · rw [List.mem_singleton] at hg; subst hg; exact nd0_of fun _ h => h
    · cases hg
  | r + 1, S, k, g, hg => by
    rw [gF] at hg
    split at hg
    · rw [List.mem_singleton] at hg; subst hg; exact nd0_of fun _ h => h
    · rcases List.mem_append.mp hg with h | h
      · split at h
        · have := gF_sub r _ _ g h
          exact nd0_of fun i hi => sub_bit this (by rw [Nat.testBit_or, hi]; rfl)
        · cases h
      · exact gF_sub r _ _ g h
theorem grB_gF {K : Nat → Nat → Int32} {n st S0 : Nat} (hs : kSym K n) : ∀ r S k M M0, r ≤ n → S < 2 ^ (n - r) → nd S S0 = 0 → k ≤ st → mayM K n S M0 (n - r) → (∀ p, n - r ≤ p → p < n → M.testBit p = (S0.testBit p && M0.testBit p)) → (grB K n r M (st - k) = true ↔ ∃ g, g ∈ gF (okM K) n st r S k ∧ nd g S0 = 0)
  | 0, S, k, M, M0, _, _, h0, hk, _, _ => by
    by_cases e : k = st
    · subst e
      rw [Nat.sub_self, grB_z, gF_full]
      exact ⟨fun _ => ⟨S, List.mem_singleton.mpr rfl, h0⟩, fun _ => rfl⟩
    · rw [grB_e (by omega), gF_0 _ e]
      exact ⟨fun h => (Bool.false_ne_true h).elim, fun ⟨g, h, _⟩ => by cases h⟩
  | r + 1, S, k, M, M0, hr, hS, h0, hk, hm, hM => by
    by_cases e : k = st
    · subst e
      rw [Nat.sub_self, grB_z, gF_full]
      exact ⟨fun _ => ⟨S, List.mem_singleton.mpr rfl, h0⟩, fun _ => rfl⟩
    · obtain ⟨p, hp⟩ : ∃ p, n - (r + 1) = p := ⟨_, rfl⟩
      have hp1 : n - r = p + 1 := by omega
      have hpn : p < n := by omega
      have hSp : S < 2 ^ p := hp ▸ hS
      have hS1 : S < 2 ^ (p + 1) := Nat.lt_of_lt_of_le hSp (Nat.pow_le_pow_right (by decide) (by omega))
      rw [hp] at hm hM
      have i1 := grB_gF (st := st) (S0 := S0) hs r S k M M0 (by omega) (by rw [hp1]; exact hS1) h0 hk (by rw [hp1]; exact hm.mono (by omega)) (fun q h1 h2 => hM q (by omega) h2)
      have es := grB_s (K := K) (n := n) (Z := M) (m := st - k) (p := p) (by omega) hpn
      have en1 : n - p = r + 1 := by rw [← hp]; exact Nat.sub_sub_self hr
      have en2 : n - (p + 1) = r := by omega
      rw [en1, en2] at es
      rw [es, Bool.or_eq_true, Bool.and_eq_true, i1]
      by_cases ho : okM K S p = true
      · rw [gF_y e (by rw [hp]; exact ho), hp]
        by_cases hb : S0.testBit p = true
        · have hMp : M.testBit p = true := by rw [hM p (Nat.le_refl _) hpn, hb, (hm p (Nat.le_refl _) hpn).mpr ho]; rfl
          have i2 := grB_gF (st := st) (S0 := S0) hs r (S ||| 2 ^ p) (k + 1) (M &&& strS K p n) (M0 &&& strS K p n) (by omega) (by rw [hp1]; exact or_lt hS1 (Nat.pow_lt_pow_right (by decide) (by omega)))
            (nd0_of fun i hi => by
              rw [or_bit, Bool.or_eq_true, decide_eq_true_eq] at hi
              rcases hi with h | h
              · exact sub_bit h0 h
              · rw [← h]; exact hb) (by omega) (by rw [hp1]; exact mayM_s hs hm hpn (Nat.le_refl _)) (fun q h1 h2 => by rw [Nat.testBit_and, Nat.testBit_and, hM q (by omega) h2, Bool.and_assoc])
          rw [show st - k - 1 = st - (k + 1) by omega, i2]
          constructor
          · rintro (⟨-, g, h1, h2⟩ | ⟨g, h1, h2⟩)
            · exact ⟨g, List.mem_append_left _ h1, h2⟩
            · exact ⟨g, List.mem_append_right _ h1, h2⟩
          · rintro ⟨g, h1, h2⟩
            rcases List.mem_append.mp h1 with h | h
            · exact Or.inl ⟨hMp, g, h, h2⟩
            · exact Or.inr ⟨g, h, h2⟩
        · have hMp : ¬ M.testBit p = true := by
            rw [hM p (Nat.le_refl _) hpn, Bool.eq_false_iff.mpr hb, Bool.false_and]; exact Bool.false_ne_true
          constructor
          · rintro (⟨h, -⟩ | ⟨g, h1, h2⟩)
            · exact absurd h hMp
            · exact ⟨g, List.mem_append_right _ h1, h2⟩
          · rintro ⟨g, h1, h2⟩
            rcases List.mem_append.mp h1 with h | h
            · exact absurd (sub_bit h2 (sub_bit (gF_sub r _ _ g h) (by rw [or_bit, decide_eq_true rfl, Bool.or_true]))) hb
            · exact Or.inr ⟨g, h, h2⟩
      · rw [gF_n e (by rw [hp]; exact Bool.eq_false_iff.mpr ho)]
        have hMp : ¬ M.testBit p = true := by
          intro h
          rw [hM p (Nat.le_refl _) hpn, Bool.and_eq_true] at h
          exact ho ((hm p (Nat.le_refl _) hpn).mp h.2)
        exact ⟨fun h => h.elim (fun z => absurd z.1 hMp) id, Or.inr⟩
theorem cntL_0 {S : Nat} : ∀ L : List Nat, cntL S L = 0 ↔ ∀ g ∈ L, ¬ nd g S = 0
  | [] => ⟨fun _ g h => (by cases h), fun _ => rfl⟩
  | g :: t => by
    rw [cntL]
    constructor
    · intro h x hx e
      have h1 : cntL S t = 0 := by omega
      rcases List.mem_cons.mp hx with h2 | h2
      · subst h2; rw [if_pos e] at h; omega
      · exact (cntL_0 t).mp h1 x h2 e
    · intro h
      rw [if_neg (h g List.mem_cons_self), (cntL_0 t).mpr fun x hx => h x (List.mem_cons_of_mem _ hx)]
theorem grB_cnt {K : Nat → Nat → Int32} {n st Z : Nat} (hs : kSym K n) : grB K n n Z st = true ↔ ¬ cntL Z (GL K n st) = 0 := by
  have h := grB_gF (K := K) (n := n) (st := st) (S0 := Z) hs n 0 0 Z (2 ^ n - 1) (Nat.le_refl n) (Nat.two_pow_pos _) (nd_0 Z) (Nat.zero_le st) (by rw [Nat.sub_self]; exact mayM_all) (fun p _ hp => by rw [Nat.testBit_two_pow_sub_one, decide_eq_true hp, Bool.and_true])
  rw [Nat.sub_zero] at h
  rw [h, cntL_0]
  constructor
  · rintro ⟨g, h1, h2⟩ h3
    exact h3 g h1 h2
  · intro h3
    refine Classical.byContradiction fun h4 => h3 fun g hg e => h4 ⟨g, hg, e⟩
theorem grB_dec {K : Nat → Nat → Int32} {n st Z : Nat} (hs : kSym K n) : grB K n n Z st = !decide (cntL Z (GL K n st) = 0) := by
  rw [Bool.eq_iff_iff, grB_cnt hs, Bool.not_eq_true', decide_eq_false_iff_not]
/-! the groups that a pair closes -/
theorem gF_kn {K : Nat → Nat → Int32} {n st a b : Nat} (hab : a < b) (hb : b < n) : ∀ r S k, r ≤ n → S < 2 ^ (n - r) → ¬ (S.testBit a = true ∧ S.testBit b = true) → gF (okM (knF K a b 0)) n st r S k = (gF (okM K) n st r S k).filter (fun g => !(g.testBit a && g.testBit b))
  | 0, S, k, _, _, hn => by
    rw [gF, gF]
    split
    · rw [List.filter_cons_of_pos (by rw [Bool.not_eq_true', Bool.eq_false_iff]; rw [Ne, Bool.and_eq_true]; exact hn)]; rfl
    · rfl
  | r + 1, S, k, hr, hS, hn => by
    have keep : [S].filter (fun g => !(g.testBit a && g.testBit b)) = [S] := by
      rw [List.filter_cons_of_pos (by rw [Bool.not_eq_true', Bool.eq_false_iff]; rw [Ne, Bool.and_eq_true]; exact hn)]; rfl
    by_cases e : k = st
    · subst e
      rw [gF_full, gF_full, keep]
    · obtain ⟨p, hp⟩ : ∃ p, n - (r + 1) = p := ⟨_, rfl⟩
      have hp1 : n - r = p + 1 := by omega
      have hSp : S < 2 ^ p := hp ▸ hS
      have hS1 : S < 2 ^ (p + 1) := Nat.lt_of_lt_of_le hSp (Nat.pow_le_pow_right (by decide) (by omega))
      have i1 := gF_kn (K := K) (st := st) hab hb r S k (by omega) (by rw [hp1]; exact hS1) hn
      by_cases hc : p = b ∧ S.testBit a = true
      · have hno : okM (knF K a b 0) S p = false := by
          refine Bool.eq_false_iff.mpr fun h => ?_
          have := okM_iff.mp h a (by omega) hc.2
          rw [hc.1, knF, if_pos (Or.inr ⟨rfl, rfl⟩)] at this
          exact absurd this (by decide)
        rw [gF_n e (by rw [hp]; exact hno), i1]
        by_cases ho : okM K S p = true
        · rw [gF_y e (by rw [hp]; exact ho), hp, List.filter_append]
          have hz : (gF (okM K) n st r (S ||| 2 ^ p) (k + 1)).filter (fun g => !(g.testBit a && g.testBit b)) = [] := by
            refine List.filter_eq_nil_iff.mpr fun g hg h => ?_
            have h1 := gF_sub r _ _ g hg
            have ha : g.testBit a = true := sub_bit h1 (by rw [or_bit, hc.2]; rfl)
            have hb9 : g.testBit b = true := sub_bit h1 (by rw [or_bit, decide_eq_true hc.1, Bool.or_true])
            rw [ha, hb9] at h; cases h
          rw [hz, List.nil_append]
        · rw [gF_n e (by rw [hp]; exact Bool.eq_false_iff.mpr ho)]
      · have hsame : okM (knF K a b 0) S p = okM K S p := by
          rw [Bool.eq_iff_iff, okM_iff, okM_iff]
          have hk : ∀ q, q < p → S.testBit q = true → knF K a b 0 p q = K p q := fun q h1 h2 => by
            rw [knF, if_neg]
            rintro (⟨h3, h4⟩ | ⟨h3, h4⟩)
            · omega
            · exact hc ⟨h3, h4 ▸ h2⟩
          exact ⟨fun h q h1 h2 => (hk q h1 h2).symm.trans (h q h1 h2), fun h q h1 h2 => (hk q h1 h2).trans (h q h1 h2)⟩
        by_cases ho : okM K S p = true
        · have hn2 : ¬ ((S ||| 2 ^ p).testBit a = true ∧ (S ||| 2 ^ p).testBit b = true) := by
            rw [or_bit, or_bit, Bool.or_eq_true, Bool.or_eq_true, decide_eq_true_eq, decide_eq_true_eq]
            rintro ⟨h1 | h1, h2 | h2⟩
            · exact hn ⟨h1, h2⟩
            · exact hc ⟨h2, h1⟩
            · have := lt_bit hSp h2; omega
            · omega
          have i2 := gF_kn (K := K) (st := st) hab hb r (S ||| 2 ^ p) (k + 1) (by omega) (by rw [hp1]; exact or_lt hS1 (Nat.pow_lt_pow_right (by decide) (by omega))) hn2
          rw [gF_y e (by rw [hp]; exact hsame.trans ho), gF_y e (by rw [hp]; exact ho), hp, List.filter_append, i1, i2]
        · have ho' := Bool.eq_false_iff.mpr ho
          rw [gF_n e (by rw [hp]; exact hsame.trans ho'), gF_n e (by rw [hp]; exact ho'), i1]
theorem cnt_all {n : Nat} : ∀ L : List Nat, (∀ g ∈ L, g < 2 ^ n) → cntL (2 ^ n - 1) L = L.length
  | [], _ => rfl
  | g :: t, h => by
    rw [cntL, if_pos (nd0_of fun i hi => by rw [Nat.testBit_two_pow_sub_one, decide_eq_true (lt_bit (h g List.mem_cons_self) hi)]), cnt_all t fun x hx => h x (List.mem_cons_of_mem _ hx), List.length_cons]
    omega
theorem clN_f (a b : Nat) : ∀ L : List Nat, (L.filter (fun g => !(g.testBit a && g.testBit b))).length + clN a b L = L.length
  | [] => rfl
  | g :: t => by
    have ih := clN_f a b t
    rw [clN, List.filter_cons, List.length_cons]
    by_cases h : g.testBit a = true ∧ g.testBit b = true
    · rw [if_pos h, if_neg (by rw [h.1, h.2]; decide)]
      omega
    · rw [if_neg h, if_pos (by rw [Bool.not_eq_true', Bool.eq_false_iff]; rw [Ne, Bool.and_eq_true]; exact h), List.length_cons]
      omega
theorem clN_comm (a b : Nat) : ∀ L : List Nat, clN a b L = clN b a L
  | [] => rfl
  | g :: t => by
    rw [clN, clN, clN_comm a b t]
    by_cases h : g.testBit a = true ∧ g.testBit b = true
    · rw [if_pos h, if_pos ⟨h.2, h.1⟩]
    · rw [if_neg h, if_neg fun z => h ⟨z.2, z.1⟩]
theorem cls_lt {K : Nat → Nat → Int32} {n st a b : Nat} (hab : a < b) (hb : b < n) : clsV K n st a b = nI (clN a b (GL K n st)) := by
  unfold clsV
  have e : GL (knF K a b 0) n st = (GL K n st).filter (fun g => !(g.testBit a && g.testBit b)) := gF_kn hab hb n 0 0 (Nat.le_refl n) (Nat.two_pow_pos _) (by rw [Nat.zero_testBit]; exact fun h => Bool.false_ne_true h.1)
  have h := clN_f a b (GL K n st)
  rw [cnt_all _ GL_lt, cnt_all _ GL_lt, e, pk_sub (by omega)]
  exact congrArg nI (by omega)
theorem cls_cl {K : Nat → Nat → Int32} {n st a b : Nat} (ha : a < n) (hb : b < n) (hab : a ≠ b) : clsV K n st a b = nI (clN a b (GL K n st)) := by
  rcases Nat.lt_or_gt_of_ne hab with h | h
  · exact cls_lt h hb
  · have e : clsV K n st a b = clsV K n st b a := by unfold clsV; rw [knF_comm]
    rw [e, cls_lt h ha, clN_comm]
