/-! X0: the pairs of all groups -/
theorem gF_bits (ok : Nat → Nat → Bool) (n st : Nat) (hn : n ≤ 8) : ∀ r S k, r ≤ n → S < 2 ^ (n - r) → bitsN S 8 = k → ∀ g ∈ gF ok n st r S k, bitsN g 8 = st
  | 0, S, k, hr, hS, hk, g, hg => by
    rw [gF] at hg
    split at hg
    · rename_i e
      rw [List.mem_singleton] at hg; rw [hg, hk, e]
    · cases hg
  | r + 1, S, k, hr, hS, hk, g, hg => by
    rw [gF] at hg
    split at hg
    · rename_i e
      rw [List.mem_singleton] at hg; rw [hg, hk, e]
    · rcases List.mem_append.mp hg with h | h
      · split at h
        · refine gF_bits ok n st hn r _ _ (by omega) ?_ ?_ g h
          · exact or_lt (Nat.lt_of_lt_of_le hS (Nat.pow_le_pow_right (by decide) (by omega))) (Nat.pow_lt_pow_right (by decide) (by omega))
          · rw [bitsN_new hS 8 (by omega), hk]
        · cases h
      · exact gF_bits ok n st hn r S k (by omega) (Nat.lt_of_lt_of_le hS (Nat.pow_le_pow_right (by decide) (by omega))) hk g h
theorem GL_bits {K : Nat → Nat → Int32} {n st : Nat} (hn : n ≤ 8) : ∀ g ∈ GL K n st, bitsN g 8 = st := gF_bits _ n st hn n 0 0 (Nat.le_refl n) (Nat.two_pow_pos _) (by decide)
theorem pair_ne : ∀ S, S < 128 → 2 ≤ bitsN S 8 → pairN S ≠ 0 := by decide +kernel
theorem pOk_GL {K : Nat → Nat → Int32} {n st : Nat} (hn : n ≤ 7) (h2 : 2 ≤ st) (h4 : st ≤ 4) : pOk ((GL K n st).map pairN) := by
  refine ⟨by rw [List.length_map]; exact GL_35' hn h4, fun x hx => ?_⟩
  obtain ⟨g, hg, e⟩ := List.mem_map.mp hx
  rw [← e]
  refine ⟨pairN_lt g, pair_ne g ?_ (by rw [GL_bits (by omega) g hg]; exact h2)⟩
  exact Nat.lt_of_lt_of_le (GL_lt g hg) (Nat.le_trans (Nat.pow_le_pow_right (by decide) hn) (by decide))
