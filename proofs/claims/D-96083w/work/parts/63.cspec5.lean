/-! A DAY: how many coaches -/
theorem sndF_len {sent : Nat → Nat} {cost hour : Nat → Int32} {now : Int32} {n : Nat} (hs : ∀ y, nd (sent y) y = 0) : ∀ f cs y w, y < 256 → (sndF sent cost hour now n f cs y w).1.length + bitsN (sndF sent cost hour now n f cs y w).2.1 8 ≤ cs.length + bitsN y 8
  | 0, cs, y, w, h => Nat.le_refl _
  | f + 1, cs, y, w, h => by
    rw [sndF]
    by_cases h0 : sent y = 0
    · rw [if_pos h0]; exact Nat.le_refl _
    · rw [if_neg h0]
      have h1 := sub_lt (hs y) h
      have h2 := bits_pos 8 h1 h0
      have h3 := bits_nd (hs y) 8
      have h4 := nd_lt (hs y) h0
      have h5 := sndF_len (sent := sent) (cost := cost) (hour := hour) (now := now) (n := n) hs f (cs ++ [sent y]) (nd y (sent y)) (leaveW cost hour now (sent y) n w) (by omega)
      rw [List.length_append, List.length_singleton] at h5
      omega
