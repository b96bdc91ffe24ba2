/-! SPEC 6: groups told, days, refusals -/
def isGrp (K : Nat → Nat → Int32) (n st S : Nat) : Bool := decide (bitsN S 8 = st ∧ ∀ p, p < n → ∀ q, q < p → S.testBit p = true → S.testBit q = true → K p q = -1)
theorem sndF_inv {sent : Nat → Nat} {cost hour : Nat → Int32} {now : Int32} {n k : Nat} (hs : ∀ y, nd (sent y) y = 0) : ∀ f cs y w, cs.length + bitsN y 8 ≤ k → y < 256 → (∀ g ∈ cs, g < 256) →
    (sndF sent cost hour now n f cs y w).1.length + bitsN (sndF sent cost hour now n f cs y w).2.1 8 ≤ k ∧ (sndF sent cost hour now n f cs y w).2.1 < 256 ∧ ∀ g ∈ (sndF sent cost hour now n f cs y w).1, g < 256
  | 0, cs, y, w, h1, h2, h3 => ⟨h1, h2, h3⟩
  | f + 1, cs, y, w, h1, h2, h3 => by
    rw [sndF]
    split
    · exact ⟨h1, h2, h3⟩
    · rename_i h0
      have hb := bits_nd (hs y) 8
      have hp := bits_pos 8 (sub_lt (hs y) h2) h0
      refine sndF_inv hs f _ _ _ ?_ (Nat.lt_of_le_of_lt (nd_le _ _) h2) ?_
      · rw [List.length_append]; simp only [List.length_singleton]; omega
      · intro g hg
        rcases List.mem_append.mp hg with h | h
        · exact h3 g h
        · rw [List.mem_singleton] at h; rw [h]; exact sub_lt (hs y) h2
theorem dayP_inv {K : Nat → Nat → Int32} {cost hour : Nat → Int32} {n st kd a : Nat} {w0 : Nat → Int32} (hn : n ≤ 7) (hh : ∀ q, q < n → ∃ x, x < 24 ∧ hour q = nI x) : ∀ k, k ≤ n →
    (dayP K cost hour n st kd a w0 k).1.length + bitsN (dayP K cost hour n st kd a w0 k).2.1 8 ≤ k ∧ (dayP K cost hour n st kd a w0 k).2.1 < 256 ∧ ∀ g ∈ (dayP K cost hour n st kd a w0 k).1, g < 256
  | 0, _ => ⟨by show 0 + bitsN 0 8 ≤ 0; decide, by show 0 < 256; decide, fun g hg => by cases hg⟩
  | k + 1, hk => by
    obtain ⟨h1, h2, h3⟩ := dayP_inv (K := K) (cost := cost) (st := st) (kd := kd) (a := a) (w0 := w0) hn hh k (by omega)
    have hck : (comL hour n).getD k 0 < n := comH_mem 24 _ (getD_mem (L := comL hour n) (i := k) (by rw [comL_len hh]; omega))
    have hck2 : 2 ^ ((comL hour n).getD k 0) < 2 ^ 8 := Nat.pow_lt_pow_right (by decide) (by omega)
    have hor := bits_or (dayP K cost hour n st kd a w0 k).2.1 ((comL hour n).getD k 0) 8
    rw [← dayP_s (cs := (dayP K cost hour n st kd a w0 k).1) (y := (dayP K cost hour n st kd a w0 k).2.1) (w := (dayP K cost hour n st kd a w0 k).2.2) rfl]
    exact sndF_inv (fun y => sentV_sub K cost n st kd a y (n - 1 - k)) _ _ _ _ (by omega) (or_lt (n := 8) h2 hck2) h3
def meetsK (n : Nat) (K : Nat → Nat → Int32) (L : List Nat) : Nat → Nat → Int32 := L.foldl (fun K g => meetK K g n) K
theorem meetsK_s {n : Nat} {K : Nat → Nat → Int32} {L : List Nat} {i : Nat} (hi : i < L.length) : meetsK n K (L.take (i + 1)) = meetK (meetsK n K (L.take i)) (L.getD i 0) n := by
  unfold meetsK
  rw [List.take_succ_eq_append_getElem hi, List.foldl_append, List.getD_eq_getElem?_getD, List.getElem?_eq_getElem hi]
  rfl
/-- a refusal is counted -/
def bumpR (f : Nat → Int32) (y : Int32) : Nat → Int32 := if y = 0 then f else va_up f (-y).toNatClampNeg (f (-y).toNatClampNeg + 1)
theorem bump_0 (f : Nat → Int32) : bumpR f 0 = f := if_pos rfl
theorem bump_2 (f : Nat → Int32) : bumpR f (-2) = va_up f 2 (f 2 + 1) := if_neg (by decide)
theorem bump_3 (f : Nat → Int32) : bumpR f (-3) = va_up f 3 (f 3 + 1) := if_neg (by decide)
theorem bump_4 (f : Nat → Int32) : bumpR f (-4) = va_up f 4 (f 4 + 1) := if_neg (by decide)
theorem bump_5 (f : Nat → Int32) : bumpR f (-5) = va_up f 5 (f 5 + 1) := if_neg (by decide)
theorem bump_6 (f : Nat → Int32) : bumpR f (-6) = va_up f 6 (f 6 + 1) := if_neg (by decide)
def noRowV (sh : Nat → Int32) (x : Int32) : Int32 := if 0 ≤ x.toInt ∧ x.toInt ≤ 7 then (if sh x.toNatClampNeg = 2 then -3 else if sh x.toNatClampNeg = 0 then -4 else 0) else -2
def noManV (sh : Nat → Int32) (x : Int32) : Int32 := if 0 ≤ x.toInt ∧ x.toInt ≤ 7 then (if sh x.toNatClampNeg = 1 then -3 else if sh x.toNatClampNeg = 0 then -4 else 0) else -2
theorem nat7 {x : Int32} (h : 0 ≤ x.toInt ∧ x.toInt ≤ 7) : ∃ P : Nat, P < 8 ∧ x = nI P := nat_of (k := 8) (by omega) (by decide)
theorem in7 {P : Nat} (h : P < 8) : 0 ≤ (nI P).toInt ∧ (nI P).toInt ≤ 7 := by rw [nI_toInt (by omega)]; omega
theorem noRowV_n {sh : Nat → Int32} {P : Nat} (h : P < 8) : noRowV sh (nI P) = if sh P = 2 then -3 else if sh P = 0 then -4 else 0 := by rw [noRowV, if_pos (in7 h), nI_clamp (by omega)]
theorem noManV_n {sh : Nat → Int32} {P : Nat} (h : P < 8) : noManV sh (nI P) = if sh P = 1 then -3 else if sh P = 0 then -4 else 0 := by rw [noManV, if_pos (in7 h), nI_clamp (by omega)]
theorem noRowV_0 {sh : Nat → Int32} {x : Int32} (h : noRowV sh x = 0) : ∃ P : Nat, P < 8 ∧ x = nI P ∧ ¬ sh P = 2 ∧ ¬ sh P = 0 := by
  by_cases h1 : 0 ≤ x.toInt ∧ x.toInt ≤ 7
  · obtain ⟨P, hP, rfl⟩ := nat7 h1
    rw [noRowV_n hP] at h
    refine ⟨P, hP, rfl, fun e => ?_, fun e => ?_⟩
    · rw [if_pos e] at h; exact absurd h (by decide)
    · rw [if_neg (by rw [e]; decide), if_pos e] at h; exact absurd h (by decide)
  · rw [noRowV, if_neg h1] at h; exact absurd h (by decide)
theorem noManV_0 {sh : Nat → Int32} {x : Int32} (h : noManV sh x = 0) : ∃ P : Nat, P < 8 ∧ x = nI P ∧ ¬ sh P = 1 ∧ ¬ sh P = 0 := by
  by_cases h1 : 0 ≤ x.toInt ∧ x.toInt ≤ 7
  · obtain ⟨P, hP, rfl⟩ := nat7 h1
    rw [noManV_n hP] at h
    refine ⟨P, hP, rfl, fun e => ?_, fun e => ?_⟩
    · rw [if_pos e] at h; exact absurd h (by decide)
    · rw [if_neg (by rw [e]; decide), if_pos e] at h; exact absurd h (by decide)
  · rw [noManV, if_neg h1] at h; exact absurd h (by decide)
def isUndV (mine k : Nat) : Bool := decide (k = 0 ∨ mine = k ∨ (k = 1 ∧ mine = 3) ∨ (k = 2 ∧ 4 ≤ mine))
def isLet (b : Int32) : Bool := decide (97 ≤ b ∧ b ≤ 122)
def isDig (b : Int32) : Bool := decide (48 ≤ b ∧ b ≤ 57)
