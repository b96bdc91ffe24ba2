/-! SPEC 5: who comes, a day -/
def comP (hour : Nat → Int32) (h : Nat) : Nat → List Nat
  | 0 => []
  | p + 1 => if hour p = nI h then comP hour h p ++ [p] else comP hour h p
def comH (hour : Nat → Int32) (n : Nat) : Nat → List Nat
  | 0 => []
  | h + 1 => comH hour n h ++ comP hour h n
def comL (hour : Nat → Int32) (n : Nat) : List Nat := comH hour n 24
def sN (f : Nat → Nat) : Nat → Nat
  | 0 => 0
  | p + 1 => sN f p + f p
theorem sN_add (f g : Nat → Nat) : ∀ n, sN (fun q => f q + g q) n = sN f n + sN g n
  | 0 => rfl
  | n + 1 => by rw [sN, sN, sN, sN_add f g n]; omega
theorem sN_le {f : Nat → Nat} (h : ∀ q, f q ≤ 1) : ∀ n, sN f n ≤ n
  | 0 => Nat.le_refl 0
  | n + 1 => by have := sN_le h n; have := h n; rw [sN]; omega
theorem sN_one {f : Nat → Nat} : ∀ n, (∀ q, q < n → f q = 1) → sN f n = n
  | 0, _ => rfl
  | n + 1, h => by rw [sN, sN_one n (fun q hq => h q (by omega)), h n (by omega)]
theorem sN_lt {f : Nat → Nat} {p n : Nat} (hp : p < n) : sN f p + f p ≤ sN f n := by
  induction n with
  | zero => omega
  | succ n ih =>
    rw [sN]
    rcases Nat.lt_or_ge p n with h | h
    · have := ih h; omega
    · have e : p = n := by omega
      subst e; omega
def aH (hour : Nat → Int32) : Nat → Nat → Nat
  | 0, _ => 0
  | h + 1, q => aH hour h q + if hour q = nI h then 1 else 0
theorem aH_0 {hour : Nat → Int32} {q x : Nat} (hx : hour q = nI x) (hx2 : x < 2 ^ 31) : ∀ h, h ≤ x → aH hour h q = 0
  | 0, _ => rfl
  | h + 1, hh => by
    rw [aH, aH_0 hx hx2 h (by omega), if_neg (by rw [hx, n_eq hx2 (by omega)]; omega)]
theorem aH_1 {hour : Nat → Int32} {q x : Nat} (hx : hour q = nI x) (hx2 : x < 2 ^ 31) : ∀ h, x < h → h < 2 ^ 31 → aH hour h q = 1
  | 0, hh, _ => absurd hh (Nat.not_lt_zero _)
  | h + 1, hh, h2 => by
    rw [aH]
    rcases Nat.lt_or_ge x h with h3 | h3
    · rw [aH_1 hx hx2 h h3 (by omega), if_neg (by rw [hx, n_eq hx2 (by omega)]; omega)]
    · have e : x = h := by omega
      subst e
      rw [aH_0 hx hx2 x (Nat.le_refl x), if_pos hx]
theorem aH_le {hour : Nat → Int32} (q : Nat) : ∀ h, h < 2 ^ 31 → aH hour h q ≤ 1
  | 0, _ => Nat.zero_le _
  | h + 1, h2 => by
    by_cases e : hour q = nI h
    · rw [aH_1 e (by omega) (h + 1) (by omega) h2]; exact Nat.le_refl 1
    · rw [aH, if_neg e]; exact aH_le q h (by omega)
theorem comP_len (hour : Nat → Int32) (h : Nat) : ∀ p, (comP hour h p).length = sN (fun q => if hour q = nI h then 1 else 0) p
  | 0 => rfl
  | p + 1 => by
    rw [comP, sN, ← comP_len hour h p]
    by_cases e : hour p = nI h
    · rw [if_pos e, if_pos e, List.length_append]; rfl
    · rw [if_neg e, if_neg e]; rfl
theorem comH_len (hour : Nat → Int32) (n : Nat) : ∀ h, (comH hour n h).length = sN (aH hour h) n
  | 0 => by
    have : ∀ n, sN (aH hour 0) n = 0 := fun n => by
      induction n with
      | zero => rfl
      | succ n ih => rw [sN, ih]; rfl
    rw [this]; rfl
  | h + 1 => by
    rw [comH, List.length_append, comH_len hour n h, comP_len, ← sN_add]
    rfl
theorem com_lt {hour : Nat → Int32} {n h p : Nat} (hp : p < n) (hh : h < 2 ^ 31 - 1) (e : hour p = nI h) : (comH hour n h ++ comP hour h p).length + 1 ≤ n := by
  rw [List.length_append, comH_len, comP_len]
  have h1 := sN_lt (f := fun q => if hour q = nI h then 1 else 0) hp
  have h2 := sN_le (f := aH hour (h + 1)) (fun q => aH_le q _ (by omega)) n
  have h3 : sN (aH hour (h + 1)) n = sN (aH hour h) n + sN (fun q => if hour q = nI h then 1 else 0) n := by rw [← sN_add]; rfl
  simp only [e, if_true] at h1
  omega
theorem comL_len {hour : Nat → Int32} {n : Nat} (h : ∀ p, p < n → ∃ x, x < 24 ∧ hour p = nI x) : (comL hour n).length = n := by
  rw [comL, comH_len]
  refine sN_one n (fun q hq => ?_)
  obtain ⟨x, hx, e⟩ := h q hq
  exact aH_1 e (by omega) 24 hx (by decide)
theorem comP_mem {hour : Nat → Int32} {h : Nat} : ∀ p, ∀ x ∈ comP hour h p, x < p
  | 0, x, hx => by cases hx
  | p + 1, x, hx => by
    rw [comP] at hx
    split at hx
    · rcases List.mem_append.mp hx with h2 | h2
      · have := comP_mem p x h2; omega
      · rw [List.mem_singleton] at h2; omega
    · have := comP_mem p x hx; omega
theorem comH_mem {hour : Nat → Int32} {n : Nat} : ∀ h, ∀ x ∈ comH hour n h, x < n
  | 0, x, hx => by cases hx
  | h + 1, x, hx => by
    rw [comH] at hx
    rcases List.mem_append.mp hx with h2 | h2
    · exact comH_mem h x h2
    · exact comP_mem n x h2
theorem com_y {hour : Nat → Int32} {n h p : Nat} (e : hour p = nI h) : comH hour n h ++ comP hour h (p + 1) = (comH hour n h ++ comP hour h p) ++ [p] := by rw [comP, if_pos e, List.append_assoc]
theorem com_n {hour : Nat → Int32} {n h p : Nat} (e : ¬ hour p = nI h) : comH hour n h ++ comP hour h (p + 1) = comH hour n h ++ comP hour h p := by rw [comP, if_neg e]
theorem wrL_push (f : Nat → Int32) (L : List Nat) (x : Nat) : va_up (wrL f 0 L) L.length (nI x) = wrL f 0 (L ++ [x]) := by
  rw [wrL_one, ← wrL_app, Nat.zero_add]
def sumA (f : Nat → Int32) : Nat → Int32
  | 0 => 0
  | p + 1 => sumA f p + f p
/-- a set leaves -/
def leaveW (cost hour : Nat → Int32) (hr : Int32) (S n : Nat) (w : Nat → Int32) : Nat → Int32 := fun p => if p < n ∧ S.testBit p = true then cost p * (hr - hour p) else w p
theorem leaveW_0 (cost hour : Nat → Int32) (hr : Int32) (S : Nat) (w : Nat → Int32) : leaveW cost hour hr S 0 w = w := by
  funext p; unfold leaveW; rw [if_neg (by omega)]
theorem leaveW_y {cost hour : Nat → Int32} {hr : Int32} {S i : Nat} {w : Nat → Int32} (h : S.testBit i = true) : va_up (leaveW cost hour hr S i w) i (cost i * (hr - hour i)) = leaveW cost hour hr S (i + 1) w := by
  funext p
  unfold leaveW va_up
  by_cases e : p = i
  · subst e; rw [if_pos rfl, if_pos ⟨by omega, h⟩]
  · rw [if_neg e]
    show (if p < i ∧ S.testBit p = true then cost p * (hr - hour p) else w p) = _
    by_cases h2 : p < i ∧ S.testBit p = true
    · rw [if_pos h2, if_pos ⟨by omega, h2.2⟩]
    · rw [if_neg h2, if_neg (fun q => h2 ⟨by omega, q.2⟩)]
theorem leaveW_n {cost hour : Nat → Int32} {hr : Int32} {S i : Nat} {w : Nat → Int32} (h : S.testBit i = false) : va_up (leaveW cost hour hr S i w) i (leaveW cost hour hr S i w i) = leaveW cost hour hr S (i + 1) w := by
  funext p
  unfold leaveW va_up
  by_cases e : p = i
  · subst e; rw [if_pos rfl, if_neg (by omega), if_neg (by rw [h]; simp)]
  · rw [if_neg e]
    show (if p < i ∧ S.testBit p = true then cost p * (hr - hour p) else w p) = _
    by_cases h2 : p < i ∧ S.testBit p = true
    · rw [if_pos h2, if_pos ⟨by omega, h2.2⟩]
    · rw [if_neg h2, if_neg (fun q => h2 ⟨by omega, q.2⟩)]
/-- one after the other is sent, while the coachman sends -/
def sndF (sent : Nat → Nat) (cost hour : Nat → Int32) (now : Int32) (n : Nat) : Nat → List Nat → Nat → (Nat → Int32) → List Nat × Nat × (Nat → Int32)
  | 0, cs, y, w => (cs, y, w)
  | f + 1, cs, y, w => if sent y = 0 then (cs, y, w) else sndF sent cost hour now n f (cs ++ [sent y]) (nd y (sent y)) (leaveW cost hour now (sent y) n w)
def dayS (sent : Nat → Nat → Nat) (cost hour : Nat → Int32) (com : Nat → Nat) (n : Nat) (w0 : Nat → Int32) : Nat → List Nat × Nat × (Nat → Int32)
  | 0 => ([], 0, w0)
  | k + 1 => sndF (fun y => sent y (n - 1 - k)) cost hour (hour (com k)) n 512 (dayS sent cost hour com n w0 k).1 ((dayS sent cost hour com n w0 k).2.1 ||| 2 ^ com k) (dayS sent cost hour com n w0 k).2.2
theorem nd_0 (S : Nat) : nd 0 S = 0 := by unfold nd; rw [Nat.zero_and]; rfl
theorem firstL_sub (S : Nat) : ∀ L, nd (firstL S L) S = 0
  | [] => nd_0 S
  | g :: t => by
    rw [firstL]
    split
    · assumption
    · exact firstL_sub S t
theorem bestL_sub (L : List Nat) (S : Nat) : ∀ M, nd (bestL L S M) S = 0
  | [] => nd_0 S
  | g :: t => by
    rw [bestL]
    split
    · rename_i h; exact h.1
    · exact bestL_sub L S t
theorem foldl_P {α β : Type} {P : α → Prop} {L : List β} {f : α → β → α} (h : ∀ x ∈ L, ∀ b, P b → P (f b x)) : ∀ b, P b → P (L.foldl f b) := by
  induction L with
  | nil => intro b hb; exact hb
  | cons x t ih => intro b hb; exact ih (fun y hy => h y (List.mem_cons_of_mem _ hy)) _ (h x List.mem_cons_self b hb)
theorem sentV_sub (K : Nat → Nat → Int32) (cost : Nat → Int32) (n st kd a Y tc : Nat) : nd (sentV K cost n st kd a Y tc) Y = 0 := by
  unfold sentV
  split
  · exact nd_0 Y
  · split
    · exact firstL_sub _ _
    · split
      · exact bestL_sub _ _ _
      · refine foldl_P (P := fun b => nd b Y = 0) (fun x _ b hb => ?_) 0 (nd_0 Y)
        unfold chooseG
        split
        · rename_i h; exact h.1
        · exact hb
theorem sub_lt {s y N : Nat} (h : nd s y = 0) (hy : y < N) : s < N := by
  refine Nat.lt_of_le_of_lt (Nat.le_of_testBit fun i hi => ?_) hy
  have := congrArg (fun x => x.testBit i) h
  simp only [nd_bit, hi, Nat.zero_testBit, Bool.true_and] at this
  cases e : y.testBit i
  · rw [e] at this; cases this
  · rfl
theorem bits_nd {s y : Nat} (h : nd s y = 0) : ∀ k, bitsN (nd y s) k + bitsN s k = bitsN y k
  | 0 => rfl
  | k + 1 => by
    have ih := bits_nd h k
    have := congrArg (fun x => x.testBit k) h
    simp only [nd_bit, Nat.zero_testBit] at this
    rw [bitsN, bitsN, bitsN, nd_bit]
    cases hs : s.testBit k <;> cases hy : y.testBit k <;> rw [hs, hy] at this <;> simp_all <;> omega
theorem bits_pos {s : Nat} : ∀ k, s < 2 ^ k → s ≠ 0 → 1 ≤ bitsN s k
  | 0, h, h0 => by omega
  | k + 1, h, h0 => by
    rw [bitsN]
    cases e : s.testBit k
    · have : s < 2 ^ k := by
        rcases Nat.lt_or_ge s (2 ^ k) with h2 | h2
        · exact h2
        · exfalso
          have h3 : s.testBit k = true := by
            rw [Nat.testBit, Nat.shiftRight_eq_div_pow, show s / 2 ^ k = 1 by
              rw [Nat.pow_succ] at h
              exact Nat.div_eq_of_lt_le (by omega) (by omega)]
            rfl
          rw [h3] at e; cases e
      have := bits_pos k this h0
      omega
    · simp
theorem bits_or (y p : Nat) : ∀ k, bitsN (y ||| 2 ^ p) k ≤ bitsN y k + 1
  | 0 => Nat.zero_le _
  | k + 1 => by
    rcases Nat.lt_or_ge p k with h | h
    · have ih := bits_or y p k
      rw [bitsN, bitsN, Nat.testBit_or, Nat.testBit_two_pow_of_ne (by omega), Bool.or_false]
      omega
    · have : ∀ j, j ≤ p → bitsN (y ||| 2 ^ p) j = bitsN y j := fun j => by
        induction j with
        | zero => intro _; rfl
        | succ j ih => intro hj; rw [bitsN, bitsN, ih (by omega), Nat.testBit_or, Nat.testBit_two_pow_of_ne (by omega), Bool.or_false]
      rw [bitsN, bitsN, this k h]
      split <;> split <;> omega
theorem sndF_0 {sent : Nat → Nat} {cost hour : Nat → Int32} {now : Int32} {n f : Nat} {cs : List Nat} {y : Nat} {w : Nat → Int32} (hf : y < f) (h : sent y = 0) : sndF sent cost hour now n f cs y w = (cs, y, w) := by
  match f, hf with
  | f + 1, _ => rw [sndF, if_pos h]
theorem sndF_s {sent : Nat → Nat} {cost hour : Nat → Int32} {now : Int32} {n f : Nat} {cs : List Nat} {y : Nat} {w : Nat → Int32} (hf : y < f) (h : ¬ sent y = 0) : sndF sent cost hour now n f cs y w = sndF sent cost hour now n (f - 1) (cs ++ [sent y]) (nd y (sent y)) (leaveW cost hour now (sent y) n w) := by
  match f, hf with
  | f + 1, _ => rw [sndF, if_neg h]; rfl
def dayP (K : Nat → Nat → Int32) (cost hour : Nat → Int32) (n st kd a : Nat) (w0 : Nat → Int32) (k : Nat) : List Nat × Nat × (Nat → Int32) :=
  dayS (fun y tc => sentV K cost n st kd a y tc) cost hour (fun k => (comL hour n).getD k 0) n w0 k
theorem dayP_s {K : Nat → Nat → Int32} {cost hour : Nat → Int32} {n st kd a : Nat} {w0 : Nat → Int32} {k : Nat} {cs : List Nat} {y : Nat} {w : Nat → Int32} (h : (cs, y, w) = dayP K cost hour n st kd a w0 k) :
    sndF (fun y => sentV K cost n st kd a y (n - 1 - k)) cost hour (hour ((comL hour n).getD k 0)) n 512 cs (y ||| 2 ^ (comL hour n).getD k 0) w = dayP K cost hour n st kd a w0 (k + 1) := by
  show _ = dayS _ _ _ _ _ _ (k + 1)
  rw [dayS]
  unfold dayP at h
  rw [← h]
