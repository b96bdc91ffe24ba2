/-! SPEC 11: least, days -/
def lsT (K : Nat → Nat → Int32) (cost hour : Nat → Int32) (n st : Nat) : Int32 := lsV (GL K n st) (fun j => (comL hour n).getD j 0) cost hour n 0 0
def leastV (K : Nat → Nat → Int32) (cost hour : Nat → Int32) (n st : Nat) (x : Int32) : Int32 := if 0 ≤ x.toInt ∧ x.toInt ≤ 1 then (if x = 0 then lsT K cost hour n st / 10 else 9 - (lsT K cost hour n st - lsT K cost hour n st / 10 * 10)) else -2
theorem leastV_f {K : Nat → Nat → Int32} {cost hour : Nat → Int32} {n st : Nat} {x : Int32} (h : ¬ (0 ≤ x.toInt ∧ x.toInt ≤ 1)) : leastV K cost hour n st x = -2 := if_neg h
theorem leastV_0 {K : Nat → Nat → Int32} {cost hour : Nat → Int32} {n st : Nat} {x : Int32} (h : x = 0) : leastV K cost hour n st x = lsT K cost hour n st / 10 := by
  subst h; rfl
theorem leastV_1 {K : Nat → Nat → Int32} {cost hour : Nat → Int32} {n st : Nat} {x : Int32} (h : 0 ≤ x.toInt ∧ x.toInt ≤ 1) (h2 : ¬ x = 0) : leastV K cost hour n st x = 9 - (lsT K cost hour n st - lsT K cost hour n st / 10 * 10) := by rw [leastV, if_pos h, if_neg h2]
theorem lsMm_neg {L : List Nat} {com : Nat → Nat} {cost hour : Nat → Int32} {n : Nat} {m : Nat → Int32} (hn : n ≤ 7) (h : ∀ i, i < 1024 → m i = -1) : lsMm L com cost hour n m := by
  intro k lf hk hl hc
  rw [h _ (by omega)] at hc
  exact absurd (by decide) hc
theorem lt_s1 {m : Nat → Int32} {j : Nat} {v : Int32} (h : ∀ i, i < j → m i = v) : ∀ i, i < j + 1 → va_up m j v i = v := by
  intro i hi
  by_cases e : i = j
  · subst e; rw [va_up_s]
  · rw [va_up_n e]; exact h i (by omega)
theorem com_lt2 {hour : Nat → Int32} {n : Nat} (h : ∀ p, p < n → ∃ x, x < 24 ∧ hour p = nI x) : ∀ j, j < n → (comL hour n).getD j 0 < n := fun j hj => comH_mem 24 _ (getD_mem (L := comL hour n) (i := j) (by rw [comL_len h]; exact hj))
theorem sndF_w {sent : Nat → Nat} {cost hour : Nat → Int32} {now : Int32} {n : Nat} : ∀ f cs y w w', (sndF sent cost hour now n f cs y w).1 = (sndF sent cost hour now n f cs y w').1 ∧ (sndF sent cost hour now n f cs y w).2.1 = (sndF sent cost hour now n f cs y w').2.1
  | 0, _, _, _, _ => ⟨rfl, rfl⟩
  | f + 1, cs, y, w, w' => by
    rw [sndF, sndF]
    split
    · exact ⟨rfl, rfl⟩
    · exact sndF_w f _ _ _ _
theorem dayS_w {sent : Nat → Nat → Nat} {cost hour : Nat → Int32} {com : Nat → Nat} {n : Nat} {w w' : Nat → Int32} : ∀ k, (dayS sent cost hour com n w k).1 = (dayS sent cost hour com n w' k).1 ∧ (dayS sent cost hour com n w k).2.1 = (dayS sent cost hour com n w' k).2.1
  | 0 => ⟨rfl, rfl⟩
  | k + 1 => by
    have h := dayS_w (sent := sent) (cost := cost) (hour := hour) (com := com) (n := n) (w := w) (w' := w') k
    rw [dayS, dayS, h.1, h.2]
    exact sndF_w _ _ _ _ _
def dayC (K : Nat → Nat → Int32) (cost hour : Nat → Int32) (n st kd a : Nat) : List Nat := (dayP K cost hour n st kd a (fun _ => 0) n).1
theorem dayC_eq {K : Nat → Nat → Int32} {cost hour : Nat → Int32} {n st kd a : Nat} {w : Nat → Int32} : (dayP K cost hour n st kd a w n).1 = dayC K cost hour n st kd a := (dayS_w n).1
def daysN (cost hour : Nat → Int32) (n st kd a : Nat) : Nat → (Nat → Nat → Int32) → Nat
  | 0, _ => 0
  | f + 1, K => if (dayC K cost hour n st kd a).length = 0 then 0 else 1 + daysN cost hour n st kd a f (meetsK n K (dayC K cost hour n st kd a))
section DY
variable {cost hour : Nat → Int32} {n st kd a i t : Nat} {Kx : Nat → Nat → Int32} {w : Nat → Int32}
theorem daysN_s (hi : i < 30) (hT : i + daysN cost hour n st kd a (30 - i) Kx = t) (h : 0 < (dayP Kx cost hour n st kd a w n).1.length) : i + 1 + daysN cost hour n st kd a (30 - (i + 1)) (meetsK n Kx (dayP Kx cost hour n st kd a w n).1) = t := by
  rw [dayC_eq] at h ⊢
  rw [show 30 - i = (30 - (i + 1)) + 1 by omega, daysN, if_neg (by omega)] at hT
  omega
theorem daysN_e (hi : i < 30) (hT : i + daysN cost hour n st kd a (30 - i) Kx = t) (h : (dayP Kx cost hour n st kd a w n).1.length ≤ 0) : i = t := by
  rw [dayC_eq] at h
  rw [show 30 - i = (30 - (i + 1)) + 1 by omega, daysN, if_pos (by omega)] at hT
  omega
theorem daysN_t (hi : 30 ≤ i) (hT : i + daysN cost hour n st kd a (30 - i) Kx = t) : i = t := by
  rw [show 30 - i = 0 by omega, daysN] at hT
  omega
end DY
def daysV (sh kind by9 : Nat → Int32) (K : Nat → Nat → Int32) (cost hour : Nat → Int32) (n st : Nat) (x : Int32) : Int32 := if noManV sh x = 0 then nI (daysN cost hour n st (kind x.toNatClampNeg).toNatClampNeg (by9 x.toNatClampNeg).toNatClampNeg 30 K) else noManV sh x
theorem daysV_n {sh kind by9 : Nat → Int32} {K : Nat → Nat → Int32} {cost hour : Nat → Int32} {n st : Nat} {x : Int32} (h : ¬ noManV sh x = 0) : daysV sh kind by9 K cost hour n st x = noManV sh x := if_neg h
theorem daysV_y {sh kind by9 : Nat → Int32} {K : Nat → Nat → Int32} {cost hour : Nat → Int32} {n st P kd k9 : Nat} (h : noManV sh (nI P) = 0) (hP : P < 8) (h5 : kind P = nI kd) (hk : kd < 100) (h6 : by9 P = nI k9) (h9 : k9 < 100) : daysV sh kind by9 K cost hour n st (nI P) = nI (daysN cost hour n st kd k9 30 K) := by
  rw [daysV, if_pos h, nI_clamp (by omega), h5, h6, nI_clamp (by omega), nI_clamp (by omega)]
theorem nm8 {sh : Nat → Int32} {x : Int32} (h : noManV sh x = 0) : ∃ P : Nat, P < 8 ∧ x = nI P := by
  obtain ⟨P, h1, h2, -⟩ := noManV_0 h
  exact ⟨P, h1, h2⟩
theorem nr8 {sh : Nat → Int32} {x : Int32} (h : noRowV sh x = 0) : ∃ P : Nat, P < 8 ∧ x = nI P := by
  obtain ⟨P, h1, h2, -⟩ := noRowV_0 h
  exact ⟨P, h1, h2⟩
theorem cm_of {f g : Nat → Int32} {L : List Nat} {n : Nat} (e : f = wrL g 0 L) (hl : L.length = n) : ∀ j, j < n → f j = nI (L.getD j 0) := by
  intro j hj
  rw [e]
  exact wrL_in j (by omega)
