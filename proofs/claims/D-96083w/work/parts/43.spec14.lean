/-! SPEC 14: days thought, told days, those who come -/
def dayY (K : Nat → Nat → Int32) (cost hour : Nat → Int32) (n st kd a : Nat) : Nat := (dayP K cost hour n st kd a (fun _ => 0) n).2.1
theorem dayY_eq {K : Nat → Nat → Int32} {cost hour : Nat → Int32} {n st kd a : Nat} {w : Nat → Int32} : (dayP K cost hour n st kd a w n).2.1 = dayY K cost hour n st kd a := (dayS_w n).2
/-- how long each waits (times cost), a day run -/
def dayW (K : Nat → Nat → Int32) (cost hour : Nat → Int32) (n st kd a : Nat) : Nat → Int32 := leaveW cost hour 24 (dayY K cost hour n st kd a) n (dayP K cost hour n st kd a (fun _ => 0) n).2.2
theorem sndF_cov {sent : Nat → Nat} {cost hour : Nat → Int32} {now : Int32} {n p : Nat} (hp : p < n) : ∀ f cs y w w', (y.testBit p = false → w p = w' p) →
    ((sndF sent cost hour now n f cs y w).2.1.testBit p = false → (sndF sent cost hour now n f cs y w).2.2 p = (sndF sent cost hour now n f cs y w').2.2 p)
  | 0, cs, y, w, w', h => h
  | f + 1, cs, y, w, w', h => by
    rw [sndF, sndF]
    by_cases h0 : sent y = 0
    · rw [if_pos h0, if_pos h0]; exact h
    · rw [if_neg h0, if_neg h0]
      refine sndF_cov hp f _ _ _ _ (fun hb => ?_)
      rw [nd_bit] at hb
      unfold leaveW
      by_cases hs : p < n ∧ (sent y).testBit p = true
      · rw [if_pos hs, if_pos hs]
      · rw [if_neg hs, if_neg hs]
        refine h ?_
        cases hy : y.testBit p
        · rfl
        · rw [hy] at hb
          cases hz : (sent y).testBit p
          · rw [hz] at hb; cases hb
          · exact absurd ⟨hp, hz⟩ hs
theorem sndF_sub {sent : Nat → Nat} {cost hour : Nat → Int32} {now : Int32} {n : Nat} : ∀ f cs y w, (sndF sent cost hour now n f cs y w).2.1 ≤ y
  | 0, cs, y, w => Nat.le_refl y
  | f + 1, cs, y, w => by
    rw [sndF]
    split
    · exact Nat.le_refl y
    · exact Nat.le_trans (sndF_sub f _ _ _) (nd_le _ _)
theorem comP_in {hour : Nat → Int32} {h p : Nat} (e : hour p = nI h) : ∀ n, p < n → p ∈ comP hour h n
  | 0, hp => absurd hp (Nat.not_lt_zero _)
  | n + 1, hp => by
    rw [comP]
    by_cases h2 : p = n
    · subst h2; rw [if_pos e]; simp
    · have := comP_in e n (by omega)
      split
      · exact List.mem_append_left _ this
      · exact this
theorem comH_in {hour : Nat → Int32} {n p x : Nat} (hp : p < n) (e : hour p = nI x) : ∀ h, x < h → p ∈ comH hour n h
  | 0, hx => absurd hx (Nat.not_lt_zero _)
  | h + 1, hx => by
    rw [comH]
    by_cases h2 : x = h
    · subst h2; exact List.mem_append_right _ (comP_in e n hp)
    · exact List.mem_append_left _ (comH_in hp e h (by omega))
theorem com_in {hour : Nat → Int32} {n p : Nat} (hh : ∀ q, q < n → ∃ x, x < 24 ∧ hour q = nI x) (hp : p < n) : ∃ j, j < n ∧ (comL hour n).getD j 0 = p := by
  obtain ⟨x, hx, e⟩ := hh p hp
  obtain ⟨j, hj, e2⟩ := List.getElem_of_mem (comH_in hp e 24 hx)
  refine ⟨j, by rw [← comL_len hh]; exact hj, ?_⟩
  rw [List.getD_eq_getElem?_getD, show (comL hour n)[j]? = some p from by show (comH hour n 24)[j]? = some p; rw [List.getElem?_eq_getElem hj]; exact congrArg some e2]
  rfl
theorem dayS_cov {sent : Nat → Nat → Nat} {cost hour : Nat → Int32} {com : Nat → Nat} {n p : Nat} {w w' : Nat → Int32} (hp : p < n) : ∀ k, (∃ j, j < k ∧ com j = p) → (dayS sent cost hour com n w k).2.1.testBit p = false →
    (dayS sent cost hour com n w k).2.2 p = (dayS sent cost hour com n w' k).2.2 p
  | 0, ⟨j, hj, _⟩, _ => absurd hj (Nat.not_lt_zero _)
  | k + 1, ⟨j, hj, ej⟩, hb => by
    have hw := dayS_w (sent := sent) (cost := cost) (hour := hour) (com := com) (n := n) (w := w') (w' := w) k
    simp only [dayS] at hb ⊢
    rw [hw.1, hw.2]
    refine sndF_cov hp _ _ _ _ _ (fun h => ?_) hb
    rw [Nat.testBit_or, Bool.or_eq_false_iff] at h
    refine dayS_cov hp k ⟨j, ?_, ej⟩ h.1
    rcases Nat.lt_or_ge j k with h2 | h2
    · exact h2
    · have e : j = k := by omega
      subst e
      rw [ej, Nat.testBit_two_pow_self] at h
      cases h.2
theorem dayW_eq {K : Nat → Nat → Int32} {cost hour : Nat → Int32} {n st kd a p : Nat} {w : Nat → Int32} (hh : ∀ q, q < n → ∃ x, x < 24 ∧ hour q = nI x) (hp : p < n) :
    leaveW cost hour 24 (dayP K cost hour n st kd a w n).2.1 n (dayP K cost hour n st kd a w n).2.2 p = dayW K cost hour n st kd a p := by
  unfold dayW
  rw [← dayY_eq (w := w)]
  unfold leaveW
  by_cases h : p < n ∧ (dayP K cost hour n st kd a w n).2.1.testBit p = true
  · rw [if_pos h, if_pos h]
  · rw [if_neg h, if_neg h]
    refine dayS_cov hp n (com_in hh hp) ?_
    cases hb : (dayP K cost hour n st kd a w n).2.1.testBit p
    · exact hb
    · exact absurd ⟨hp, hb⟩ h
theorem sumA_ext {f g : Nat → Int32} : ∀ n, (∀ p, p < n → f p = g p) → sumA f n = sumA g n
  | 0, _ => rfl
  | n + 1, h => by rw [sumA, sumA, sumA_ext n (fun p hp => h p (by omega)), h n (by omega)]
/-- all that wait, a day run -/
def dayT (K : Nat → Nat → Int32) (cost hour : Nat → Int32) (n st kd a : Nat) : Int32 := sumA (dayW K cost hour n st kd a) n
theorem dayT_eq {K : Nat → Nat → Int32} {cost hour : Nat → Int32} {n st kd a : Nat} {w : Nat → Int32} (hh : ∀ q, q < n → ∃ x, x < 24 ∧ hour q = nI x) :
    sumA (leaveW cost hour 24 (dayP K cost hour n st kd a w n).2.1 n (dayP K cost hour n st kd a w n).2.2) n = dayT K cost hour n st kd a := sumA_ext n (fun _ hp => dayW_eq hh hp)
/-- a shelf's coachman -/
def kdV (kind : Nat → Int32) (x : Int32) : Nat := (kind x.toNatClampNeg).toNatClampNeg
theorem kdV_n {kind : Nat → Int32} {P k : Nat} (hP : P < 8) (e : kind P = nI k) (hk : k < 100) : kdV kind (nI P) = k := by
  unfold kdV
  rw [nI_clamp (by omega), e, nI_clamp (by omega)]
def coachV (K : Nat → Nat → Int32) (cost hour : Nat → Int32) (n st kd a : Nat) (i : Int32) : Int32 := nI ((dayC K cost hour n st kd a).getD i.toNatClampNeg 0)
def waitsV (K : Nat → Nat → Int32) (cost hour : Nat → Int32) (n st kd a : Nat) (p : Int32) : Int32 := if p = -1 then dayT K cost hour n st kd a else dayW K cost hour n st kd a p.toNatClampNeg
/-- the coachman by whom they wait least -/
def hdF (sh kind by9 : Nat → Int32) (K : Nat → Nat → Int32) (cost hour : Nat → Int32) (n st : Nat) : Nat → Int32 × Int32
  | 0 => (-1, 0)
  | s + 1 => if sh s = 2 ∧ ((hdF sh kind by9 K cost hour n st s).1 = -1 ∨ dayT K cost hour n st (kind s).toNatClampNeg (by9 s).toNatClampNeg < (hdF sh kind by9 K cost hour n st s).2)
      then (nI s, dayT K cost hour n st (kind s).toNatClampNeg (by9 s).toNatClampNeg) else hdF sh kind by9 K cost hour n st s
def headC (sh kind by9 : Nat → Int32) (K : Nat → Nat → Int32) (cost hour : Nat → Int32) (n st : Nat) : Int32 := if (hdF sh kind by9 K cost hour n st 8).1 = -1 then -5 else 0
/-- the pair who'd close the most groups -/
def clsV (K : Nat → Nat → Int32) (n st p q : Nat) : Int32 := nI (cntL (2 ^ n - 1) (GL K n st)) - nI (cntL (2 ^ n - 1) (GL (knF K p q 0) n st))
def wsG (K : Nat → Nat → Int32) (n st p q : Nat) (b : Int32 × Int32) : Int32 × Int32 := if K p q = -1 ∧ b.2 < clsV K n st p q then (nI (10 * p + q), clsV K n st p q) else b
def wsJ (K : Nat → Nat → Int32) (n st p : Nat) (b : Int32 × Int32) : Nat → Int32 × Int32
  | 0 => b
  | q + 1 => if p < q then wsG K n st p q (wsJ K n st p b q) else wsJ K n st p b q
def wsI (K : Nat → Nat → Int32) (n st : Nat) : Nat → Int32 × Int32
  | 0 => (-1, -1)
  | p + 1 => wsJ K n st p (wsI K n st p) n
theorem wsJ_0 {K : Nat → Nat → Int32} {n st p : Nat} {b : Int32 × Int32} : ∀ {q : Nat}, q ≤ p + 1 → wsJ K n st p b q = b
  | 0, _ => rfl
  | q + 1, h => by rw [wsJ, if_neg (by omega), wsJ_0 (by omega)]
theorem wsJ_y {K : Nat → Nat → Int32} {n st p q : Nat} {b : Int32 × Int32} (h : p < q) : wsJ K n st p b (q + 1) = wsG K n st p q (wsJ K n st p b q) := if_pos h
theorem wsG_n1 {K : Nat → Nat → Int32} {n st p q : Nat} {b : Int32 × Int32} (h : ¬ K p q = -1) : wsG K n st p q b = b := if_neg (fun z => h z.1)
theorem wsG_n2 {K : Nat → Nat → Int32} {n st p q : Nat} {b : Int32 × Int32} (h : clsV K n st p q ≤ b.2) : wsG K n st p q b = b := if_neg (fun z => absurd z.2 (Int32.not_lt.mpr h))
theorem wsG_y {K : Nat → Nat → Int32} {n st p q : Nat} {b : Int32 × Int32} (h : K p q = -1) (h2 : b.2 < clsV K n st p q) : wsG K n st p q b = (nI (10 * p + q), clsV K n st p q) := if_pos ⟨h, h2⟩
def worstC (K : Nat → Nat → Int32) (n st : Nat) : Int32 := if (wsI K n st n).1 = -1 then -5 else 0
/-- told coaches -/
def tS (r : Nat → Int64) (i : Nat) : Nat := (r i).toInt.toNat
def rode (r : Nat → Int64) : Nat → Nat
  | 0 => 0
  | i + 1 => rode r i ||| tS r i
def okT (K : Nat → Nat → Int32) (n st : Nat) (r : Nat → Int64) (i : Nat) : Bool := decide (0 ≤ (r i).toInt ∧ (r i).toInt ≤ ((2 ^ n - 1 : Nat) : Int)) && (isGrp K n st (tS r i) && decide (tS r i &&& rode r i = 0))
def wrG (ok : Nat → Bool) : Nat → Int32
  | 0 => -1
  | N + 1 => if wrG ok N = -1 then (if ok N = true then -1 else nI N) else wrG ok N
def wrV (K : Nat → Nat → Int32) (n st : Nat) (r : Nat → Int64) (N : Nat) : Int32 := wrG (okT K n st r) N
theorem wrG_y {ok : Nat → Bool} : ∀ {N : Nat}, (∀ j, j < N → ok j = true) → wrG ok N = -1
  | 0, _ => rfl
  | N + 1, h => by rw [wrG, if_pos (wrG_y (fun j hj => h j (by omega))), if_pos (h N (by omega))]
theorem wrG_n {ok : Nat → Bool} {i : Nat} (h : ∀ j, j < i → ok j = true) (h2 : ok i = false) (hi : i < 2 ^ 30) : ∀ {N : Nat}, i < N → N < 2 ^ 30 → wrG ok N = nI i
  | 0, hN, _ => absurd hN (Nat.not_lt_zero _)
  | N + 1, hN, hb => by
    have hne : ¬ nI i = -1 := fun e => by have h9 := congrArg Int32.toInt e; rw [nI_toInt (by omega)] at h9; have : (-1 : Int32).toInt = -1 := rfl; omega
    rw [wrG]
    by_cases e : i = N
    · subst e; rw [if_pos (wrG_y h), if_neg (by rw [h2]; decide)]
    · rw [wrG_n h h2 hi (by omega) (by omega), if_neg hne]
theorem wrG_all {ok : Nat → Bool} : ∀ {N : Nat}, N < 2 ^ 30 → wrG ok N = -1 → ∀ j, j < N → ok j = true
  | 0, _, _, j, hj => absurd hj (Nat.not_lt_zero _)
  | N + 1, hb, h, j, hj => by
    rw [wrG] at h
    by_cases h1 : wrG ok N = -1
    · rw [if_pos h1] at h
      by_cases e : j = N
      · subst e
        cases h3 : ok j
        · rw [h3, if_neg (by decide)] at h
          have h9 := congrArg Int32.toInt h; rw [nI_toInt (by omega)] at h9; have : (-1 : Int32).toInt = -1 := rfl; omega
        · rfl
      · exact wrG_all (by omega) h1 j (by omega)
    · rw [if_neg h1] at h; exact absurd h h1
theorem okT_1 {K : Nat → Nat → Int32} {n st i : Nat} {r : Nat → Int64} (h : okT K n st r i = true) : 0 ≤ (r i).toInt ∧ (r i).toInt ≤ ((2 ^ n - 1 : Nat) : Int) := by
  unfold okT at h
  rw [Bool.and_eq_true] at h
  exact of_decide_eq_true h.1
theorem okT_lt {K : Nat → Nat → Int32} {n st i : Nat} {r : Nat → Int64} (h : okT K n st r i = true) : tS r i < 2 ^ n := by
  have := okT_1 h
  have h1 := Nat.two_pow_pos n
  unfold tS
  omega
theorem tS_int {r : Nat → Int64} {i N : Nat} (h : 0 ≤ (r i).toInt ∧ (r i).toInt ≤ ((N : Nat) : Int)) (hN : N < 2 ^ 31) : (r i).toInt32 = nI (tS r i) := by
  apply Int32.toInt_inj.mp
  rw [nI_toInt (by unfold tS; omega), Int64.toInt_toInt32]
  unfold tS
  rw [Int.bmod_eq_of_le (by omega) (by omega)]
  omega
theorem rode_lt {r : Nat → Int64} {n : Nat} : ∀ {i : Nat}, (∀ j, j < i → tS r j < 2 ^ n) → rode r i < 2 ^ n
  | 0, _ => Nat.two_pow_pos n
  | i + 1, h => or_lt (rode_lt (fun j hj => h j (by omega))) (h i (by omega))
/-- told coaches ride -/
def ridK (n : Nat) (K : Nat → Nat → Int32) (r : Nat → Int64) : Nat → (Nat → Nat → Int32)
  | 0 => K
  | i + 1 => meetK (ridK n K r i) (tS r i) n
def behC (sh sz : Nat → Int32) (K : Nat → Nat → Int32) (R : Nat → Nat → Int64) (n st : Nat) (x k w : Int32) : Int32 :=
  if 0 ≤ w.toInt ∧ w.toInt ≤ 1 then (if noDayV sh sz x k = 0 then (if wrV K n st (R x.toNatClampNeg) k.toNatClampNeg = -1 then 0 else -5) else noDayV sh sz x k) else -2
def ridC (sh sz : Nat → Int32) (K : Nat → Nat → Int32) (R : Nat → Nat → Int64) (n st : Nat) (x k : Int32) : Int32 :=
  if noDayV sh sz x k = 0 then (if wrV K n st (R x.toNatClampNeg) k.toNatClampNeg = -1 then 0 else -5) else noDayV sh sz x k
def behV (K : Nat → Nat → Int32) (R : Nat → Nat → Int64) (n st : Nat) (x k w : Int32) : Int32 :=
  if w = 0 then nI (nd (2 ^ n - 1) (rode (R x.toNatClampNeg) k.toNatClampNeg)) else nI (cntL (2 ^ n - 1) (GL (ridK n K (R x.toNatClampNeg) k.toNatClampNeg) n st))
theorem noDay_0 {sh sz : Nat → Int32} {x k : Int32} (h : noDayV sh sz x k = 0) : ∃ P N : Nat, P < 8 ∧ N < 8 ∧ x = nI P ∧ k = nI N ∧ noRowV sh (nI P) = 0 ∧ N ≤ (sz P).toNatClampNeg := by
  unfold noDayV at h
  split at h
  · rename_i h1
    obtain ⟨P, hP, rfl⟩ := nat7 h1.1
    obtain ⟨N, hN, rfl⟩ := nat7 h1.2
    split at h
    · rename_i h2
      split at h
      · exact absurd h (by decide)
      · rename_i h3
        rw [nI_clamp (by omega), nI_toInt (by omega)] at h3
        exact ⟨P, N, hP, hN, rfl, rfl, h2, by omega⟩
    · rename_i h2; exact absurd h h2
  · exact absurd h (by decide)
/-- those who come -/
def cmQ (K : Nat → Nat → Int32) (n : Nat) (sd : Int32) : Nat → Int32 × (Nat → Nat → Int32)
  | 0 => (sd, K)
  | q + 1 => (drS (cmQ K n sd q).1, if drV (cmQ K n sd q).1 3 = 0 then knF (cmQ K n sd q).2 n q 0 else (cmQ K n sd q).2)
def cmS (n : Nat) (sd : Int32) (hour cost : Nat → Int32) (K : Nat → Nat → Int32) : Nat → Int32 × (Nat → Int32) × (Nat → Int32) × (Nat → Nat → Int32)
  | 0 => (sd, hour, cost, K)
  | m + 1 =>
    ((cmQ (newK (cmS n sd hour cost K m).2.2.2 (n + m) (n + m)) (n + m) (drS (drS (cmS n sd hour cost K m).1)) (n + m)).1,
     va_up (cmS n sd hour cost K m).2.1 (n + m) (drV (cmS n sd hour cost K m).1 24),
     va_up (cmS n sd hour cost K m).2.2.1 (n + m) (drV (drS (cmS n sd hour cost K m).1) 10),
     (cmQ (newK (cmS n sd hour cost K m).2.2.2 (n + m) (n + m)) (n + m) (drS (drS (cmS n sd hour cost K m).1)) (n + m)).2)
def cmN (n : Nat) (k : Int32) : Nat := min k.toNatClampNeg (7 - n)
/-- how many shelves hold something -/
def heldV (sh : Nat → Int32) : Nat → Nat
  | 0 => 0
  | s + 1 => heldV sh s + if sh s = 0 then 0 else 1
def statV (iv : Nat → Int32) (sh rf : Nat → Int32) (K : Nat → Nat → Int32) (n : Nat) (w : Int32) : Int32 :=
  if w = 0 then iv 10 else if w = 1 then iv 14 else if w = 2 then iv 15 else if w = 3 then nI (mC K (2 ^ n - 1) n) else if w = 4 then iv 16 else if w = 5 then iv 17 else if w = 6 then iv 18
  else if w = 7 then iv 8 else if w = 8 then iv 19 else if w = 9 then nI (heldV sh 8) else if 12 ≤ w.toInt ∧ w.toInt ≤ 16 then rf (w.toNatClampNeg - 10) else -1
theorem kdc {f : Nat → Int32} {s k : Nat} (e : f s = nI k) (hk : k < 100) : (f s).toNatClampNeg = k := by rw [e, nI_clamp (by omega)]
section HD
variable {sh kind by9 : Nat → Int32} {K : Nat → Nat → Int32} {cost hour : Nat → Int32} {n st s kd k9 : Nat}
theorem hdF_n1 (h : ¬ sh s = 2) : hdF sh kind by9 K cost hour n st (s + 1) = hdF sh kind by9 K cost hour n st s := if_neg (fun z => h z.1)
theorem hdF_n2 (h : ¬ (hdF sh kind by9 K cost hour n st s).1 = -1) (h2 : (hdF sh kind by9 K cost hour n st s).2 ≤ dayT K cost hour n st (kind s).toNatClampNeg (by9 s).toNatClampNeg) : hdF sh kind by9 K cost hour n st (s + 1) = hdF sh kind by9 K cost hour n st s :=
  if_neg (fun z => z.2.elim h (fun q => absurd q (Int32.not_lt.mpr h2)))
theorem hdF_y (h : sh s = 2) (h2 : (hdF sh kind by9 K cost hour n st s).1 = -1 ∨ dayT K cost hour n st (kind s).toNatClampNeg (by9 s).toNatClampNeg < (hdF sh kind by9 K cost hour n st s).2) (e5 : kind s = nI kd) (h5 : kd < 100) (e6 : by9 s = nI k9) (h6 : k9 < 100) :
    hdF sh kind by9 K cost hour n st (s + 1) = (nI s, dayT K cost hour n st kd k9) := by
  rw [hdF, if_pos ⟨h, h2⟩, kdc e5 h5, kdc e6 h6]
end HD
section TL
variable {K : Nat → Nat → Int32} {n st i N : Nat} {r : Nat → Int64}
theorem okT_f1 (h : ¬ (0 ≤ (r i).toInt ∧ (r i).toInt ≤ ((2 ^ n - 1 : Nat) : Int))) : okT K n st r i = false := by unfold okT; rw [decide_eq_false h]; rfl
theorem okT_f2 (h : isGrp K n st (tS r i) = false) : okT K n st r i = false := by unfold okT; rw [h, Bool.false_and, Bool.and_false]
theorem okT_f3 (h : ¬ tS r i &&& rode r i = 0) : okT K n st r i = false := by unfold okT; rw [decide_eq_false h, Bool.and_false, Bool.and_false]
theorem okT_t (h : 0 ≤ (r i).toInt ∧ (r i).toInt ≤ ((2 ^ n - 1 : Nat) : Int)) (h2 : isGrp K n st (tS r i) = true) (h3 : tS r i &&& rode r i = 0) : okT K n st r i = true := by unfold okT; rw [decide_eq_true h, h2, decide_eq_true h3]; rfl
theorem wr_s (h : ∀ j, j < i → okT K n st r j = true) (h2 : okT K n st r i = true) : ∀ j, j < i + 1 → okT K n st r j = true := by
  intro j hj
  by_cases e : j = i
  · subst e; exact h2
  · exact h j (by omega)
end TL
theorem nd_x {sh sz : Nat → Int32} {x k : Int32} (h : noDayV sh sz x k = 0) : ∃ P : Nat, P < 8 ∧ x = nI P := by obtain ⟨P, N, h1, h2, h3, h4, _⟩ := noDay_0 h; exact ⟨P, h1, h3⟩
theorem nd_k {sh sz : Nat → Int32} {x k : Int32} (h : noDayV sh sz x k = 0) : ∃ N : Nat, N < 8 ∧ k = nI N := by obtain ⟨P, N, h1, h2, h3, h4, _⟩ := noDay_0 h; exact ⟨N, h2, h4⟩
theorem nI_inj8 {P Q : Nat} (hP : P < 2 ^ 30) (hQ : Q < 2 ^ 30) (h : nI P = nI Q) : P = Q := (n_eq (by omega) (by omega)).mp h
theorem nd_le9 {sh sz : Nat → Int32} {P N : Nat} (hP : P < 8) (hN : N < 8) (h : noDayV sh sz (nI P) (nI N) = 0) : N ≤ (sz P).toNatClampNeg := by
  obtain ⟨P', N', h1, h2, h3, h4, _, h5⟩ := noDay_0 h
  rw [nI_inj8 (by omega) (by omega) h3, nI_inj8 (by omega) (by omega) h4]; exact h5
def bsF (W : Nat → Nat) : Nat → Nat
  | 0 => 0
  | k + 1 => if W (bsF W k) < W k then k else bsF W k
theorem bsF_lt (W : Nat → Nat) : ∀ {k : Nat}, 0 < k → bsF W k < k
  | 0, h => absurd h (Nat.lt_irrefl 0)
  | k + 1, _ => by
    rw [bsF]
    split
    · omega
    · rcases Nat.eq_zero_or_pos k with h | h
      · subst h; exact Nat.zero_lt_one
      · have := bsF_lt W h; omega
theorem bsF_1 (W : Nat → Nat) : bsF W 1 = 0 := by rw [bsF]; split <;> rfl
theorem wyC_le {K : Nat → Nat → Int32} {S n st k : Nat} : ∀ m, wyC K S n st k m ≤ m
  | 0 => Nat.le_refl 0
  | m + 1 => by
    have h1 := wyC_le (K := K) (S := S) (n := n) (st := st) (k := k) m
    have h2 : m >>> k &&& 1 ≤ 1 := Nat.and_le_right
    rw [wyC]
    split <;> omega
theorem wyN_le {K : Nat → Nat → Int32} {S n st : Nat} : ∀ m, wyN K S n st m ≤ m
  | 0 => Nat.le_refl 0
  | m + 1 => by
    have h1 := wyN_le (K := K) (S := S) (n := n) (st := st) m
    rw [wyN]
    split <;> omega
def sureI (K : Nat → Nat → Int32) (n st S : Nat) : Nat := bsF (fun k => wyC K S n st k (2 ^ (prL K S n).length)) (prL K S n).length
def sureV (K : Nat → Nat → Int32) (n st S : Nat) : Int32 := nI (10 * ((prL K S n).getD (sureI K n st S) (0, 0)).1 + ((prL K S n).getD (sureI K n st S) (0, 0)).2)
def fitsV (K : Nat → Nat → Int32) (n st S : Nat) : Int32 := nI (wyN K S n st (2 ^ (prL K S n).length))
