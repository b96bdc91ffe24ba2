/-! PLAIN LAWS 3: how long it goes on: the families of groups that leave no other, counted both ways -/
def cnP (P : Nat → Bool) : Nat → Nat
  | 0 => 0
  | i + 1 => cnP P i + (if P i = true then 1 else 0)
theorem cnP_le (P : Nat → Bool) : ∀ i, cnP P i ≤ i
  | 0 => Nat.le_refl 0
  | i + 1 => by have := cnP_le P i; rw [cnP]; split <;> omega
theorem cnP_c {P Q : Nat → Bool} : ∀ i, (∀ j, j < i → P j = Q j) → cnP P i = cnP Q i
  | 0, _ => rfl
  | i + 1, h => by rw [cnP, cnP, cnP_c i (fun j hj => h j (by omega)), h i (by omega)]
def upB (P : Nat → Bool) (j : Nat) : Nat → Bool := fun i => if i = j then true else P i
theorem cnP_up {P : Nat → Bool} {j : Nat} (h : P j = false) : ∀ i, j < i → cnP (upB P j) i = cnP P i + 1
  | 0, hi => absurd hi (Nat.not_lt_zero _)
  | i + 1, hi => by
    rw [cnP, cnP]
    by_cases e : j = i
    · subst e
      rw [cnP_c (P := upB P j) (Q := P) j (fun k hk => if_neg (by omega)), h, show upB P j j = true from if_pos rfl]
      rfl
    · rw [cnP_up h i (by omega), show upB P j i = P i from if_neg (by omega)]
      omega
def bnd (R : Nat → Prop) (a b : Nat × Nat) : Prop := a.1 ≤ b.1 ∧ b.2 ≤ a.2 ∧ (∀ v, R v → v ≤ b.1 ∧ b.2 ≤ v) ∧ (b.1 = a.1 ∨ R b.1) ∧ (b.2 = a.2 ∨ R b.2)
theorem bnd.id {a : Nat × Nat} : bnd (fun _ => False) a a := ⟨Nat.le_refl _, Nat.le_refl _, fun _ h => h.elim, Or.inl rfl, Or.inl rfl⟩
theorem bnd.tr {R1 R2 : Nat → Prop} {a b c : Nat × Nat} (h1 : bnd R1 a b) (h2 : bnd R2 b c) : bnd (fun v => R1 v ∨ R2 v) a c := by
  obtain ⟨a1, a2, a3, a4, a5⟩ := h1
  obtain ⟨b1, b2, b3, b4, b5⟩ := h2
  refine ⟨Nat.le_trans a1 b1, Nat.le_trans b2 a2, fun v hv => ?_, ?_, ?_⟩
  · rcases hv with h | h
    · have := a3 v h; omega
    · exact b3 v h
  · rcases b4 with h | h
    · rw [h]; exact a4.elim Or.inl (fun z => Or.inr (Or.inl z))
    · exact Or.inr (Or.inr h)
  · rcases b5 with h | h
    · rw [h]; exact a5.elim Or.inl (fun z => Or.inr (Or.inl z))
    · exact Or.inr (Or.inr h)
theorem bnd.ext {R R' : Nat → Prop} {a b : Nat × Nat} (h : bnd R a b) (e : ∀ v, R v ↔ R' v) : bnd R' a b := ⟨h.1, h.2.1, fun v hv => h.2.2.1 v ((e v).mpr hv), h.2.2.2.1.elim Or.inl (fun z => Or.inr ((e _).mp z)), h.2.2.2.2.elim Or.inl (fun z => Or.inr ((e _).mp z))⟩
/-- the numbers that the component comes to -/
def gsR (PL : List Nat) : Nat → Nat → Nat → Nat → Prop
  | 0, _, _, _ => False
  | f + 1, O, c, v => match PL.dropWhile (fun x => decide (¬ nd x O = 0)) with
    | [] => v = c
    | x :: t => ∃ y, y ∈ x :: t ∧ (nd y O = 0 ∧ ¬ y &&& x = 0) ∧ gsR PL f (nd O y) (c + 1) v
theorem gs_fold {PL : List Nat} {f O c x : Nat} (ih : ∀ O c acc, bnd (gsR PL f O c) acc (gsF PL f O c acc)) : ∀ (M : List Nat) (acc : Nat × Nat), bnd (fun v => ∃ y, y ∈ M ∧ (nd y O = 0 ∧ ¬ y &&& x = 0) ∧ gsR PL f (nd O y) (c + 1) v) acc (M.foldl (fun a y => if nd y O = 0 ∧ ¬ y &&& x = 0 then gsF PL f (nd O y) (c + 1) a else a) acc)
  | [], acc => bnd.id.ext (fun v => ⟨fun h => h.elim, fun ⟨y, h, _⟩ => by cases h⟩)
  | y :: t, acc => by
    rw [List.foldl_cons]
    by_cases e : nd y O = 0 ∧ ¬ y &&& x = 0
    · rw [if_pos e]
      refine ((ih (nd O y) (c + 1) acc).tr (gs_fold ih t _)).ext (fun v => ⟨?_, ?_⟩)
      · rintro (h | ⟨z, h1, h2, h3⟩)
        · exact ⟨y, List.mem_cons_self, e, h⟩
        · exact ⟨z, List.mem_cons_of_mem _ h1, h2, h3⟩
      · rintro ⟨z, h1, h2, h3⟩
        rcases List.mem_cons.mp h1 with h | h
        · subst h; exact Or.inl h3
        · exact Or.inr ⟨z, h, h2, h3⟩
    · rw [if_neg e]
      refine (gs_fold ih t acc).ext (fun v => ⟨fun ⟨z, h1, h2⟩ => ⟨z, List.mem_cons_of_mem _ h1, h2⟩, ?_⟩)
      rintro ⟨z, h1, h2, h3⟩
      rcases List.mem_cons.mp h1 with h | h
      · subst h; exact absurd h2 e
      · exact ⟨z, h, h2, h3⟩
theorem gs_spec {PL : List Nat} : ∀ f O c acc, bnd (gsR PL f O c) acc (gsF PL f O c acc)
  | 0, O, c, acc => bnd.id
  | f + 1, O, c, acc => by
    rw [gsF]
    cases hd : PL.dropWhile (fun x => decide (¬ nd x O = 0)) with
    | nil =>
      have hR : ∀ v, v = c ↔ gsR PL (f + 1) O c v := fun v => by rw [gsR, hd]
      refine bnd.ext (R := fun v => v = c) ⟨Nat.le_max_left _ _, Nat.min_le_left _ _, fun v hv => ?_, ?_, ?_⟩ hR
      · subst hv; exact ⟨Nat.le_max_right _ _, Nat.min_le_right _ _⟩
      · show max acc.1 c = acc.1 ∨ max acc.1 c = c; omega
      · show min acc.2 c = acc.2 ∨ min acc.2 c = c; omega
    | cons x t =>
      refine (gs_fold (x := x) (fun O c acc => gs_spec f O c acc) (x :: t) acc).ext (fun v => ?_)
      rw [gsR, hd]
def famP (PL : List Nat) (P : Nat → Bool) : Prop := (∀ j, P j = true → j < PL.length) ∧ ∀ i j, P i = true → P j = true → i ≠ j → PL.getD i 0 &&& PL.getD j 0 = 0
def mxP (PL : List Nat) (P : Nat → Bool) : Prop := ∀ g, g < PL.length → ∃ k, P k = true ∧ ¬ PL.getD g 0 &&& PL.getD k 0 = 0
def opP (PL : List Nat) (O : Nat) (P : Nat → Bool) : Prop := ∀ j, j < PL.length → (nd (PL.getD j 0) O = 0 ↔ ∀ k, P k = true → PL.getD j 0 &&& PL.getD k 0 = 0)
theorem and0_of {a b : Nat} (h : ∀ i, a.testBit i = true → b.testBit i = false) : a &&& b = 0 := by
  apply Nat.eq_of_testBit_eq
  intro i
  rw [Nat.testBit_and, Nat.zero_testBit]
  cases e : a.testBit i
  · rfl
  · rw [h i e]; rfl
theorem and0_bit {a b i : Nat} (h : a &&& b = 0) (hi : a.testBit i = true) : b.testBit i = false := by
  have := congrArg (fun x => x.testBit i) h
  simp only [Nat.testBit_and, Nat.zero_testBit, hi, Bool.true_and] at this
  exact this
theorem nd0_split {a O b : Nat} : nd a (nd O b) = 0 ↔ nd a O = 0 ∧ a &&& b = 0 := by
  constructor
  · intro h
    exact ⟨nd0_of fun i hi => by have := sub_bit h hi; rw [nd_bit, Bool.and_eq_true] at this; exact this.1, and0_of fun i hi => by have := sub_bit h hi; rw [nd_bit, Bool.and_eq_true, Bool.not_eq_true'] at this; exact this.2⟩
  · rintro ⟨h1, h2⟩
    exact nd0_of fun i hi => by rw [nd_bit, sub_bit h1 hi, and0_bit h2 hi]; rfl
theorem opP_up {PL : List Nat} {O j : Nat} {P : Nat → Bool} (h : opP PL O P) : opP PL (nd O (PL.getD j 0)) (upB P j) := by
  intro i hi
  rw [nd0_split, h i hi]
  constructor
  · rintro ⟨h1, h2⟩ k hk
    by_cases e : k = j
    · subst e; exact h2
    · exact h1 k (by rw [← hk]; exact (if_neg e).symm)
  · intro h1
    refine ⟨fun k hk => h1 k ?_, h1 j (if_pos rfl)⟩
    show (if k = j then true else P k) = true
    split
    · rfl
    · exact hk
theorem dropW_mem {α : Type} {q : α → Bool} {y : α} : ∀ {l : List α}, y ∈ l → q y = false → y ∈ l.dropWhile q
  | x :: t, h, hq => by
    rw [List.dropWhile_cons]
    split
    · rename_i e
      rcases List.mem_cons.mp h with h2 | h2
      · subst h2; rw [hq] at e; cases e
      · exact dropW_mem h2 hq
    · exact h
theorem dropW_sub {α : Type} {q : α → Bool} {y : α} : ∀ {l : List α}, y ∈ l.dropWhile q → y ∈ l
  | [], h => by cases h
  | x :: t, h => by
    rw [List.dropWhile_cons] at h
    split at h
    · exact List.mem_cons_of_mem _ (dropW_sub h)
    · exact h
theorem dropW_hd {α : Type} {q : α → Bool} {x : α} {t : List α} : ∀ {l : List α}, l.dropWhile q = x :: t → q x = false
  | [], h => by cases h
  | a :: l, h => by
    rw [List.dropWhile_cons] at h
    split at h
    · exact dropW_hd h
    · rename_i e
      cases h
      exact Bool.eq_false_iff.mpr e
theorem getD_idx {L : List Nat} {y : Nat} (h : y ∈ L) : ∃ j, j < L.length ∧ L.getD j 0 = y := by
  obtain ⟨j, hj, e⟩ := List.getElem_of_mem h
  exact ⟨j, hj, by rw [List.getD_eq_getElem?_getD, List.getElem?_eq_getElem hj]; exact e⟩
theorem and_self0 {a : Nat} (h : a ≠ 0) : ¬ a &&& a = 0 := by rw [Nat.and_self]; exact h
theorem gsR_fam {PL : List Nat} (hp : pOk PL) : ∀ f O c v P, bitsN O 21 < f → famP PL P → opP PL O P → c = cnP P PL.length → (gsR PL f O c v ↔ ∃ P', (∀ j, P j = true → P' j = true) ∧ famP PL P' ∧ mxP PL P' ∧ v = cnP P' PL.length)
  | 0, _, _, _, _, h, _, _, _ => absurd h (Nat.not_lt_zero _)
  | f + 1, O, c, v, P, hf, hP, hO, hc => by
    have hav : ∀ j, j < PL.length → nd (PL.getD j 0) O = 0 → P j = false := fun j hj e => by
      cases hb : P j
      · rfl
      · exact absurd ((hO j hj).mp e j hb) (and_self0 (hp.2 _ (getD_mem hj)).2)
    rw [gsR]
    cases hd : PL.dropWhile (fun x => decide (¬ nd x O = 0)) with
    | nil =>
      have hnone : ∀ j, j < PL.length → ¬ nd (PL.getD j 0) O = 0 := fun j hj e => by
        have := dropW_mem (q := fun x => decide (¬ nd x O = 0)) (getD_mem hj) (decide_eq_false (fun z => z e))
        rw [hd] at this; cases this
      constructor
      · intro hv
        refine ⟨P, fun _ h => h, hP, fun g hg => ?_, by rw [hv, hc]⟩
        refine Classical.byContradiction fun h => hnone g hg ((hO g hg).mpr fun k hk => ?_)
        exact Classical.byContradiction fun h2 => h ⟨k, hk, h2⟩
      · rintro ⟨P', h1, h2, h3, h4⟩
        rw [h4]
        show cnP P' PL.length = c
        rw [hc]
        refine cnP_c _ fun j hj => ?_
        cases hb : P j
        · cases hb' : P' j
          · rfl
          · refine absurd ((hO j hj).mpr fun k hk => h2.2 j k hb' (h1 k hk) fun e => ?_) (hnone j hj)
            rw [e, hk] at hb; cases hb
        · exact h1 j hb
    | cons x t =>
      have hx0 : nd x O = 0 := by
        have := dropW_hd hd
        exact Classical.not_not.mp (of_decide_eq_false this)
      have hxm : x ∈ PL := dropW_sub (q := fun x => decide (¬ nd x O = 0)) (by rw [hd]; exact List.mem_cons_self)
      show (∃ y, y ∈ x :: t ∧ (nd y O = 0 ∧ ¬ y &&& x = 0) ∧ gsR PL f (nd O y) (c + 1) v) ↔ _
      have key : ∀ j, j < PL.length → nd (PL.getD j 0) O = 0 → (gsR PL f (nd O (PL.getD j 0)) (c + 1) v ↔ ∃ P', (∀ i, upB P j i = true → P' i = true) ∧ famP PL P' ∧ mxP PL P' ∧ v = cnP P' PL.length) := by
        intro j hj e
        have hlt := gs_bits hp (getD_mem hj) e
        refine gsR_fam hp f _ _ v (upB P j) (by omega) ⟨fun i hi => ?_, fun a b ha hb hab => ?_⟩ (opP_up hO) (by rw [hc, cnP_up (hav j hj e) _ hj])
        · by_cases e2 : i = j
          · rw [e2]; exact hj
          · exact hP.1 i (by rw [← hi]; exact (if_neg e2).symm)
        · have hf9 : ∀ z, upB P j z = true → z = j ∨ P z = true := fun z hz => by
            by_cases e2 : z = j
            · exact Or.inl e2
            · exact Or.inr (by rw [← hz]; exact (if_neg e2).symm)
          rcases hf9 a ha with rfl | ha'
          · rcases hf9 b hb with rfl | hb'
            · exact absurd rfl hab
            · exact (hO a hj).mp e b hb'
          · rcases hf9 b hb with rfl | hb'
            · rw [Nat.and_comm]; exact (hO b hj).mp e a ha'
            · exact hP.2 a b ha' hb' hab
      constructor
      · rintro ⟨y, hy, ⟨hy0, -⟩, hr⟩
        obtain ⟨j, hj, rfl⟩ := getD_idx (dropW_sub (q := fun x => decide (¬ nd x O = 0)) (by rw [hd]; exact hy))
        obtain ⟨P', h1, h2, h3, h4⟩ := (key j hj hy0).mp hr
        refine ⟨P', fun i hi => h1 i ?_, h2, h3, h4⟩
        show (if i = j then true else P i) = true
        split
        · rfl
        · exact hi
      · rintro ⟨P', h1, h2, h3, h4⟩
        obtain ⟨i0, hi0, rfl⟩ := getD_idx hxm
        obtain ⟨k, hk, hne⟩ := h3 i0 hi0
        have hkl := h2.1 k hk
        have hkP : P k = false := by
          cases hb : P k
          · rfl
          · exact absurd ((hO i0 hi0).mp hx0 k hb) hne
        have hk0 : nd (PL.getD k 0) O = 0 := (hO k hkl).mpr fun z hz => h2.2 k z hk (h1 z hz) fun e => by rw [e, hz] at hkP; cases hkP
        refine ⟨PL.getD k 0, ?_, ⟨hk0, by rw [Nat.and_comm]; exact hne⟩, (key k hkl hk0).mpr ⟨P', fun z hz => ?_, h2, h3, h4⟩⟩
        · rw [← hd]
          exact dropW_mem (getD_mem hkl) (decide_eq_false (fun z => z hk0))
        · by_cases e2 : z = k
          · rw [e2]; exact hk
          · exact h1 z (by rw [← hz]; exact (if_neg e2).symm)
theorem gsR_some {PL : List Nat} (hp : pOk PL) : ∀ f O c, bitsN O 21 < f → ∃ v, gsR PL f O c v
  | 0, _, _, h => absurd h (Nat.not_lt_zero _)
  | f + 1, O, c, hf => by
    cases hd : PL.dropWhile (fun x => decide (¬ nd x O = 0)) with
    | nil => exact ⟨c, by rw [gsR, hd]⟩
    | cons x t =>
      have hx0 : nd x O = 0 := by
        have := dropW_hd hd
        exact Classical.not_not.mp (of_decide_eq_false this)
      have hxm : x ∈ PL := dropW_sub (q := fun x => decide (¬ nd x O = 0)) (by rw [hd]; exact List.mem_cons_self)
      have hlt := gs_bits hp hxm hx0
      obtain ⟨v, hv⟩ := gsR_some hp f (nd O x) (c + 1) (by omega)
      exact ⟨v, by rw [gsR, hd]; exact ⟨x, List.mem_cons_self, ⟨hx0, and_self0 (hp.2 x hxm).2⟩, hv⟩⟩
/-! the reference's way -/
def bnd2 (R : Nat → Prop) (a b : Nat × Option Nat) : Prop := a.1 ≤ b.1 ∧ (∀ s, a.2 = some s → ∃ s', b.2 = some s' ∧ s' ≤ s) ∧ (∀ v, R v → v ≤ b.1 ∧ ∃ s', b.2 = some s' ∧ s' ≤ v) ∧ (b.1 = a.1 ∨ R b.1) ∧ ∀ s, b.2 = some s → a.2 = some s ∨ R s
theorem bnd2.id {a : Nat × Option Nat} : bnd2 (fun _ => False) a a := ⟨Nat.le_refl _, fun s h => ⟨s, h, Nat.le_refl s⟩, fun _ h => h.elim, Or.inl rfl, fun _ h => Or.inl h⟩
theorem bnd2.tr {R1 R2 : Nat → Prop} {a b c : Nat × Option Nat} (h1 : bnd2 R1 a b) (h2 : bnd2 R2 b c) : bnd2 (fun v => R1 v ∨ R2 v) a c := by
  obtain ⟨a1, a2, a3, a4, a5⟩ := h1
  obtain ⟨b1, b2, b3, b4, b5⟩ := h2
  refine ⟨Nat.le_trans a1 b1, fun s hs => ?_, fun v hv => ?_, ?_, fun s hs => ?_⟩
  · obtain ⟨s1, e1, l1⟩ := a2 s hs
    obtain ⟨s2, e2, l2⟩ := b2 s1 e1
    exact ⟨s2, e2, Nat.le_trans l2 l1⟩
  · rcases hv with h | h
    · obtain ⟨h3, s1, e1, l1⟩ := a3 v h
      obtain ⟨s2, e2, l2⟩ := b2 s1 e1
      exact ⟨Nat.le_trans h3 b1, s2, e2, Nat.le_trans l2 l1⟩
    · exact b3 v h
  · rcases b4 with h | h
    · rw [h]; exact a4.elim Or.inl (fun z => Or.inr (Or.inl z))
    · exact Or.inr (Or.inr h)
  · rcases b5 s hs with h | h
    · exact (a5 s h).elim Or.inl (fun z => Or.inr (Or.inl z))
    · exact Or.inr (Or.inr h)
theorem bnd2.ext {R R' : Nat → Prop} {a b : Nat × Option Nat} (h : bnd2 R a b) (e : ∀ v, R v ↔ R' v) : bnd2 R' a b := ⟨h.1, h.2.1, fun v hv => h.2.2.1 v ((e v).mpr hv), h.2.2.2.1.elim Or.inl (fun z => Or.inr ((e _).mp z)), fun s hs => (h.2.2.2.2 s hs).elim Or.inl (fun z => Or.inr ((e _).mp z))⟩
def skR (L : List Nat) : List Nat → List Nat → Nat → Prop
  | [], T, v => L.all (fun g => !apartL g T) = true ∧ v = T.length
  | g :: r, T, v => (apartL g T = true ∧ skR L r (T ++ [g]) v) ∨ skR L r T v
theorem sk_spec {L : List Nat} : ∀ (M T : List Nat) (a : Nat × Option Nat), bnd2 (skR L M T) a (seekL L M T a)
  | [], T, a => by
    rw [seekL]
    by_cases e : L.all (fun g => !apartL g T) = true
    · rw [if_pos e]
      refine bnd2.ext (R := fun v => v = T.length) ⟨Nat.le_max_left _ _, fun s hs => ?_, fun v hv => ?_, ?_, fun s hs => ?_⟩ (fun v => ⟨fun h => ⟨e, h⟩, fun h => h.2⟩)
      · rw [hs]; exact ⟨min s T.length, rfl, Nat.min_le_left _ _⟩
      · subst hv
        refine ⟨Nat.le_max_right _ _, ?_⟩
        cases a.2 with
        | none => exact ⟨_, rfl, Nat.le_refl _⟩
        | some s => exact ⟨_, rfl, Nat.min_le_right _ _⟩
      · show max a.1 T.length = a.1 ∨ max a.1 T.length = T.length; omega
      · cases ha : a.2 with
        | none => rw [ha] at hs; cases hs; exact Or.inr rfl
        | some s0 =>
          rw [ha] at hs
          have hs9 : min s0 T.length = s := Option.some.inj hs
          rcases Nat.le_total s0 T.length with h | h
          · left; rw [← hs9, Nat.min_eq_left h]
          · right; rw [← hs9, Nat.min_eq_right h]
    · rw [if_neg e]
      exact bnd2.id.ext (fun v => ⟨fun h => h.elim, fun h => e h.1⟩)
  | g :: r, T, a => by
    rw [seekL]
    by_cases e : apartL g T = true
    · rw [if_pos e]
      exact ((sk_spec r (T ++ [g]) a).tr (sk_spec r T _)).ext (fun v => ⟨fun h => h.elim (fun z => Or.inl ⟨e, z⟩) Or.inr, fun h => h.elim (fun z => Or.inl z.2) Or.inr⟩)
    · rw [if_neg e]
      exact (sk_spec r T a).ext (fun v => ⟨Or.inr, fun h => h.elim (fun z => absurd z.1 e) (fun z => z)⟩)
/-- the taken ones, of those below i -/
def TL (L : List Nat) (P : Nat → Bool) : Nat → List Nat
  | 0 => []
  | i + 1 => if P i = true then TL L P i ++ [L.getD i 0] else TL L P i
theorem TL_c {L : List Nat} {P Q : Nat → Bool} : ∀ i, (∀ j, j < i → P j = Q j) → TL L P i = TL L Q i
  | 0, _ => rfl
  | i + 1, h => by rw [TL, TL, TL_c i (fun j hj => h j (by omega)), h i (by omega)]
theorem TL_len {L : List Nat} {P : Nat → Bool} : ∀ i, (TL L P i).length = cnP P i
  | 0 => rfl
  | i + 1 => by
    rw [TL, cnP]
    split
    · rw [List.length_append, TL_len i]; rfl
    · rw [TL_len i]; omega
theorem TL_mem {L : List Nat} {P : Nat → Bool} {t : Nat} : ∀ i, t ∈ TL L P i ↔ ∃ k, k < i ∧ P k = true ∧ t = L.getD k 0
  | 0 => ⟨fun h => (by cases h), fun ⟨k, h, _⟩ => absurd h (Nat.not_lt_zero k)⟩
  | i + 1 => by
    rw [TL]
    constructor
    · intro h
      split at h
      · rename_i e
        rcases List.mem_append.mp h with h2 | h2
        · obtain ⟨k, h3, h4⟩ := (TL_mem i).mp h2
          exact ⟨k, by omega, h4⟩
        · exact ⟨i, by omega, e, List.mem_singleton.mp h2⟩
      · obtain ⟨k, h3, h4⟩ := (TL_mem i).mp h
        exact ⟨k, by omega, h4⟩
    · rintro ⟨k, h1, h2, h3⟩
      by_cases e : k = i
      · subst e
        rw [if_pos h2]
        exact List.mem_append_right _ (List.mem_singleton.mpr h3)
      · have := (TL_mem (L := L) (P := P) (t := t) i).mpr ⟨k, by omega, h2, h3⟩
        split
        · exact List.mem_append_left _ this
        · exact this
def setB (P : Nat → Bool) (i : Nat) (b : Bool) : Nat → Bool := fun j => if j = i then b else P j
theorem sk_fam {L : List Nat} {v : Nat} : ∀ m i Q, L.length - i = m → i ≤ L.length → (skR L (L.drop i) (TL L Q i) v ↔ ∃ P, (∀ j, j < i → P j = Q j) ∧ (∀ j, P j = true → j < L.length) ∧ (∀ j, i ≤ j → P j = true → apartL (L.getD j 0) (TL L P j) = true) ∧ L.all (fun g => !apartL g (TL L P L.length)) = true ∧ v = cnP P L.length)
  | 0, i, Q, hm, hi => by
    have e : i = L.length := by omega
    subst e
    rw [List.drop_eq_nil_of_le (Nat.le_refl _), skR]
    constructor
    · rintro ⟨h1, h2⟩
      have hq : ∀ j, j < L.length → (fun j => decide (j < L.length) && Q j) j = Q j := fun j hj => by
        show (decide (j < L.length) && Q j) = Q j
        rw [decide_eq_true hj, Bool.true_and]
      refine ⟨fun j => decide (j < L.length) && Q j, hq, fun j hj => ?_, fun j h3 hj => ?_, ?_, ?_⟩
      · have hj : (decide (j < L.length) && Q j) = true := hj
        rw [Bool.and_eq_true, decide_eq_true_eq] at hj; exact hj.1
      · have hj : (decide (j < L.length) && Q j) = true := hj
        rw [Bool.and_eq_true, decide_eq_true_eq] at hj; omega
      · rw [TL_c _ hq]; exact h1
      · rw [h2, TL_len, cnP_c _ hq]
    · rintro ⟨P, h1, h2, h3, h4, h5⟩
      rw [← TL_c _ h1]
      exact ⟨h4, by rw [h5, TL_len]⟩
  | m + 1, i, Q, hm, hi => by
    have hlt : i < L.length := by omega
    rw [dropD hlt, skR]
    have e1 : TL L Q i ++ [L.getD i 0] = TL L (setB Q i true) (i + 1) := by
      rw [TL, show setB Q i true i = true from if_pos rfl, if_pos rfl, TL_c (P := setB Q i true) (Q := Q) i (fun j hj => if_neg (by omega))]
    have e2 : TL L Q i = TL L (setB Q i false) (i + 1) := by
      rw [TL, show setB Q i false i = false from if_pos rfl, if_neg (by decide), TL_c (P := setB Q i false) (Q := Q) i (fun j hj => if_neg (by omega))]
    have hm1 : L.length - (i + 1) = m := by omega
    have hm2 : i + 1 ≤ L.length := by omega
    have i1 := sk_fam (L := L) (v := v) m (i + 1) (setB Q i true) hm1 hm2
    have i2 := sk_fam (L := L) (v := v) m (i + 1) (setB Q i false) hm1 hm2
    rw [e1, i1]
    constructor
    · rintro (⟨ha, P, h1, h2, h3, h4, h5⟩ | h)
      · have hQ : ∀ j, j < i → P j = Q j := fun j hj => (h1 j (by omega)).trans (if_neg (by omega))
        refine ⟨P, hQ, h2, fun j hj hp => ?_, h4, h5⟩
        by_cases e : j = i
        · subst e; rw [TL_c j hQ]; exact ha
        · exact h3 j (by omega) hp
      · rw [e2, i2] at h
        obtain ⟨P, h1, h2, h3, h4, h5⟩ := h
        have hQ : ∀ j, j < i → P j = Q j := fun j hj => (h1 j (by omega)).trans (if_neg (by omega))
        have hf : P i = false := (h1 i (by omega)).trans (if_pos rfl)
        refine ⟨P, hQ, h2, fun j hj hp => ?_, h4, h5⟩
        by_cases e : j = i
        · subst e; rw [hf] at hp; cases hp
        · exact h3 j (by omega) hp
    · rintro ⟨P, h1, h2, h3, h4, h5⟩
      cases hb : P i
      · right
        rw [e2, i2]
        refine ⟨P, fun j hj => ?_, h2, fun j hj hp => h3 j (by omega) hp, h4, h5⟩
        by_cases e : j = i
        · subst e; rw [hb]; exact (if_pos rfl).symm
        · exact (h1 j (by omega)).trans (if_neg e).symm
      · left
        refine ⟨by rw [← TL_c i h1]; exact h3 i (Nat.le_refl i) hb, P, fun j hj => ?_, h2, fun j hj hp => h3 j (by omega) hp, h4, h5⟩
        by_cases e : j = i
        · subst e; rw [hb]; exact (if_pos rfl).symm
        · exact (h1 j (by omega)).trans (if_neg e).symm
theorem apartL_iff {S : Nat} : ∀ T : List Nat, apartL S T = true ↔ ∀ t ∈ T, bitsN (t &&& S) 8 ≤ 1
  | [] => ⟨fun _ t h => (by cases h), fun _ => rfl⟩
  | x :: r => by
    rw [apartL, Bool.and_eq_true, decide_eq_true_eq, apartL_iff r]
    constructor
    · rintro ⟨h1, h2⟩ t ht
      rcases List.mem_cons.mp ht with h | h
      · subst h; exact h1
      · exact h2 t h
    · exact fun h => ⟨h x List.mem_cons_self, fun t ht => h t (List.mem_cons_of_mem _ ht)⟩
theorem map_getD {L : List Nat} {f : Nat → Nat} {j : Nat} (h : j < L.length) : (L.map f).getD j 0 = f (L.getD j 0) := by
  rw [List.getD_eq_getElem?_getD, List.getElem?_map, List.getElem?_eq_getElem h, List.getD_eq_getElem?_getD, List.getElem?_eq_getElem h]
  rfl
set_option maxRecDepth 100000 in
theorem pair_apart : ∀ x, x < 128 → ∀ y, y < 128 → (bitsN (x &&& y) 8 ≤ 1 ↔ pairN x &&& pairN y = 0) := by decide +kernel
theorem fam_iff {L : List Nat} {v : Nat} (hL : ∀ g ∈ L, g < 128 ∧ 2 ≤ bitsN g 8) : skR L L [] v ↔ ∃ P, famP (L.map pairN) P ∧ mxP (L.map pairN) P ∧ v = cnP P (L.map pairN).length := by
  have h := sk_fam (L := L) (v := v) L.length 0 (fun _ => false) (by omega) (Nat.zero_le _)
  rw [List.drop_zero] at h
  rw [show skR L L [] v ↔ skR L L (TL L (fun _ => false) 0) v from Iff.rfl, h]
  have hg : ∀ j, j < L.length → L.getD j 0 < 128 := fun j hj => (hL _ (getD_mem hj)).1
  have ap : ∀ a b, a < L.length → b < L.length → (bitsN (L.getD a 0 &&& L.getD b 0) 8 ≤ 1 ↔ (L.map pairN).getD a 0 &&& (L.map pairN).getD b 0 = 0) := fun a b ha hb => by
    rw [map_getD ha, map_getD hb]; exact pair_apart _ (hg a ha) _ (hg b hb)
  constructor
  · rintro ⟨P, -, h2, h3, h4, h5⟩
    refine ⟨P, ⟨fun j hj => by rw [List.length_map]; exact h2 j hj, ?_⟩, fun g hgl => ?_, by rw [List.length_map]; exact h5⟩
    · have half : ∀ a b, P a = true → P b = true → a < b → (L.map pairN).getD a 0 &&& (L.map pairN).getD b 0 = 0 := fun a b ha hb hab =>
        (ap a b (h2 a ha) (h2 b hb)).mp ((apartL_iff _).mp (h3 b (Nat.zero_le b) hb) _ ((TL_mem b).mpr ⟨a, hab, ha, rfl⟩))
      intro a b ha hb hab
      rcases Nat.lt_or_gt_of_ne hab with h9 | h9
      · exact half a b ha hb h9
      · rw [Nat.and_comm]; exact half b a hb ha h9
    · rw [List.length_map] at hgl
      have := List.all_eq_true.mp h4 (L.getD g 0) (getD_mem hgl)
      refine Classical.byContradiction fun hno => ?_
      have hap : apartL (L.getD g 0) (TL L P L.length) = true := (apartL_iff _).mpr fun t ht => by
        obtain ⟨k, hk, hpk, rfl⟩ := (TL_mem _).mp ht
        refine (ap k g hk hgl).mpr (Classical.byContradiction fun hz => hno ⟨k, hpk, fun e => hz ?_⟩)
        rw [Nat.and_comm]; exact e
      rw [hap] at this; cases this
  · rintro ⟨P, ⟨h1, h2⟩, h3, h4⟩
    have h1' : ∀ j, P j = true → j < L.length := fun j hj => by have := h1 j hj; rw [List.length_map] at this; exact this
    refine ⟨P, fun j hj => absurd hj (Nat.not_lt_zero j), h1', fun j _ hj => (apartL_iff _).mpr fun t ht => ?_, List.all_eq_true.mpr fun g hgm => ?_, by rw [List.length_map] at h4; exact h4⟩
    · obtain ⟨k, hk, hpk, rfl⟩ := (TL_mem _).mp ht
      exact (ap k j (h1' k hpk) (h1' j hj)).mpr (h2 k j hpk hj (by omega))
    · obtain ⟨j, hj, rfl⟩ := getD_idx hgm
      obtain ⟨k, hpk, hne⟩ := h3 j (by rw [List.length_map]; exact hj)
      rw [Bool.not_eq_true', Bool.eq_false_iff]
      intro hap
      refine hne ?_
      rw [Nat.and_comm]
      exact (ap k j (h1' k hpk) hj).mp ((apartL_iff _).mp hap _ ((TL_mem _).mpr ⟨k, h1' k hpk, hpk, rfl⟩))
/-! groups of two -/
theorem gF_nd {K : Nat → Nat → Int32} {n st : Nat} (hn : n ≤ 8) : ∀ r S k, r ≤ n → S < 2 ^ (n - r) → bitsN S 8 = k → k ≤ st → (gF (okM K) n st r S k).Nodup
  | 0, S, k, _, _, _, _ => by
    rw [gF]
    split
    · exact List.nodup_cons.mpr ⟨fun h => (by cases h), List.nodup_nil⟩
    · exact List.nodup_nil
  | r + 1, S, k, hr, hS, hb, hk => by
    by_cases e : k = st
    · subst e
      rw [gF_full]
      exact List.nodup_cons.mpr ⟨fun h => (by cases h), List.nodup_nil⟩
    · obtain ⟨p, hp⟩ : ∃ p, n - (r + 1) = p := ⟨_, rfl⟩
      have hp1 : n - r = p + 1 := by omega
      have hSp : S < 2 ^ p := hp ▸ hS
      have hS1 : S < 2 ^ (p + 1) := Nat.lt_of_lt_of_le hSp (Nat.pow_le_pow_right (by decide) (by omega))
      have i1 := gF_nd (K := K) (st := st) hn r S k (by omega) (by rw [hp1]; exact hS1) hb hk
      by_cases ho : okM K S p = true
      · have i2 := gF_nd (K := K) (st := st) hn r (S ||| 2 ^ p) (k + 1) (by omega) (by rw [hp1]; exact or_lt hS1 (Nat.pow_lt_pow_right (by decide) (by omega))) (by rw [bitsN_new hSp 8 (by omega), hb]) (by omega)
        rw [gF_y e (by rw [hp]; exact ho), hp]
        refine List.nodup_append.mpr ⟨i2, i1, fun a ha b hb9 e9 => ?_⟩
        subst e9
        have h1 : a.testBit p = true := sub_bit (gF_sub r _ _ a ha) (by rw [or_bit, decide_eq_true rfl, Bool.or_true])
        have h2 := ((mem_gF hn r S k (by omega) (by rw [hp1]; exact hS1) hb hk).mp hb9).2.2.1 p (by omega)
        rw [h1, bit_hi hSp (Nat.le_refl p)] at h2
        cases h2
      · rw [gF_n e (by rw [hp]; exact Bool.eq_false_iff.mpr ho)]
        exact i1
def gN (K : Nat → Nat → Int32) (a : Nat) : Nat → Nat
  | 0 => 0
  | q + 1 => gN K a q + (if a < q ∧ K q a = -1 then 1 else 0)
theorem gN_0 {K : Nat → Nat → Int32} {a : Nat} : ∀ q, q ≤ a + 1 → gN K a q = 0
  | 0, _ => rfl
  | q + 1, h => by rw [gN, gN_0 q (by omega), if_neg (by omega)]
theorem okM_1 {K : Nat → Nat → Int32} {a p : Nat} (h : a < p) : okM K (2 ^ a) p = true ↔ K p a = -1 := by
  rw [okM_iff]
  constructor
  · exact fun z => z a h (by rw [Nat.testBit_two_pow, decide_eq_true rfl])
  · intro z q hq hb
    rw [Nat.testBit_two_pow, decide_eq_true_eq] at hb
    rw [← hb]; exact z
theorem gF_2 {K : Nat → Nat → Int32} {n a : Nat} : ∀ r, r ≤ n → a < n - r → (gF (okM K) n 2 r (2 ^ a) 1).length + gN K a (n - r) = gN K a n
  | 0, _, _ => by rw [gF_0 _ (by decide), List.length_nil, Nat.zero_add, Nat.sub_zero]
  | r + 1, hr, ha => by
    obtain ⟨p, hp⟩ : ∃ p, n - (r + 1) = p := ⟨_, rfl⟩
    have hp1 : n - r = p + 1 := by omega
    have ih := gF_2 (K := K) (n := n) (a := a) r (by omega) (by omega)
    rw [hp1, gN] at ih
    by_cases ho : okM K (2 ^ a) p = true
    · rw [gF_y (by decide) (by rw [hp]; exact ho), List.length_append, gF_full, hp]
      rw [if_pos ⟨by omega, (okM_1 (by omega)).mp ho⟩] at ih
      rw [List.length_singleton]
      omega
    · rw [gF_n (by decide) (by rw [hp]; exact Bool.eq_false_iff.mpr ho), hp]
      rw [if_neg (fun z => ho ((okM_1 (by omega)).mpr z.2))] at ih
      omega
def sG (K : Nat → Nat → Int32) (m : Nat) : Nat → Nat
  | 0 => 0
  | a + 1 => sG K m a + gN K a m
theorem gF_20 {K : Nat → Nat → Int32} {n : Nat} : ∀ r, r ≤ n → (gF (okM K) n 2 r 0 0).length + sG K n (n - r) = sG K n n
  | 0, _ => by rw [gF_0 _ (by decide), List.length_nil, Nat.zero_add, Nat.sub_zero]
  | r + 1, hr => by
    obtain ⟨p, hp⟩ : ∃ p, n - (r + 1) = p := ⟨_, rfl⟩
    have hp1 : n - r = p + 1 := by omega
    have ih := gF_20 (K := K) (n := n) r (by omega)
    have h2 := gF_2 (K := K) (n := n) (a := p) r (by omega) (by omega)
    rw [hp1, gN_0 _ (Nat.le_refl _)] at h2
    rw [hp1, sG] at ih
    rw [gF_y (by decide) (okM_iff.mpr fun q _ hb => by rw [Nat.zero_testBit] at hb; cases hb), List.length_append, hp, Nat.zero_or, Nat.zero_add]
    omega
theorem sG_s {K : Nat → Nat → Int32} {m : Nat} : ∀ k, k ≤ m → sG K (m + 1) k = sG K m k + cR K m k
  | 0, _ => rfl
  | k + 1, h => by
    rw [sG, sG, sG_s k (by omega), gN, cR]
    by_cases e : K m k = -1
    · rw [if_pos ⟨by omega, e⟩, if_pos ⟨by omega, e⟩]; omega
    · rw [if_neg (fun z => e z.2), if_neg (fun z => e z.2)]; omega
theorem sG_mC {K : Nat → Nat → Int32} {n : Nat} : ∀ m, m ≤ n → sG K m m = mC K (2 ^ n - 1) m
  | 0, _ => rfl
  | m + 1, h => by
    rw [sG, sG_s m (Nat.le_refl m), sG_mC (n := n) m (by omega), mC, mC1_cR (by omega) m (Nat.le_refl m), gN_0 _ (Nat.le_refl _)]
    omega
theorem GL_2 {K : Nat → Nat → Int32} {n : Nat} : (GL K n 2).length = mC K (2 ^ n - 1) n := by
  have h := gF_20 (K := K) (n := n) n (Nat.le_refl n)
  rw [Nat.sub_self, sG, sG_mC n (Nat.le_refl n)] at h
  exact h
set_option maxRecDepth 100000 in
theorem two_apart : ∀ x, x < 128 → ∀ y, y < 128 → bitsN x 8 = 2 → bitsN y 8 = 2 → x ≠ y → bitsN (x &&& y) 8 ≤ 1 := by decide +kernel
theorem cnP_all {P : Nat → Bool} : ∀ i, (∀ j, j < i → P j = true) → cnP P i = i
  | 0, _ => rfl
  | i + 1, h => by rw [cnP, cnP_all i (fun j hj => h j (by omega)), if_pos (h i (by omega))]
theorem or_all {PL : List Nat} : ∀ i j, j < i → nd (PL.getD j 0) (orL PL i) = 0
  | 0, j, h => absurd h (Nat.not_lt_zero j)
  | i + 1, j, h => by
    rw [orL]
    refine nd0_of fun b hb => ?_
    rw [Nat.testBit_or, Bool.or_eq_true]
    by_cases e : j = i
    · subst e; exact Or.inr hb
    · exact Or.inl (sub_bit (or_all i j (by omega)) hb)
section EV
variable {K : Nat → Nat → Int32} {n st : Nat}
theorem gs_fam (hn : n ≤ 7) (h2 : 2 ≤ st) (h4 : st ≤ 4) (v : Nat) : gsR ((GL K n st).map pairN) (bitsN (orL ((GL K n st).map pairN) ((GL K n st).map pairN).length) 21 + 1) (orL ((GL K n st).map pairN) ((GL K n st).map pairN).length) 0 v ↔ ∃ P, famP ((GL K n st).map pairN) P ∧ mxP ((GL K n st).map pairN) P ∧ v = cnP P ((GL K n st).map pairN).length := by
  have hp := pOk_GL (K := K) hn h2 h4
  have h := gsR_fam hp _ (orL ((GL K n st).map pairN) ((GL K n st).map pairN).length) 0 v (fun _ => false) (Nat.lt_succ_self _) ⟨fun j hj => (by cases hj), fun i j hi => by cases hi⟩ (fun j hj => ⟨fun _ k hk => (by cases hk), fun _ => or_all _ j hj⟩) (by
    have : ∀ i, cnP (fun _ => false) i = 0 := fun i => by
      induction i with
      | zero => rfl
      | succ i ih => rw [cnP, ih]; rfl
    exact (this _).symm)
  rw [h]
  exact ⟨fun ⟨P, _, a⟩ => ⟨P, a⟩, fun ⟨P, a⟩ => ⟨P, fun j hj => (by cases hj), a⟩⟩
theorem GL_fam (hn : n ≤ 7) (h2 : 2 ≤ st) : ∀ g ∈ GL K n st, g < 128 ∧ 2 ≤ bitsN g 8 := fun g hg => by
  have h1 := GL_lt g hg
  have h3 : 2 ^ n ≤ 2 ^ 7 := Nat.pow_le_pow_right (by decide) hn
  have h5 := GL_bits (show n ≤ 8 by omega) g hg
  exact ⟨by omega, by omega⟩
theorem ever_v (hn : n ≤ 7) (h2 : 2 ≤ st) (h4 : st ≤ 4) : ever1 K n st = (gsV ((GL K n st).map pairN) (orL ((GL K n st).map pairN) ((GL K n st).map pairN).length) 0 (0, 35)).1 ∧ ever2 K n st = nI (gsV ((GL K n st).map pairN) (orL ((GL K n st).map pairN) ((GL K n st).map pairN).length) 0 (0, 35)).2 := by
  have hl35 : (GL K n st).length ≤ 35 := GL_35 hn h4
  have hR := gs_fam (K := K) hn h2 h4
  have hle : ∀ v, (∃ P, famP ((GL K n st).map pairN) P ∧ mxP ((GL K n st).map pairN) P ∧ v = cnP P ((GL K n st).map pairN).length) → v ≤ 35 := by
    rintro v ⟨P, -, -, rfl⟩
    have := cnP_le P ((GL K n st).map pairN).length
    rw [List.length_map] at this ⊢
    omega
  obtain ⟨v0, hv0⟩ := gsR_some (pOk_GL (K := K) hn h2 h4) _ (orL ((GL K n st).map pairN) ((GL K n st).map pairN).length) 0 (Nat.lt_succ_self _)
  have hs := gs_spec (PL := (GL K n st).map pairN) (bitsN (orL ((GL K n st).map pairN) ((GL K n st).map pairN).length) 21 + 1) (orL ((GL K n st).map pairN) ((GL K n st).map pairN).length) 0 (0, 35)
  obtain ⟨-, -, b3, b4, b5⟩ := hs.ext hR
  rw [hR] at hv0
  show ever1 K n st = (gsF _ _ _ _ _).1 ∧ ever2 K n st = nI (gsF _ _ _ _ _).2
  generalize gsF ((GL K n st).map pairN) (bitsN (orL ((GL K n st).map pairN) ((GL K n st).map pairN).length) 21 + 1) (orL ((GL K n st).map pairN) ((GL K n st).map pairN).length) 0 (0, 35) = b at b3 b4 b5 ⊢
  have c0 := b3 v0 hv0
  have c00 := hle v0 hv0
  have m1 : ∃ P, famP ((GL K n st).map pairN) P ∧ mxP ((GL K n st).map pairN) P ∧ b.1 = cnP P ((GL K n st).map pairN).length := by
    rcases b4 with h | h
    · have h : b.1 = 0 := h
      rw [show b.1 = v0 by omega]; exact hv0
    · exact h
  have m2 : ∃ P, famP ((GL K n st).map pairN) P ∧ mxP ((GL K n st).map pairN) P ∧ b.2 = cnP P ((GL K n st).map pairN).length := by
    rcases b5 with h | h
    · have h : b.2 = 35 := h
      rw [show b.2 = v0 by omega]; exact hv0
    · exact h
  by_cases e : st = 2
  · subst e
    rw [ever_2 rfl, ever_2b rfl, ← GL_2]
    have hall : ∀ v, (∃ P, famP ((GL K n 2).map pairN) P ∧ mxP ((GL K n 2).map pairN) P ∧ v = cnP P ((GL K n 2).map pairN).length) → v = (GL K n 2).length := by
      rintro v ⟨P, hf, hm, rfl⟩
      rw [List.length_map]
      refine cnP_all _ fun j hj => ?_
      obtain ⟨k, hk, hne⟩ := hm j (by rw [List.length_map]; exact hj)
      have hkl : k < (GL K n 2).length := by have := hf.1 k hk; rw [List.length_map] at this; exact this
      by_cases e2 : k = j
      · rw [← e2]; exact hk
      · refine absurd ?_ hne
        have hx := GL_fam (K := K) (st := 2) hn (by decide)
        have hjm := getD_mem hj
        have hkm := getD_mem hkl
        rw [map_getD hj, map_getD hkl]
        refine (pair_apart _ (hx _ hjm).1 _ (hx _ hkm).1).mp (two_apart _ (hx _ hjm).1 _ (hx _ hkm).1 (GL_bits (by omega) _ hjm) (GL_bits (by omega) _ hkm) fun e3 => e2 ?_)
        have hnd : (GL K n 2).Nodup := gF_nd (by omega) n 0 0 (Nat.le_refl n) (Nat.two_pow_pos _) (by decide) (by decide)
        rw [List.getD_eq_getElem?_getD, List.getElem?_eq_getElem hj, List.getD_eq_getElem?_getD, List.getElem?_eq_getElem hkl] at e3
        rcases Nat.lt_or_gt_of_ne e2 with h9 | h9
        · exact absurd e3.symm (List.pairwise_iff_getElem.mp hnd k j hkl hj h9)
        · exact absurd e3 (List.pairwise_iff_getElem.mp hnd j k hj hkl h9)
    exact ⟨(hall _ m1).symm, congrArg nI (hall _ m2).symm⟩
  · rw [ever_n e, ever_nb e, List.drop_zero]
    have hR2 := fun v => fam_iff (v := v) (GL_fam (K := K) hn h2)
    obtain ⟨-, -, d3, d4, d5⟩ := (sk_spec (L := GL K n st) (GL K n st) [] (0, none)).ext hR2
    generalize seekL (GL K n st) (GL K n st) [] (0, none) = a at d3 d4 d5 ⊢
    obtain ⟨x1, s0, x2, x3⟩ := d3 v0 hv0
    have a1 : ∃ P, famP ((GL K n st).map pairN) P ∧ mxP ((GL K n st).map pairN) P ∧ a.1 = cnP P ((GL K n st).map pairN).length := by
      rcases d4 with h | h
      · have h : a.1 = 0 := h
        rw [show a.1 = v0 by omega]; exact hv0
      · exact h
    have a2 : ∃ P, famP ((GL K n st).map pairN) P ∧ mxP ((GL K n st).map pairN) P ∧ s0 = cnP P ((GL K n st).map pairN).length := (d5 s0 x2).elim (fun h => by cases h) (fun h => h)
    have y1 := (b3 a.1 a1).1
    have y2 := (d3 b.1 m1).1
    obtain ⟨s1, z1, z2⟩ := (d3 b.2 m2).2
    have y3 := (b3 s0 a2).2
    have e1 : s1 = s0 := Option.some.inj (z1.symm.trans x2)
    refine ⟨by omega, ?_⟩
    rw [x2]
    show nI s0 = nI b.2
    exact congrArg nI (by omega)
end EV
