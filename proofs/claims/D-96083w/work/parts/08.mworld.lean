/-! THE REFERENCE AS A WORLD (printed by gen/mkm.py): ad k: address of the array in field k, ad 45: the object, ad 50..57: the rows of known, ad 60..67: the rows of rows -/
def Mob (ad : Nat → Nat) (kp tr : Option Nat) (iv : Nat → Int32) : List Value := [.ref (ad 0), .ref (ad 1), .ref (ad 2), .ref (ad 3), .ref (ad 4), .ref (ad 5), .ref (ad 6), .ref (ad 7), .int (iv 8), .ref (ad 9), .int (iv 10), .ref (ad 11), .ref (ad 12), .ref (ad 13), .int (iv 14), .int (iv 15), .int (iv 16), .int (iv 17), .int (iv 18), .int (iv 19), va_rf kp, va_rf tr, .int (iv 22), .int (iv 23), .int (iv 24), .int (iv 25), .int (iv 26), .ref (ad 27), .int (iv 28), .ref (ad 29), .int (iv 30), .ref (ad 31), .ref (ad 32), .int (iv 33), .int (iv 34), .ref (ad 35), .ref (ad 36), .int (iv 37), .int (iv 38), .ref (ad 39), .ref (ad 40), .ref (ad 41), .int (iv 42), .int (iv 43), .int (iv 44)]
def mW (E : En) (ad : Nat → Nat) (kp tr : Option Nat) (iv : Nat → Int32) (ia : Nat → Nat → Int32) (K : Nat → Nat → Int32) (R : Nat → Nat → Int64) (mv : Nat → Int64) : va_W := [(ad 50, .inl (E.2 0, 8, .inl (K 0))),
  (ad 51, .inl (E.2 0, 8, .inl (K 1))),
  (ad 52, .inl (E.2 0, 8, .inl (K 2))),
  (ad 53, .inl (E.2 0, 8, .inl (K 3))),
  (ad 54, .inl (E.2 0, 8, .inl (K 4))),
  (ad 55, .inl (E.2 0, 8, .inl (K 5))),
  (ad 56, .inl (E.2 0, 8, .inl (K 6))),
  (ad 57, .inl (E.2 0, 8, .inl (K 7))),
  (ad 60, .inl (E.2 1, 40, .inr (.inl (R 0)))),
  (ad 61, .inl (E.2 1, 40, .inr (.inl (R 1)))),
  (ad 62, .inl (E.2 1, 40, .inr (.inl (R 2)))),
  (ad 63, .inl (E.2 1, 40, .inr (.inl (R 3)))),
  (ad 64, .inl (E.2 1, 40, .inr (.inl (R 4)))),
  (ad 65, .inl (E.2 1, 40, .inr (.inl (R 5)))),
  (ad 66, .inl (E.2 1, 40, .inr (.inl (R 6)))),
  (ad 67, .inl (E.2 1, 40, .inr (.inl (R 7)))),
  (ad 45, .inr (5, Mob ad kp tr iv)),
  (ad 0, .inl (E.2 0, 8, .inl (ia 0))),
  (ad 1, .inl (E.2 0, 8, .inl (ia 1))),
  (ad 2, .inl (E.2 0, 8, .inl (ia 2))),
  (ad 3, .inl (E.2 3, 8, .inr (.inr (.inr (.inr fun j => some (ad (60 + j))))))),
  (ad 4, .inl (E.2 1, 40, .inr (.inl mv))),
  (ad 5, .inl (E.2 0, 8, .inl (ia 5))),
  (ad 6, .inl (E.2 0, 8, .inl (ia 6))),
  (ad 7, .inl (E.2 0, 250, .inl (ia 7))),
  (ad 9, .inl (E.2 0, 8, .inl (ia 9))),
  (ad 11, .inl (E.2 0, 8, .inl (ia 11))),
  (ad 12, .inl (E.2 0, 8, .inl (ia 12))),
  (ad 13, .inl (E.2 2, 8, .inr (.inr (.inr (.inr fun j => some (ad (50 + j))))))),
  (ad 27, .inl (E.2 0, 2, .inl (ia 27))),
  (ad 29, .inl (E.2 0, 70, .inl (ia 29))),
  (ad 31, .inl (E.2 0, 7, .inl (ia 31))),
  (ad 32, .inl (E.2 0, 7, .inl (ia 32))),
  (ad 35, .inl (E.2 0, 7, .inl (ia 35))),
  (ad 36, .inl (E.2 0, 1024, .inl (ia 36))),
  (ad 39, .inl (E.2 0, 10, .inl (ia 39))),
  (ad 40, .inl (E.2 0, 10, .inl (ia 40))),
  (ad 41, .inl (E.2 0, 10, .inl (ia 41)))]
theorem va_up_s {α : Type} {f : Nat → α} {k : Nat} {v : α} : va_up f k v k = v := if_pos rfl
theorem va_up_n {α : Type} {f : Nat → α} {k j : Nat} {v : α} (h : j ≠ k) : va_up f k v j = f j := if_neg h
theorem va_up_id {α : Type} {f : Nat → α} {k : Nat} {v : α} (h : f k = v) : va_up f k v = f := by
  funext j
  unfold va_up
  split
  · rename_i e; rw [e, h]
  · rfl
theorem wI_w {E : En} {A : Nat → Prop} {s : State} {H : Heap} {locs : List Loc} {ws ws' : va_W} (h : ws' = ws) (hI : wI E A s H locs ws) : wI E A s H locs ws' := h ▸ hI
theorem up_0 {α : Type} {f : Nat → α} {k : Nat} {v w : α} : va_up (va_up f k v) k w = va_up f k w := by
  funext j
  unfold va_up
  split <;> rfl
theorem up_s {α : Type} {f f' : Nat → α} {a k : Nat} {x w : α} (h : a ≠ k) (e : va_up f k w = f') : va_up (va_up f a x) k w = va_up f' a x := by
  subst e
  funext j
  unfold va_up
  by_cases h1 : j = k
  · rw [if_pos h1, if_neg (by omega), if_pos h1]
  · rw [if_neg h1]
    split <;> rfl
theorem up_n {α : Type} {f : Nat → α} {j k : Nat} {v x : α} (h : j ≠ k) (e : f j = x) : va_up f k v j = x := (if_neg h).trans e
section MW
variable {E : En} {ad : Nat → Nat} {kp tr : Option Nat} {iv : Nat → Int32} {ia K : Nat → Nat → Int32} {R : Nat → Nat → Int64} {mv : Nat → Int64}
theorem mW_o : (mW E ad kp tr iv ia K R mv)[16]? = some (ad 45, .inr (5, Mob ad kp tr iv)) := rfl
theorem mW_i8 {x : Int32} : (mW E ad kp tr iv ia K R mv).set 16 (ad 45, .inr (5, (Mob ad kp tr iv).set 8 (.int x))) = mW E ad kp tr (va_up iv 8 x) ia K R mv := rfl
theorem mW_i10 {x : Int32} : (mW E ad kp tr iv ia K R mv).set 16 (ad 45, .inr (5, (Mob ad kp tr iv).set 10 (.int x))) = mW E ad kp tr (va_up iv 10 x) ia K R mv := rfl
theorem mW_i14 {x : Int32} : (mW E ad kp tr iv ia K R mv).set 16 (ad 45, .inr (5, (Mob ad kp tr iv).set 14 (.int x))) = mW E ad kp tr (va_up iv 14 x) ia K R mv := rfl
theorem mW_i15 {x : Int32} : (mW E ad kp tr iv ia K R mv).set 16 (ad 45, .inr (5, (Mob ad kp tr iv).set 15 (.int x))) = mW E ad kp tr (va_up iv 15 x) ia K R mv := rfl
theorem mW_i16 {x : Int32} : (mW E ad kp tr iv ia K R mv).set 16 (ad 45, .inr (5, (Mob ad kp tr iv).set 16 (.int x))) = mW E ad kp tr (va_up iv 16 x) ia K R mv := rfl
theorem mW_i17 {x : Int32} : (mW E ad kp tr iv ia K R mv).set 16 (ad 45, .inr (5, (Mob ad kp tr iv).set 17 (.int x))) = mW E ad kp tr (va_up iv 17 x) ia K R mv := rfl
theorem mW_i18 {x : Int32} : (mW E ad kp tr iv ia K R mv).set 16 (ad 45, .inr (5, (Mob ad kp tr iv).set 18 (.int x))) = mW E ad kp tr (va_up iv 18 x) ia K R mv := rfl
theorem mW_i19 {x : Int32} : (mW E ad kp tr iv ia K R mv).set 16 (ad 45, .inr (5, (Mob ad kp tr iv).set 19 (.int x))) = mW E ad kp tr (va_up iv 19 x) ia K R mv := rfl
theorem mW_i22 {x : Int32} : (mW E ad kp tr iv ia K R mv).set 16 (ad 45, .inr (5, (Mob ad kp tr iv).set 22 (.int x))) = mW E ad kp tr (va_up iv 22 x) ia K R mv := rfl
theorem mW_i23 {x : Int32} : (mW E ad kp tr iv ia K R mv).set 16 (ad 45, .inr (5, (Mob ad kp tr iv).set 23 (.int x))) = mW E ad kp tr (va_up iv 23 x) ia K R mv := rfl
theorem mW_i24 {x : Int32} : (mW E ad kp tr iv ia K R mv).set 16 (ad 45, .inr (5, (Mob ad kp tr iv).set 24 (.int x))) = mW E ad kp tr (va_up iv 24 x) ia K R mv := rfl
theorem mW_i25 {x : Int32} : (mW E ad kp tr iv ia K R mv).set 16 (ad 45, .inr (5, (Mob ad kp tr iv).set 25 (.int x))) = mW E ad kp tr (va_up iv 25 x) ia K R mv := rfl
theorem mW_i26 {x : Int32} : (mW E ad kp tr iv ia K R mv).set 16 (ad 45, .inr (5, (Mob ad kp tr iv).set 26 (.int x))) = mW E ad kp tr (va_up iv 26 x) ia K R mv := rfl
theorem mW_i28 {x : Int32} : (mW E ad kp tr iv ia K R mv).set 16 (ad 45, .inr (5, (Mob ad kp tr iv).set 28 (.int x))) = mW E ad kp tr (va_up iv 28 x) ia K R mv := rfl
theorem mW_i30 {x : Int32} : (mW E ad kp tr iv ia K R mv).set 16 (ad 45, .inr (5, (Mob ad kp tr iv).set 30 (.int x))) = mW E ad kp tr (va_up iv 30 x) ia K R mv := rfl
theorem mW_i33 {x : Int32} : (mW E ad kp tr iv ia K R mv).set 16 (ad 45, .inr (5, (Mob ad kp tr iv).set 33 (.int x))) = mW E ad kp tr (va_up iv 33 x) ia K R mv := rfl
theorem mW_i34 {x : Int32} : (mW E ad kp tr iv ia K R mv).set 16 (ad 45, .inr (5, (Mob ad kp tr iv).set 34 (.int x))) = mW E ad kp tr (va_up iv 34 x) ia K R mv := rfl
theorem mW_i37 {x : Int32} : (mW E ad kp tr iv ia K R mv).set 16 (ad 45, .inr (5, (Mob ad kp tr iv).set 37 (.int x))) = mW E ad kp tr (va_up iv 37 x) ia K R mv := rfl
theorem mW_i38 {x : Int32} : (mW E ad kp tr iv ia K R mv).set 16 (ad 45, .inr (5, (Mob ad kp tr iv).set 38 (.int x))) = mW E ad kp tr (va_up iv 38 x) ia K R mv := rfl
theorem mW_i42 {x : Int32} : (mW E ad kp tr iv ia K R mv).set 16 (ad 45, .inr (5, (Mob ad kp tr iv).set 42 (.int x))) = mW E ad kp tr (va_up iv 42 x) ia K R mv := rfl
theorem mW_i43 {x : Int32} : (mW E ad kp tr iv ia K R mv).set 16 (ad 45, .inr (5, (Mob ad kp tr iv).set 43 (.int x))) = mW E ad kp tr (va_up iv 43 x) ia K R mv := rfl
theorem mW_i44 {x : Int32} : (mW E ad kp tr iv ia K R mv).set 16 (ad 45, .inr (5, (Mob ad kp tr iv).set 44 (.int x))) = mW E ad kp tr (va_up iv 44 x) ia K R mv := rfl
theorem mW_a0 {g : Nat → Int32} : (mW E ad kp tr iv ia K R mv).set 17 (ad 0, .inl (E.2 0, 8, .inl g)) = mW E ad kp tr iv (va_up ia 0 g) K R mv := rfl
theorem mW_a1 {g : Nat → Int32} : (mW E ad kp tr iv ia K R mv).set 18 (ad 1, .inl (E.2 0, 8, .inl g)) = mW E ad kp tr iv (va_up ia 1 g) K R mv := rfl
theorem mW_a2 {g : Nat → Int32} : (mW E ad kp tr iv ia K R mv).set 19 (ad 2, .inl (E.2 0, 8, .inl g)) = mW E ad kp tr iv (va_up ia 2 g) K R mv := rfl
theorem mW_a5 {g : Nat → Int32} : (mW E ad kp tr iv ia K R mv).set 22 (ad 5, .inl (E.2 0, 8, .inl g)) = mW E ad kp tr iv (va_up ia 5 g) K R mv := rfl
theorem mW_a6 {g : Nat → Int32} : (mW E ad kp tr iv ia K R mv).set 23 (ad 6, .inl (E.2 0, 8, .inl g)) = mW E ad kp tr iv (va_up ia 6 g) K R mv := rfl
theorem mW_a7 {g : Nat → Int32} : (mW E ad kp tr iv ia K R mv).set 24 (ad 7, .inl (E.2 0, 250, .inl g)) = mW E ad kp tr iv (va_up ia 7 g) K R mv := rfl
theorem mW_a9 {g : Nat → Int32} : (mW E ad kp tr iv ia K R mv).set 25 (ad 9, .inl (E.2 0, 8, .inl g)) = mW E ad kp tr iv (va_up ia 9 g) K R mv := rfl
theorem mW_a11 {g : Nat → Int32} : (mW E ad kp tr iv ia K R mv).set 26 (ad 11, .inl (E.2 0, 8, .inl g)) = mW E ad kp tr iv (va_up ia 11 g) K R mv := rfl
theorem mW_a12 {g : Nat → Int32} : (mW E ad kp tr iv ia K R mv).set 27 (ad 12, .inl (E.2 0, 8, .inl g)) = mW E ad kp tr iv (va_up ia 12 g) K R mv := rfl
theorem mW_a27 {g : Nat → Int32} : (mW E ad kp tr iv ia K R mv).set 29 (ad 27, .inl (E.2 0, 2, .inl g)) = mW E ad kp tr iv (va_up ia 27 g) K R mv := rfl
theorem mW_a29 {g : Nat → Int32} : (mW E ad kp tr iv ia K R mv).set 30 (ad 29, .inl (E.2 0, 70, .inl g)) = mW E ad kp tr iv (va_up ia 29 g) K R mv := rfl
theorem mW_a31 {g : Nat → Int32} : (mW E ad kp tr iv ia K R mv).set 31 (ad 31, .inl (E.2 0, 7, .inl g)) = mW E ad kp tr iv (va_up ia 31 g) K R mv := rfl
theorem mW_a32 {g : Nat → Int32} : (mW E ad kp tr iv ia K R mv).set 32 (ad 32, .inl (E.2 0, 7, .inl g)) = mW E ad kp tr iv (va_up ia 32 g) K R mv := rfl
theorem mW_a35 {g : Nat → Int32} : (mW E ad kp tr iv ia K R mv).set 33 (ad 35, .inl (E.2 0, 7, .inl g)) = mW E ad kp tr iv (va_up ia 35 g) K R mv := rfl
theorem mW_a36 {g : Nat → Int32} : (mW E ad kp tr iv ia K R mv).set 34 (ad 36, .inl (E.2 0, 1024, .inl g)) = mW E ad kp tr iv (va_up ia 36 g) K R mv := rfl
theorem mW_a39 {g : Nat → Int32} : (mW E ad kp tr iv ia K R mv).set 35 (ad 39, .inl (E.2 0, 10, .inl g)) = mW E ad kp tr iv (va_up ia 39 g) K R mv := rfl
theorem mW_a40 {g : Nat → Int32} : (mW E ad kp tr iv ia K R mv).set 36 (ad 40, .inl (E.2 0, 10, .inl g)) = mW E ad kp tr iv (va_up ia 40 g) K R mv := rfl
theorem mW_a41 {g : Nat → Int32} : (mW E ad kp tr iv ia K R mv).set 37 (ad 41, .inl (E.2 0, 10, .inl g)) = mW E ad kp tr iv (va_up ia 41 g) K R mv := rfl
theorem mW_g0 {f : Nat → Int32} (e : ia 0 = f) : (mW E ad kp tr iv ia K R mv)[17]? = some (ad 0, .inl (E.2 0, 8, .inl f)) := by subst e; rfl
theorem mW_g1 {f : Nat → Int32} (e : ia 1 = f) : (mW E ad kp tr iv ia K R mv)[18]? = some (ad 1, .inl (E.2 0, 8, .inl f)) := by subst e; rfl
theorem mW_g2 {f : Nat → Int32} (e : ia 2 = f) : (mW E ad kp tr iv ia K R mv)[19]? = some (ad 2, .inl (E.2 0, 8, .inl f)) := by subst e; rfl
theorem mW_g5 {f : Nat → Int32} (e : ia 5 = f) : (mW E ad kp tr iv ia K R mv)[22]? = some (ad 5, .inl (E.2 0, 8, .inl f)) := by subst e; rfl
theorem mW_g6 {f : Nat → Int32} (e : ia 6 = f) : (mW E ad kp tr iv ia K R mv)[23]? = some (ad 6, .inl (E.2 0, 8, .inl f)) := by subst e; rfl
theorem mW_g7 {f : Nat → Int32} (e : ia 7 = f) : (mW E ad kp tr iv ia K R mv)[24]? = some (ad 7, .inl (E.2 0, 250, .inl f)) := by subst e; rfl
theorem mW_g9 {f : Nat → Int32} (e : ia 9 = f) : (mW E ad kp tr iv ia K R mv)[25]? = some (ad 9, .inl (E.2 0, 8, .inl f)) := by subst e; rfl
theorem mW_g11 {f : Nat → Int32} (e : ia 11 = f) : (mW E ad kp tr iv ia K R mv)[26]? = some (ad 11, .inl (E.2 0, 8, .inl f)) := by subst e; rfl
theorem mW_g12 {f : Nat → Int32} (e : ia 12 = f) : (mW E ad kp tr iv ia K R mv)[27]? = some (ad 12, .inl (E.2 0, 8, .inl f)) := by subst e; rfl
theorem mW_g27 {f : Nat → Int32} (e : ia 27 = f) : (mW E ad kp tr iv ia K R mv)[29]? = some (ad 27, .inl (E.2 0, 2, .inl f)) := by subst e; rfl
theorem mW_g29 {f : Nat → Int32} (e : ia 29 = f) : (mW E ad kp tr iv ia K R mv)[30]? = some (ad 29, .inl (E.2 0, 70, .inl f)) := by subst e; rfl
theorem mW_g31 {f : Nat → Int32} (e : ia 31 = f) : (mW E ad kp tr iv ia K R mv)[31]? = some (ad 31, .inl (E.2 0, 7, .inl f)) := by subst e; rfl
theorem mW_g32 {f : Nat → Int32} (e : ia 32 = f) : (mW E ad kp tr iv ia K R mv)[32]? = some (ad 32, .inl (E.2 0, 7, .inl f)) := by subst e; rfl
theorem mW_g35 {f : Nat → Int32} (e : ia 35 = f) : (mW E ad kp tr iv ia K R mv)[33]? = some (ad 35, .inl (E.2 0, 7, .inl f)) := by subst e; rfl
theorem mW_g36 {f : Nat → Int32} (e : ia 36 = f) : (mW E ad kp tr iv ia K R mv)[34]? = some (ad 36, .inl (E.2 0, 1024, .inl f)) := by subst e; rfl
theorem mW_g39 {f : Nat → Int32} (e : ia 39 = f) : (mW E ad kp tr iv ia K R mv)[35]? = some (ad 39, .inl (E.2 0, 10, .inl f)) := by subst e; rfl
theorem mW_g40 {f : Nat → Int32} (e : ia 40 = f) : (mW E ad kp tr iv ia K R mv)[36]? = some (ad 40, .inl (E.2 0, 10, .inl f)) := by subst e; rfl
theorem mW_g41 {f : Nat → Int32} (e : ia 41 = f) : (mW E ad kp tr iv ia K R mv)[37]? = some (ad 41, .inl (E.2 0, 10, .inl f)) := by subst e; rfl
theorem mW_tr {x : Nat} : (mW E ad kp tr iv ia K R mv).set 16 (ad 45, .inr (5, (Mob ad kp tr iv).set 21 (.ref x))) = mW E ad kp (some x) iv ia K R mv := rfl
theorem mW_kp {x : Nat} : (mW E ad kp tr iv ia K R mv).set 16 (ad 45, .inr (5, (Mob ad kp tr iv).set 20 (.ref x))) = mW E ad (some x) tr iv ia K R mv := rfl
theorem mW_mv {g : Nat → Int64} : (mW E ad kp tr iv ia K R mv).set 21 (ad 4, .inl (E.2 1, 40, .inr (.inl g))) = mW E ad kp tr iv ia K R g := rfl
theorem mW_c1 {iv' : Nat → Int32} (h : iv = iv') : mW E ad kp tr iv ia K R mv = mW E ad kp tr iv' ia K R mv := by rw [h]
theorem mW_c2 {ia' : Nat → Nat → Int32} (h : ia = ia') : mW E ad kp tr iv ia K R mv = mW E ad kp tr iv ia' K R mv := by rw [h]
theorem p_8 {P : Nat → Prop} (h0 : P 0) (h1 : P 1) (h2 : P 2) (h3 : P 3) (h4 : P 4) (h5 : P 5) (h6 : P 6) (h7 : P 7) : ∀ p, p < 8 → P p := by
  intro p hp
  match p, hp with
  | 0, _ => exact h0
  | 1, _ => exact h1
  | 2, _ => exact h2
  | 3, _ => exact h3
  | 4, _ => exact h4
  | 5, _ => exact h5
  | 6, _ => exact h6
  | 7, _ => exact h7
  | n + 8, h => exact absurd h (by omega)
theorem mW_K : ∀ p, p < 8 → (mW E ad kp tr iv ia K R mv)[p]? = some (ad (50 + p), .inl (E.2 0, 8, .inl (K p))) := p_8 rfl rfl rfl rfl rfl rfl rfl rfl
theorem mW_Ks {g : Nat → Int32} : ∀ p, p < 8 → (mW E ad kp tr iv ia K R mv).set p (ad (50 + p), .inl (E.2 0, 8, .inl g)) = mW E ad kp tr iv ia (va_up K p g) R mv := p_8 rfl rfl rfl rfl rfl rfl rfl rfl
theorem mW_R : ∀ p, p < 8 → (mW E ad kp tr iv ia K R mv)[8 + p]? = some (ad (60 + p), .inl (E.2 1, 40, .inr (.inl (R p)))) := p_8 rfl rfl rfl rfl rfl rfl rfl rfl
theorem mW_Rs {g : Nat → Int64} : ∀ p, p < 8 → (mW E ad kp tr iv ia K R mv).set (8 + p) (ad (60 + p), .inl (E.2 1, 40, .inr (.inl g))) = mW E ad kp tr iv ia K (va_up R p g) mv := p_8 rfl rfl rfl rfl rfl rfl rfl rfl
end MW
theorem he_l {a b : va_W} {i : Nat} {q : Nat × va_E} (h : a[i]? = some q) : (a ++ b)[i]? = some q := by rw [List.getElem?_append_left (List.getElem?_eq_some_iff.mp h).1]; exact h
theorem he_r {a b : va_W} {n i : Nat} {q : Nat × va_E} (h1 : a.length ≤ n) (h2 : n ≤ a.length) (h : b[i]? = some q) : (a ++ b)[n + i]? = some q := by rw [List.getElem?_append_right (by omega), show n + i - a.length = i by omega]; exact h
theorem hw_l {a a1 b : va_W} {i : Nat} {q : Nat × va_E} (hi : i < a.length) (h : a.set i q = a1) : (a ++ b).set i q = a1 ++ b := by rw [List.set_append_left _ _ hi, h]
theorem hw_r {a b b1 : va_W} {n i : Nat} {q : Nat × va_E} (h1 : a.length ≤ n) (h2 : n ≤ a.length) (h : b.set i q = b1) : (a ++ b).set (n + i) q = a ++ b1 := by rw [List.set_append_right _ _ (by omega), show n + i - a.length = i by omega, h]
/-! numbers and branches -/
theorem al {a b : Int32} (h : a = b) : some (Value.int a) = some (Value.int b) := by rw [h]
theorem n_lt {a b : Nat} (ha : a < 2 ^ 31) (hb : b < 2 ^ 31) : nI a < nI b ↔ a < b := nI_ltI ha hb
theorem n_le {a b : Nat} (ha : a < 2 ^ 31) (hb : b < 2 ^ 31) : nI a ≤ nI b ↔ a ≤ b := nI_leI ha hb
theorem n_eq {a b : Nat} (ha : a < 2 ^ 31) (hb : b < 2 ^ 31) : nI a = nI b ↔ a = b := nI_eq ha hb
def b2i (b : Bool) : Int32 := if b then 1 else 0
theorem b2i_cases {b : Bool} {r : Int32} (h : r = b2i b) : (b = true ∧ r = 1) ∨ (b = false ∧ r = 0) := by
  cases b
  · exact Or.inr ⟨rfl, h⟩
  · exact Or.inl ⟨rfl, h⟩
theorem b2i_nar (b : Bool) : narrow .boolean (.int (b2i b)) = .int (b2i b) := by cases b <;> rfl
section AS
variable {p : Program} {l : Launch} {e : Env} {R : Room} {s : State} {m : MethodId} {args : Array Value} {below : List Frame} {meth : Method} {c : Code} {H : Heap} {locs : List Loc} {cells slots : Nat} {Q : State → Prop} {pc : Nat} {ls : Array Slot} {rest : List Value}
theorem lv_as {x y : Int32} (h : x = y) (k : W p l e R s m args below meth c H locs cells slots Q (F0 m pc ls (.int y :: rest))) : W p l e R s m args below meth c H locs cells slots Q (F0 m pc ls (.int x :: rest)) := h ▸ k
theorem lv_asl {x y : Int64} (h : x = y) (k : W p l e R s m args below meth c H locs cells slots Q (F0 m pc ls (.long y :: rest))) : W p l e R s m args below meth c H locs cells slots Q (F0 m pc ls (.long x :: rest)) := h ▸ k
end AS
