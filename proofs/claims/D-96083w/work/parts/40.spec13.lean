/-! SPEC 13: public operations: codes of refusals, values -/
def gd {α : Type} (c : Int32) (a b : α) : α := if c = 0 then a else b
theorem gd_0 {α : Type} {a b : α} : gd 0 a b = a := rfl
theorem gd_n {α : Type} {c : Int32} {a b : α} (h : ¬ c = 0) : gd c a b = b := if_neg h
def rowC (x y z : Int32) : Int32 := if (0 ≤ x.toInt ∧ x.toInt ≤ 7) ∧ (0 ≤ y.toInt ∧ y.toInt ≤ 4) ∧ (0 ≤ z.toInt ∧ z.toInt ≤ 40) then 0 else -2
def setC (sh sz : Nat → Int32) (x i : Int32) : Int32 := if noRowV sh x = 0 then (if 0 ≤ i.toInt ∧ i.toInt ≤ ((sz x.toNatClampNeg).toNatClampNeg : Int) - 1 then 0 else -2) else noRowV sh x
def fitV (so : Int32) (v : Int64) : Int64 := if so = 0 then v.toInt32.toInt8.toInt32.toInt64 else if so = 1 then v.toInt32.toInt16.toInt32.toInt64 else if so = 2 then v.toInt32.toInt64 else if so = 3 then v else if v = 0 then 0 else 1
def copyC (sh so sz : Nat → Int32) (p q i j n : Int32) : Int32 :=
  if (0 ≤ p.toInt ∧ p.toInt ≤ 7) ∧ (0 ≤ q.toInt ∧ q.toInt ≤ 7) then
    (if sh p.toNatClampNeg = 2 ∨ sh q.toNatClampNeg = 2 ∨ (sh p.toNatClampNeg = 1 ∧ sh q.toNatClampNeg = 1 ∧ ¬ so p.toNatClampNeg = so q.toNatClampNeg) then -3
     else if sh p.toNatClampNeg = 0 ∨ sh q.toNatClampNeg = 0 then -4
     else if n.toInt < 0 ∨ i.toInt < 0 ∨ j.toInt < 0 ∨ ((sz p.toNatClampNeg).toNatClampNeg : Int) < n.toInt ∨ ((sz q.toNatClampNeg).toNatClampNeg : Int) < n.toInt ∨ ((sz p.toNatClampNeg).toNatClampNeg : Int) - n.toInt < i.toInt ∨ ((sz q.toNatClampNeg).toNatClampNeg : Int) - n.toInt < j.toInt then -2 else 0)
  else -2
def cpyL (a b : Nat → Int64) (i j n : Nat) : Nat → Int64 := fun k => if j ≤ k ∧ k < j + n then a (i + (k - j)) else b k
def elemV (sh sz : Nat → Int32) (R : Nat → Nat → Int64) (x i : Int32) : Int64 := if (0 ≤ x.toInt ∧ x.toInt ≤ 7) ∧ sh x.toNatClampNeg = 1 ∧ (0 ≤ i.toInt ∧ i.toInt ≤ ((sz x.toNatClampNeg).toNatClampNeg : Int) - 1) then R x.toNatClampNeg i.toNatClampNeg else 0
def holdsV (sh so kd : Nat → Int32) (x : Int32) : Int32 := if (0 ≤ x.toInt ∧ x.toInt ≤ 7) ∧ ¬ sh x.toNatClampNeg = 0 then (if sh x.toNatClampNeg = 1 then so x.toNatClampNeg else 10 + kd x.toNatClampNeg) else -1
def manC (x k a : Int32) : Int32 := if (0 ≤ x.toInt ∧ x.toInt ≤ 7) ∧ (1 ≤ k.toInt ∧ k.toInt ≤ 5) ∧ (0 ≤ a.toInt ∧ a.toInt ≤ 9) then 0 else -2
def saysC (sh kd : Nat → Int32) (x k : Int32) : Int32 :=
  if (0 ≤ x.toInt ∧ x.toInt ≤ 7) ∧ (0 ≤ k.toInt ∧ k.toInt ≤ 5) then
    (if sh x.toNatClampNeg = 1 ∨ (sh x.toNatClampNeg = 2 ∧ isUndV (kd x.toNatClampNeg).toNatClampNeg k.toNatClampNeg = false) then -3 else if sh x.toNatClampNeg = 0 then -4 else 0)
  else -2
def saysV (kd by9 : Nat → Int32) (K : Nat → Nat → Int32) (cost : Nat → Int32) (n st : Nat) (x k : Int32) : Int32 := if k = 0 then by9 x.toNatClampNeg else nI (sentV K cost n st (kd x.toNatClampNeg).toNatClampNeg (by9 x.toNatClampNeg).toNatClampNeg (2 ^ n - 1) 0)
def personC (n : Nat) (h c : Int32) : Int32 := if (0 ≤ h.toInt ∧ h.toInt ≤ 23) ∧ (0 ≤ c.toInt ∧ c.toInt ≤ 9) then (if n = 7 then -6 else 0) else -2
def changeC (n : Nat) (x w v : Int32) : Int32 := if (0 ≤ x.toInt ∧ x.toInt < (n : Int)) ∧ (0 ≤ w.toInt ∧ w.toInt ≤ 1) ∧ (0 ≤ v.toInt ∧ v.toInt ≤ if w = 0 then 23 else 9) then 0 else -2
def twoC (n : Nat) (x y : Int32) : Int32 := if (0 ≤ x.toInt ∧ x.toInt < (n : Int)) ∧ (0 ≤ y.toInt ∧ y.toInt < (n : Int)) ∧ ¬ x = y then 0 else -2
def knowC (n : Nat) (x y v : Int32) : Int32 := if ((0 ≤ x.toInt ∧ x.toInt < (n : Int)) ∧ (0 ≤ y.toInt ∧ y.toInt < (n : Int)) ∧ ¬ x = y) ∧ (-1 ≤ v.toInt ∧ v.toInt ≤ 99) then 0 else -2
def askC (w v : Int32) : Int32 := if (0 ≤ w.toInt ∧ w.toInt ≤ 1) ∧ (if w = 0 then 2 ≤ v.toInt ∧ v.toInt ≤ 4 else 0 ≤ v.toInt ∧ v.toInt ≤ 99) then 0 else -2
def feedC (sz : Nat) (b : Int32) : Int32 := if 0 ≤ b.toInt ∧ b.toInt ≤ 255 then (if sz = 250 then -6 else 0) else -2
def perOfC (n : Nat) (x w : Int32) : Int32 := if (0 ≤ x.toInt ∧ x.toInt < (n : Int)) ∧ (0 ≤ w.toInt ∧ w.toInt ≤ 3) then 0 else -2
def perOfV (hour cost : Nat → Int32) (K : Nat → Nat → Int32) (n : Nat) (x w : Int32) : Int32 := if w = 0 then hour x.toNatClampNeg else if w = 1 then cost x.toNatClampNeg else if w = 2 then nI (strS K x.toNatClampNeg n) else nI (bitsN (strS K x.toNatClampNeg n) 8)
def mostOfC (K : Nat → Nat → Int32) (n st : Nat) (x i : Int32) : Int32 := if 0 ≤ x.toInt ∧ x.toInt < ((2 ^ n : Nat) : Int) then (if 0 ≤ i.toInt ∧ i.toInt ≤ (mostV (GL K n st) x.toNatClampNeg : Int) - 1 then 0 else -5) else -2
def moL (L : List Nat) (S : Nat) : Nat → Nat
  | 0 => S
  | k + 1 => nd (moL L S k) (bestL L (moL L S k) L)
def sendsC (n : Nat) (sh : Nat → Int32) (x s t : Int32) : Int32 := if (0 ≤ x.toInt ∧ x.toInt ≤ 7) ∧ (0 ≤ s.toInt ∧ s.toInt < ((2 ^ n : Nat) : Int)) ∧ (0 ≤ t.toInt ∧ t.toInt ≤ 7) then noManV sh x else -2
def coachC (went : Nat) (sh : Nat → Int32) (x i : Int32) : Int32 := if noManV sh x = 0 then (if 0 ≤ i.toInt ∧ i.toInt ≤ (went : Int) - 1 then 0 else -5) else noManV sh x
def waitsC (n : Nat) (sh : Nat → Int32) (x p : Int32) : Int32 := if (0 ≤ x.toInt ∧ x.toInt ≤ 7) ∧ (p = -1 ∨ (0 ≤ p.toInt ∧ p.toInt < (n : Int))) then noManV sh x else -2
def fewC (n : Nat) (x : Int32) : Int32 := if (0 ≤ x.toInt ∧ x.toInt < ((2 ^ n : Nat) : Int)) ∧ bitsN x.toNatClampNeg 8 ≤ 5 then 0 else -2
def sureC (K : Nat → Nat → Int32) (n : Nat) (x : Int32) : Int32 := if (0 ≤ x.toInt ∧ x.toInt < ((2 ^ n : Nat) : Int)) ∧ bitsN x.toNatClampNeg 8 ≤ 5 then (if (prL K x.toNatClampNeg n).length = 0 then -5 else 0) else -2
def noDayV (sh sz : Nat → Int32) (x k : Int32) : Int32 := if (0 ≤ x.toInt ∧ x.toInt ≤ 7) ∧ (0 ≤ k.toInt ∧ k.toInt ≤ 7) then (if noRowV sh x = 0 then (if ((sz x.toNatClampNeg).toNatClampNeg : Int) < k.toInt then -2 else 0) else noRowV sh x) else -2
def comeC (k : Int32) : Int32 := if 1 ≤ k.toInt ∧ k.toInt ≤ 7 then 0 else -2
theorem nr8' {sh : Nat → Int32} {x : Int32} (h : noRowV sh x = 0) : ∃ P : Nat, P < 8 ∧ x = nI P := nr8 h
theorem nr_ne {sh : Nat → Int32} {P : Nat} (hP : P < 8) (h : noRowV sh (nI P) = 0) : ¬ sh P = 2 ∧ ¬ sh P = 0 := by
  rw [noRowV_n hP] at h
  constructor
  · intro e; rw [if_pos e] at h; exact absurd h (by decide)
  · intro e; rw [if_neg (by rw [e]; decide), if_pos e] at h; exact absurd h (by decide)
theorem nm_ne {sh : Nat → Int32} {P : Nat} (hP : P < 8) (h : noManV sh (nI P) = 0) : ¬ sh P = 1 ∧ ¬ sh P = 0 := by
  rw [noManV_n hP] at h
  constructor
  · intro e; rw [if_pos e] at h; exact absurd h (by decide)
  · intro e; rw [if_neg (by rw [e]; decide), if_pos e] at h; exact absurd h (by decide)
theorem nI_sub1 (n : Nat) : nI (n + 1) - 1 = nI n := pk_sub (a := n + 1) (b := 1) (by omega)
theorem cpy_0 (a b : Nat → Int64) (i j : Nat) : cpyL a b i j 0 = b := by
  funext k
  unfold cpyL
  rw [if_neg (by omega)]
theorem cpy_s {a b m : Nat → Int64} {i j k n : Nat} (hm : ∀ z, z < n → m z = a (i + z)) (hk : k < n) : va_up (cpyL a b i j k) (j + k) (m k) = cpyL a b i j (k + 1) := by
  funext z
  unfold cpyL va_up
  by_cases h : z = j + k
  · subst h
    rw [if_pos rfl, if_pos (by omega), hm k hk, show j + k - j = k by omega]
  · rw [if_neg h]
    dsimp only
    by_cases h2 : j ≤ z ∧ z < j + k
    · rw [if_pos h2, if_pos (by omega)]
    · rw [if_neg h2, if_neg (by omega)]
theorem moL_le {L : List Nat} {S : Nat} : ∀ k, moL L S k ≤ S
  | 0 => Nat.le_refl S
  | k + 1 => Nat.le_trans (nd_le _ _) (moL_le k)
theorem mk_up {α : Type} {f g : Nat → α} {p : Nat} (h : ∀ z, z ≠ p → f z = g z) : va_up g p (f p) = f := by
  funext z
  unfold va_up
  by_cases e : z = p
  · subst e; rw [if_pos rfl]
  · rw [if_neg e, h z e]
theorem i_lt {x y : Int32} : x < y ↔ x.toInt < y.toInt := Int32.lt_iff_toInt_lt
theorem i_le {x y : Int32} : x ≤ y ↔ x.toInt ≤ y.toInt := Int32.le_iff_toInt_le
theorem i_eq {x y : Int32} : x = y ↔ x.toInt = y.toInt := Int32.toInt_inj.symm
theorem nat_nn {x : Int32} (h : 0 ≤ x.toInt) : ∃ P : Nat, P < 2 ^ 31 ∧ x = nI P := by
  have h2 := x.toInt_lt
  refine ⟨x.toInt.toNat, by omega, Int32.toInt_inj.mp ?_⟩
  rw [nI_toInt (by omega)]
  omega
theorem lt_s1l {m : Nat → Int64} {j : Nat} {v : Int64} (h : ∀ i, i < j → m i = v) : ∀ i, i < j + 1 → va_up m j v i = v := by
  intro i hi
  unfold va_up
  split
  · rfl
  · exact h i (by omega)
theorem cp_put {m g : Nat → Int64} {k i : Nat} (h : ∀ z, z < k → m z = g (i + z)) : ∀ z, z < k + 1 → va_up m k (g (i + k)) z = g (i + z) := by
  intro z hz
  unfold va_up
  by_cases e : z = k
  · subst e; rw [if_pos rfl]
  · rw [if_neg e]; exact h z (by omega)
theorem row_z {R Rx : Nat → Nat → Int64} {P : Nat} (h1 : ∀ p, p ≠ P → Rx p = R p) (h2 : ∀ i, i < 40 → Rx P i = 0) : ∀ p, p < 8 → ∀ j, j < 40 → Rx p j = va_up R P (fun _ => 0) p j := by
  intro p hp j hj
  by_cases e : p = P
  · subst e; rw [va_up_s]; exact h2 j hj
  · rw [va_up_n e, h1 p e]
theorem lgc_0 {v : Int64} : lg_cmp v 0 = 0 ↔ v = 0 := lg_cmp_eq v 0
