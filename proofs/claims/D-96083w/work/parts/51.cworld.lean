/-! THE COMPONENT: its objects as worlds (printed by gen/mkc.py): ad k: address of the array in field k, the object at ad N; calls of nest mates; the order of segments -/
def tOb (ad : Nat → Nat) (iv : Nat → Int32) : List Value := [.ref (ad 0), .ref (ad 1), .ref (ad 2), .int (iv 3), .int (iv 4), .int (iv 5), .int (iv 6), .int (iv 7), .int (iv 8), .int (iv 9)]
def tW (E : En) (ad : Nat → Nat) (iv : Nat → Int32) (hr : Nat → Int32) (cs : Nat → Int32) (S : Nat → Int32) : va_W := [(ad 10, .inr (1, tOb ad iv)), (ad 0, .inl (E.2 0, 7, .inl hr)), (ad 1, .inl (E.2 0, 7, .inl cs)), (ad 2, .inl (E.2 0, 49, .inl S))]
theorem tW_o {E : En} {ad : Nat → Nat} {iv : Nat → Int32} {hr : Nat → Int32} {cs : Nat → Int32} {S : Nat → Int32} : (tW E ad iv hr cs S)[0]? = some (ad 10, .inr (1, tOb ad iv)) := rfl
theorem tW_i3 {E : En} {ad : Nat → Nat} {iv : Nat → Int32} {hr : Nat → Int32} {cs : Nat → Int32} {S : Nat → Int32} {x : Int32} : (tW E ad iv hr cs S).set 0 (ad 10, .inr (1, (tOb ad iv).set 3 (.int x))) = tW E ad (va_up iv 3 x) hr cs S := rfl
theorem tW_i4 {E : En} {ad : Nat → Nat} {iv : Nat → Int32} {hr : Nat → Int32} {cs : Nat → Int32} {S : Nat → Int32} {x : Int32} : (tW E ad iv hr cs S).set 0 (ad 10, .inr (1, (tOb ad iv).set 4 (.int x))) = tW E ad (va_up iv 4 x) hr cs S := rfl
theorem tW_i5 {E : En} {ad : Nat → Nat} {iv : Nat → Int32} {hr : Nat → Int32} {cs : Nat → Int32} {S : Nat → Int32} {x : Int32} : (tW E ad iv hr cs S).set 0 (ad 10, .inr (1, (tOb ad iv).set 5 (.int x))) = tW E ad (va_up iv 5 x) hr cs S := rfl
theorem tW_i6 {E : En} {ad : Nat → Nat} {iv : Nat → Int32} {hr : Nat → Int32} {cs : Nat → Int32} {S : Nat → Int32} {x : Int32} : (tW E ad iv hr cs S).set 0 (ad 10, .inr (1, (tOb ad iv).set 6 (.int x))) = tW E ad (va_up iv 6 x) hr cs S := rfl
theorem tW_i7 {E : En} {ad : Nat → Nat} {iv : Nat → Int32} {hr : Nat → Int32} {cs : Nat → Int32} {S : Nat → Int32} {x : Int32} : (tW E ad iv hr cs S).set 0 (ad 10, .inr (1, (tOb ad iv).set 7 (.int x))) = tW E ad (va_up iv 7 x) hr cs S := rfl
theorem tW_i8 {E : En} {ad : Nat → Nat} {iv : Nat → Int32} {hr : Nat → Int32} {cs : Nat → Int32} {S : Nat → Int32} {x : Int32} : (tW E ad iv hr cs S).set 0 (ad 10, .inr (1, (tOb ad iv).set 8 (.int x))) = tW E ad (va_up iv 8 x) hr cs S := rfl
theorem tW_i9 {E : En} {ad : Nat → Nat} {iv : Nat → Int32} {hr : Nat → Int32} {cs : Nat → Int32} {S : Nat → Int32} {x : Int32} : (tW E ad iv hr cs S).set 0 (ad 10, .inr (1, (tOb ad iv).set 9 (.int x))) = tW E ad (va_up iv 9 x) hr cs S := rfl
theorem tW_g0 {E : En} {ad : Nat → Nat} {iv : Nat → Int32} {hr : Nat → Int32} {cs : Nat → Int32} {S : Nat → Int32} {f : Nat → Int32} (e : hr = f) : (tW E ad iv hr cs S)[1]? = some (ad 0, .inl (E.2 0, 7, .inl f)) := by subst e; rfl
theorem tW_a0 {E : En} {ad : Nat → Nat} {iv : Nat → Int32} {hr : Nat → Int32} {cs : Nat → Int32} {S : Nat → Int32} {g : Nat → Int32} : (tW E ad iv hr cs S).set 1 (ad 0, .inl (E.2 0, 7, .inl g)) = tW E ad iv g cs S := rfl
theorem tW_g1 {E : En} {ad : Nat → Nat} {iv : Nat → Int32} {hr : Nat → Int32} {cs : Nat → Int32} {S : Nat → Int32} {f : Nat → Int32} (e : cs = f) : (tW E ad iv hr cs S)[2]? = some (ad 1, .inl (E.2 0, 7, .inl f)) := by subst e; rfl
theorem tW_a1 {E : En} {ad : Nat → Nat} {iv : Nat → Int32} {hr : Nat → Int32} {cs : Nat → Int32} {S : Nat → Int32} {g : Nat → Int32} : (tW E ad iv hr cs S).set 2 (ad 1, .inl (E.2 0, 7, .inl g)) = tW E ad iv hr g S := rfl
theorem tW_g2 {E : En} {ad : Nat → Nat} {iv : Nat → Int32} {hr : Nat → Int32} {cs : Nat → Int32} {S : Nat → Int32} {f : Nat → Int32} (e : S = f) : (tW E ad iv hr cs S)[3]? = some (ad 2, .inl (E.2 0, 49, .inl f)) := by subst e; rfl
theorem tW_a2 {E : En} {ad : Nat → Nat} {iv : Nat → Int32} {hr : Nat → Int32} {cs : Nat → Int32} {S : Nat → Int32} {g : Nat → Int32} : (tW E ad iv hr cs S).set 3 (ad 2, .inl (E.2 0, 49, .inl g)) = tW E ad iv hr cs g := rfl
theorem tW_c {E : En} {ad : Nat → Nat} {iv : Nat → Int32} {hr : Nat → Int32} {cs : Nat → Int32} {S : Nat → Int32} {iv' : Nat → Int32} (h : iv = iv') : tW E ad iv hr cs S = tW E ad iv' hr cs S := by rw [h]
def gOb (ad : Nat → Nat) (iv : Nat → Int32) (tn : Option Nat) : List Value := [.ref (ad 0), .ref (ad 1), .ref (ad 2), .ref (ad 3), va_rf tn, .int (iv 5), .int (iv 6), .int (iv 7)]
def gW (E : En) (ad : Nat → Nat) (iv : Nat → Int32) (gr : Nat → Int32) (pa : Nat → Int32) (mo : Nat → Int32) (sg : Nat → Int32) (tn : Option Nat) : va_W := [(ad 8, .inr (2, gOb ad iv tn)), (ad 0, .inl (E.2 0, 35, .inl gr)), (ad 1, .inl (E.2 0, 35, .inl pa)), (ad 2, .inl (E.2 0, 128, .inl mo)), (ad 3, .inl (E.2 0, 7, .inl sg))]
theorem gW_o {E : En} {ad : Nat → Nat} {iv : Nat → Int32} {gr : Nat → Int32} {pa : Nat → Int32} {mo : Nat → Int32} {sg : Nat → Int32} {tn : Option Nat} : (gW E ad iv gr pa mo sg tn)[0]? = some (ad 8, .inr (2, gOb ad iv tn)) := rfl
theorem gW_i5 {E : En} {ad : Nat → Nat} {iv : Nat → Int32} {gr : Nat → Int32} {pa : Nat → Int32} {mo : Nat → Int32} {sg : Nat → Int32} {tn : Option Nat} {x : Int32} : (gW E ad iv gr pa mo sg tn).set 0 (ad 8, .inr (2, (gOb ad iv tn).set 5 (.int x))) = gW E ad (va_up iv 5 x) gr pa mo sg tn := rfl
theorem gW_i6 {E : En} {ad : Nat → Nat} {iv : Nat → Int32} {gr : Nat → Int32} {pa : Nat → Int32} {mo : Nat → Int32} {sg : Nat → Int32} {tn : Option Nat} {x : Int32} : (gW E ad iv gr pa mo sg tn).set 0 (ad 8, .inr (2, (gOb ad iv tn).set 6 (.int x))) = gW E ad (va_up iv 6 x) gr pa mo sg tn := rfl
theorem gW_i7 {E : En} {ad : Nat → Nat} {iv : Nat → Int32} {gr : Nat → Int32} {pa : Nat → Int32} {mo : Nat → Int32} {sg : Nat → Int32} {tn : Option Nat} {x : Int32} : (gW E ad iv gr pa mo sg tn).set 0 (ad 8, .inr (2, (gOb ad iv tn).set 7 (.int x))) = gW E ad (va_up iv 7 x) gr pa mo sg tn := rfl
theorem gW_g0 {E : En} {ad : Nat → Nat} {iv : Nat → Int32} {gr : Nat → Int32} {pa : Nat → Int32} {mo : Nat → Int32} {sg : Nat → Int32} {tn : Option Nat} {f : Nat → Int32} (e : gr = f) : (gW E ad iv gr pa mo sg tn)[1]? = some (ad 0, .inl (E.2 0, 35, .inl f)) := by subst e; rfl
theorem gW_a0 {E : En} {ad : Nat → Nat} {iv : Nat → Int32} {gr : Nat → Int32} {pa : Nat → Int32} {mo : Nat → Int32} {sg : Nat → Int32} {tn : Option Nat} {g : Nat → Int32} : (gW E ad iv gr pa mo sg tn).set 1 (ad 0, .inl (E.2 0, 35, .inl g)) = gW E ad iv g pa mo sg tn := rfl
theorem gW_g1 {E : En} {ad : Nat → Nat} {iv : Nat → Int32} {gr : Nat → Int32} {pa : Nat → Int32} {mo : Nat → Int32} {sg : Nat → Int32} {tn : Option Nat} {f : Nat → Int32} (e : pa = f) : (gW E ad iv gr pa mo sg tn)[2]? = some (ad 1, .inl (E.2 0, 35, .inl f)) := by subst e; rfl
theorem gW_a1 {E : En} {ad : Nat → Nat} {iv : Nat → Int32} {gr : Nat → Int32} {pa : Nat → Int32} {mo : Nat → Int32} {sg : Nat → Int32} {tn : Option Nat} {g : Nat → Int32} : (gW E ad iv gr pa mo sg tn).set 2 (ad 1, .inl (E.2 0, 35, .inl g)) = gW E ad iv gr g mo sg tn := rfl
theorem gW_g2 {E : En} {ad : Nat → Nat} {iv : Nat → Int32} {gr : Nat → Int32} {pa : Nat → Int32} {mo : Nat → Int32} {sg : Nat → Int32} {tn : Option Nat} {f : Nat → Int32} (e : mo = f) : (gW E ad iv gr pa mo sg tn)[3]? = some (ad 2, .inl (E.2 0, 128, .inl f)) := by subst e; rfl
theorem gW_a2 {E : En} {ad : Nat → Nat} {iv : Nat → Int32} {gr : Nat → Int32} {pa : Nat → Int32} {mo : Nat → Int32} {sg : Nat → Int32} {tn : Option Nat} {g : Nat → Int32} : (gW E ad iv gr pa mo sg tn).set 3 (ad 2, .inl (E.2 0, 128, .inl g)) = gW E ad iv gr pa g sg tn := rfl
theorem gW_g3 {E : En} {ad : Nat → Nat} {iv : Nat → Int32} {gr : Nat → Int32} {pa : Nat → Int32} {mo : Nat → Int32} {sg : Nat → Int32} {tn : Option Nat} {f : Nat → Int32} (e : sg = f) : (gW E ad iv gr pa mo sg tn)[4]? = some (ad 3, .inl (E.2 0, 7, .inl f)) := by subst e; rfl
theorem gW_a3 {E : En} {ad : Nat → Nat} {iv : Nat → Int32} {gr : Nat → Int32} {pa : Nat → Int32} {mo : Nat → Int32} {sg : Nat → Int32} {tn : Option Nat} {g : Nat → Int32} : (gW E ad iv gr pa mo sg tn).set 4 (ad 3, .inl (E.2 0, 7, .inl g)) = gW E ad iv gr pa mo g tn := rfl
theorem gW_r4 {E : En} {ad : Nat → Nat} {iv : Nat → Int32} {gr : Nat → Int32} {pa : Nat → Int32} {mo : Nat → Int32} {sg : Nat → Int32} {tn : Option Nat} {x : Nat} : (gW E ad iv gr pa mo sg tn).set 0 (ad 8, .inr (2, (gOb ad iv tn).set 4 (.ref x))) = gW E ad iv gr pa mo sg (some x) := rfl
theorem gW_c {E : En} {ad : Nat → Nat} {iv : Nat → Int32} {gr : Nat → Int32} {pa : Nat → Int32} {mo : Nat → Int32} {sg : Nat → Int32} {tn : Option Nat} {iv' : Nat → Int32} (h : iv = iv') : gW E ad iv gr pa mo sg tn = gW E ad iv' gr pa mo sg tn := by rw [h]
def dOb (ad : Nat → Nat) (iv : Nat → Int32) (tn : Option Nat) (gn : Option Nat) : List Value := [.ref (ad 0), .ref (ad 1), .ref (ad 2), va_rf tn, va_rf gn, .int (iv 5), .int (iv 6)]
def dW (E : En) (ad : Nat → Nat) (iv : Nat → Int32) (od : Nat → Int32) (co : Nat → Int32) (wt : Nat → Int32) (tn : Option Nat) (gn : Option Nat) : va_W := [(ad 7, .inr (3, dOb ad iv tn gn)), (ad 0, .inl (E.2 0, 7, .inl od)), (ad 1, .inl (E.2 0, 7, .inl co)), (ad 2, .inl (E.2 0, 7, .inl wt))]
theorem dW_o {E : En} {ad : Nat → Nat} {iv : Nat → Int32} {od : Nat → Int32} {co : Nat → Int32} {wt : Nat → Int32} {tn : Option Nat} {gn : Option Nat} : (dW E ad iv od co wt tn gn)[0]? = some (ad 7, .inr (3, dOb ad iv tn gn)) := rfl
theorem dW_i5 {E : En} {ad : Nat → Nat} {iv : Nat → Int32} {od : Nat → Int32} {co : Nat → Int32} {wt : Nat → Int32} {tn : Option Nat} {gn : Option Nat} {x : Int32} : (dW E ad iv od co wt tn gn).set 0 (ad 7, .inr (3, (dOb ad iv tn gn).set 5 (.int x))) = dW E ad (va_up iv 5 x) od co wt tn gn := rfl
theorem dW_i6 {E : En} {ad : Nat → Nat} {iv : Nat → Int32} {od : Nat → Int32} {co : Nat → Int32} {wt : Nat → Int32} {tn : Option Nat} {gn : Option Nat} {x : Int32} : (dW E ad iv od co wt tn gn).set 0 (ad 7, .inr (3, (dOb ad iv tn gn).set 6 (.int x))) = dW E ad (va_up iv 6 x) od co wt tn gn := rfl
theorem dW_g0 {E : En} {ad : Nat → Nat} {iv : Nat → Int32} {od : Nat → Int32} {co : Nat → Int32} {wt : Nat → Int32} {tn : Option Nat} {gn : Option Nat} {f : Nat → Int32} (e : od = f) : (dW E ad iv od co wt tn gn)[1]? = some (ad 0, .inl (E.2 0, 7, .inl f)) := by subst e; rfl
theorem dW_a0 {E : En} {ad : Nat → Nat} {iv : Nat → Int32} {od : Nat → Int32} {co : Nat → Int32} {wt : Nat → Int32} {tn : Option Nat} {gn : Option Nat} {g : Nat → Int32} : (dW E ad iv od co wt tn gn).set 1 (ad 0, .inl (E.2 0, 7, .inl g)) = dW E ad iv g co wt tn gn := rfl
theorem dW_g1 {E : En} {ad : Nat → Nat} {iv : Nat → Int32} {od : Nat → Int32} {co : Nat → Int32} {wt : Nat → Int32} {tn : Option Nat} {gn : Option Nat} {f : Nat → Int32} (e : co = f) : (dW E ad iv od co wt tn gn)[2]? = some (ad 1, .inl (E.2 0, 7, .inl f)) := by subst e; rfl
theorem dW_a1 {E : En} {ad : Nat → Nat} {iv : Nat → Int32} {od : Nat → Int32} {co : Nat → Int32} {wt : Nat → Int32} {tn : Option Nat} {gn : Option Nat} {g : Nat → Int32} : (dW E ad iv od co wt tn gn).set 2 (ad 1, .inl (E.2 0, 7, .inl g)) = dW E ad iv od g wt tn gn := rfl
theorem dW_g2 {E : En} {ad : Nat → Nat} {iv : Nat → Int32} {od : Nat → Int32} {co : Nat → Int32} {wt : Nat → Int32} {tn : Option Nat} {gn : Option Nat} {f : Nat → Int32} (e : wt = f) : (dW E ad iv od co wt tn gn)[3]? = some (ad 2, .inl (E.2 0, 7, .inl f)) := by subst e; rfl
theorem dW_a2 {E : En} {ad : Nat → Nat} {iv : Nat → Int32} {od : Nat → Int32} {co : Nat → Int32} {wt : Nat → Int32} {tn : Option Nat} {gn : Option Nat} {g : Nat → Int32} : (dW E ad iv od co wt tn gn).set 3 (ad 2, .inl (E.2 0, 7, .inl g)) = dW E ad iv od co g tn gn := rfl
theorem dW_r3 {E : En} {ad : Nat → Nat} {iv : Nat → Int32} {od : Nat → Int32} {co : Nat → Int32} {wt : Nat → Int32} {tn : Option Nat} {gn : Option Nat} {x : Nat} : (dW E ad iv od co wt tn gn).set 0 (ad 7, .inr (3, (dOb ad iv tn gn).set 3 (.ref x))) = dW E ad iv od co wt (some x) gn := rfl
theorem dW_r4 {E : En} {ad : Nat → Nat} {iv : Nat → Int32} {od : Nat → Int32} {co : Nat → Int32} {wt : Nat → Int32} {tn : Option Nat} {gn : Option Nat} {x : Nat} : (dW E ad iv od co wt tn gn).set 0 (ad 7, .inr (3, (dOb ad iv tn gn).set 4 (.ref x))) = dW E ad iv od co wt tn (some x) := rfl
theorem dW_c {E : En} {ad : Nat → Nat} {iv : Nat → Int32} {od : Nat → Int32} {co : Nat → Int32} {wt : Nat → Int32} {tn : Option Nat} {gn : Option Nat} {iv' : Nat → Int32} (h : iv = iv') : dW E ad iv od co wt tn gn = dW E ad iv' od co wt tn gn := by rw [h]
def sOb (ad : Nat → Nat) (iv : Nat → Int32) (th : Nat) : List Value := [.ref (ad 0), .ref (ad 1), .ref (ad 2), .int (iv 3), .int (iv 4), .ref th]
def sW (E : En) (ad : Nat → Nat) (iv : Nat → Int32) (o1 : Nat → Int32) (o2 : Nat → Int32) (of : Nat → Int32) (th : Nat) : va_W := [(ad 6, .inr (14, sOb ad iv th)), (ad 0, .inl (E.2 0, 10, .inl o1)), (ad 1, .inl (E.2 0, 10, .inl o2)), (ad 2, .inl (E.2 0, 10, .inl of))]
theorem sW_o {E : En} {ad : Nat → Nat} {iv : Nat → Int32} {o1 : Nat → Int32} {o2 : Nat → Int32} {of : Nat → Int32} {th : Nat} : (sW E ad iv o1 o2 of th)[0]? = some (ad 6, .inr (14, sOb ad iv th)) := rfl
theorem sW_i3 {E : En} {ad : Nat → Nat} {iv : Nat → Int32} {o1 : Nat → Int32} {o2 : Nat → Int32} {of : Nat → Int32} {th : Nat} {x : Int32} : (sW E ad iv o1 o2 of th).set 0 (ad 6, .inr (14, (sOb ad iv th).set 3 (.int x))) = sW E ad (va_up iv 3 x) o1 o2 of th := rfl
theorem sW_i4 {E : En} {ad : Nat → Nat} {iv : Nat → Int32} {o1 : Nat → Int32} {o2 : Nat → Int32} {of : Nat → Int32} {th : Nat} {x : Int32} : (sW E ad iv o1 o2 of th).set 0 (ad 6, .inr (14, (sOb ad iv th).set 4 (.int x))) = sW E ad (va_up iv 4 x) o1 o2 of th := rfl
theorem sW_g0 {E : En} {ad : Nat → Nat} {iv : Nat → Int32} {o1 : Nat → Int32} {o2 : Nat → Int32} {of : Nat → Int32} {th : Nat} {f : Nat → Int32} (e : o1 = f) : (sW E ad iv o1 o2 of th)[1]? = some (ad 0, .inl (E.2 0, 10, .inl f)) := by subst e; rfl
theorem sW_a0 {E : En} {ad : Nat → Nat} {iv : Nat → Int32} {o1 : Nat → Int32} {o2 : Nat → Int32} {of : Nat → Int32} {th : Nat} {g : Nat → Int32} : (sW E ad iv o1 o2 of th).set 1 (ad 0, .inl (E.2 0, 10, .inl g)) = sW E ad iv g o2 of th := rfl
theorem sW_g1 {E : En} {ad : Nat → Nat} {iv : Nat → Int32} {o1 : Nat → Int32} {o2 : Nat → Int32} {of : Nat → Int32} {th : Nat} {f : Nat → Int32} (e : o2 = f) : (sW E ad iv o1 o2 of th)[2]? = some (ad 1, .inl (E.2 0, 10, .inl f)) := by subst e; rfl
theorem sW_a1 {E : En} {ad : Nat → Nat} {iv : Nat → Int32} {o1 : Nat → Int32} {o2 : Nat → Int32} {of : Nat → Int32} {th : Nat} {g : Nat → Int32} : (sW E ad iv o1 o2 of th).set 2 (ad 1, .inl (E.2 0, 10, .inl g)) = sW E ad iv o1 g of th := rfl
theorem sW_g2 {E : En} {ad : Nat → Nat} {iv : Nat → Int32} {o1 : Nat → Int32} {o2 : Nat → Int32} {of : Nat → Int32} {th : Nat} {f : Nat → Int32} (e : of = f) : (sW E ad iv o1 o2 of th)[3]? = some (ad 2, .inl (E.2 0, 10, .inl f)) := by subst e; rfl
theorem sW_a2 {E : En} {ad : Nat → Nat} {iv : Nat → Int32} {o1 : Nat → Int32} {o2 : Nat → Int32} {of : Nat → Int32} {th : Nat} {g : Nat → Int32} : (sW E ad iv o1 o2 of th).set 3 (ad 2, .inl (E.2 0, 10, .inl g)) = sW E ad iv o1 o2 g th := rfl
theorem sW_r5 {E : En} {ad : Nat → Nat} {iv : Nat → Int32} {o1 : Nat → Int32} {o2 : Nat → Int32} {of : Nat → Int32} {th : Nat} {x : Nat} : (sW E ad iv o1 o2 of th).set 0 (ad 6, .inr (14, (sOb ad iv th).set 5 (.ref x))) = sW E ad iv o1 o2 of x := rfl
theorem sW_c {E : En} {ad : Nat → Nat} {iv : Nat → Int32} {o1 : Nat → Int32} {o2 : Nat → Int32} {of : Nat → Int32} {th : Nat} {iv' : Nat → Int32} (h : iv = iv') : sW E ad iv o1 o2 of th = sW E ad iv' o1 o2 of th := by rw [h]
def xOb (ad : Nat → Nat) (iv : Nat → Int32) (nw tr gr dy : Nat) (im : Option Nat) : List Value := [.ref nw, va_rf im, .ref tr, .ref gr, .ref dy, .ref (ad 5), .ref (ad 6), .ref (ad 7), .ref (ad 8), .int (iv 9), .ref (ad 10)]
def xW (E : En) (ad : Nat → Nat) (iv ch rd tp rf : Nat → Int32) (hd : Nat → Option Nat) (nw tr gr dy : Nat) (im : Option Nat) : va_W := [(ad 20, .inr (4, [va_rf (hd 0)])), (ad 21, .inr (4, [va_rf (hd 1)])), (ad 22, .inr (4, [va_rf (hd 2)])), (ad 23, .inr (4, [va_rf (hd 3)])), (ad 24, .inr (4, [va_rf (hd 4)])), (ad 25, .inr (4, [va_rf (hd 5)])), (ad 26, .inr (4, [va_rf (hd 6)])), (ad 27, .inr (4, [va_rf (hd 7)])), (ad 11, .inr (0, xOb ad iv nw tr gr dy im)), (ad 5, .inl (E.2 0, 1024, .inl ch)), (ad 6, .inl (E.2 0, 1024, .inl rd)), (ad 7, .inl (E.2 7, 8, .inr (.inr (.inr (.inr fun j => some (ad (20 + j))))))), (ad 8, .inl (E.2 0, 250, .inl tp)), (ad 10, .inl (E.2 0, 7, .inl rf))]
section XW0
variable {E : En} {ad : Nat → Nat} {iv ch rd tp rf : Nat → Int32} {hd : Nat → Option Nat} {nw tr gr dy : Nat} {im : Option Nat}
theorem xW_o : (xW E ad iv ch rd tp rf hd nw tr gr dy im)[8]? = some (ad 11, .inr (0, xOb ad iv nw tr gr dy im)) := rfl
theorem xW_i9 {x : Int32} : (xW E ad iv ch rd tp rf hd nw tr gr dy im).set 8 (ad 11, .inr (0, (xOb ad iv nw tr gr dy im).set 9 (.int x))) = xW E ad (va_up iv 9 x) ch rd tp rf hd nw tr gr dy im := rfl
theorem xW_r0 {x : Nat} : (xW E ad iv ch rd tp rf hd nw tr gr dy im).set 8 (ad 11, .inr (0, (xOb ad iv nw tr gr dy im).set 0 (.ref x))) = xW E ad iv ch rd tp rf hd x tr gr dy im := rfl
theorem xW_r1 {x : Nat} : (xW E ad iv ch rd tp rf hd nw tr gr dy im).set 8 (ad 11, .inr (0, (xOb ad iv nw tr gr dy im).set 1 (.ref x))) = xW E ad iv ch rd tp rf hd nw tr gr dy (some x) := rfl
theorem xW_g5 {f : Nat → Int32} (e : ch = f) : (xW E ad iv ch rd tp rf hd nw tr gr dy im)[9]? = some (ad 5, .inl (E.2 0, 1024, .inl f)) := by subst e; rfl
theorem xW_a5 {g : Nat → Int32} : (xW E ad iv ch rd tp rf hd nw tr gr dy im).set 9 (ad 5, .inl (E.2 0, 1024, .inl g)) = xW E ad iv g rd tp rf hd nw tr gr dy im := rfl
theorem xW_g6 {f : Nat → Int32} (e : rd = f) : (xW E ad iv ch rd tp rf hd nw tr gr dy im)[10]? = some (ad 6, .inl (E.2 0, 1024, .inl f)) := by subst e; rfl
theorem xW_a6 {g : Nat → Int32} : (xW E ad iv ch rd tp rf hd nw tr gr dy im).set 10 (ad 6, .inl (E.2 0, 1024, .inl g)) = xW E ad iv ch g tp rf hd nw tr gr dy im := rfl
theorem xW_g8 {f : Nat → Int32} (e : tp = f) : (xW E ad iv ch rd tp rf hd nw tr gr dy im)[12]? = some (ad 8, .inl (E.2 0, 250, .inl f)) := by subst e; rfl
theorem xW_a8 {g : Nat → Int32} : (xW E ad iv ch rd tp rf hd nw tr gr dy im).set 12 (ad 8, .inl (E.2 0, 250, .inl g)) = xW E ad iv ch rd g rf hd nw tr gr dy im := rfl
theorem xW_g10 {f : Nat → Int32} (e : rf = f) : (xW E ad iv ch rd tp rf hd nw tr gr dy im)[13]? = some (ad 10, .inl (E.2 0, 7, .inl f)) := by subst e; rfl
theorem xW_a10 {g : Nat → Int32} : (xW E ad iv ch rd tp rf hd nw tr gr dy im).set 13 (ad 10, .inl (E.2 0, 7, .inl g)) = xW E ad iv ch rd tp g hd nw tr gr dy im := rfl
theorem xW_s : ∀ p, p < 8 → (xW E ad iv ch rd tp rf hd nw tr gr dy im)[p]? = some (ad (20 + p), .inr (4, [va_rf (hd p)])) := p_8 rfl rfl rfl rfl rfl rfl rfl rfl
theorem xW_sr {x : Nat} : ∀ p, p < 8 → (xW E ad iv ch rd tp rf hd nw tr gr dy im).set p (ad (20 + p), .inr (4, [va_rf (hd p)].set 0 (.ref x))) = xW E ad iv ch rd tp rf (va_up hd p (some x)) nw tr gr dy im := p_8 rfl rfl rfl rfl rfl rfl rfl rfl
end XW0
/-! segments in another order -/
def cat : List va_W → va_W
  | [] => []
  | [a] => a
  | a :: b :: l => a ++ cat (b :: l)
theorem cat_flat : ∀ l : List va_W, cat l = l.flatten
  | [] => rfl
  | [a] => by simp [cat]
  | a :: b :: l => by rw [cat, cat_flat (b :: l)]; rfl
theorem wI_perm {E : En} {A : Nat → Prop} {s : State} {H : Heap} {locs : List Loc} {ws ws' : va_W} (h : ws.Perm ws') (hI : wI E A s H locs ws) : wI E A s H locs ws' := by
  refine ⟨va_P_iff.mpr fun q hq => va_P_iff.mp hI.1 q (h.mem_iff.mpr hq), ?_, hI.2.2⟩
  obtain ⟨h1, h2⟩ := va_D_iff.mp hI.2.1
  exact va_D_iff.mpr ⟨(h.map _).nodup_iff.mp h1, fun q hq => h2 q (h.mem_iff.mpr hq)⟩
theorem map_getD_range {α : Type} (l : List α) (d : α) : (List.range l.length).map (fun i => l.getD i d) = l := by
  apply List.ext_getElem?
  intro i
  rw [List.getElem?_map]
  by_cases h : i < l.length
  · rw [List.getElem?_range h, Option.map_some, List.getD_eq_getElem?_getD, List.getElem?_eq_getElem h]; rfl
  · rw [List.getElem?_eq_none (by rw [List.length_range]; omega), List.getElem?_eq_none (by omega)]; rfl
theorem wI_pick {E : En} {A : Nat → Prop} {s : State} {H : Heap} {locs : List Loc} (l : List va_W) (idx : List Nat) (n : Nat) (hn : l.length = n) (h : idx.Perm (List.range n)) (hI : wI E A s H locs (cat l)) : wI E A s H locs (cat (idx.map (fun i => l.getD i []))) := by
  subst hn
  refine wI_perm ?_ hI
  rw [cat_flat, cat_flat]
  have h2 := (h.map (fun i => l.getD i [])).flatten
  rw [map_getD_range] at h2
  exact h2.symm
theorem app2 {a b r : va_W} : (a ++ b) ++ r = a ++ (b ++ r) := List.append_assoc _ _ _
theorem app3 {a b c r : va_W} : (a ++ (b ++ c)) ++ r = a ++ (b ++ (c ++ r)) := by simp only [List.append_assoc]
theorem app4 {a b c d r : va_W} : (a ++ (b ++ (c ++ d))) ++ r = a ++ (b ++ (c ++ (d ++ r))) := by simp only [List.append_assoc]
theorem app5 {a b c d e r : va_W} : (a ++ (b ++ (c ++ (d ++ e)))) ++ r = a ++ (b ++ (c ++ (d ++ (e ++ r)))) := by simp only [List.append_assoc]
theorem wI_dropL {E : En} {A : Nat → Prop} {s : State} {H : Heap} {locs : List Loc} {a b : va_W} (hI : wI E A s H locs (a ++ b)) : wI E A s H locs b := by
  refine ⟨va_P_iff.mpr fun q hq => va_P_iff.mp hI.1 q (List.mem_append_right _ hq), ?_, hI.2.2⟩
  obtain ⟨h1, h2⟩ := va_D_iff.mp hI.2.1
  rw [List.map_append] at h1
  exact va_D_iff.mpr ⟨(List.nodup_append.mp h1).2.1, fun q hq => h2 q (List.mem_append_right _ hq)⟩
section CN
variable {p : Program} {l : Launch} {e : Env} {F1 mc1 ms1 : Nat} {s : State} {m : MethodId} {args : Array Value} {below : List Frame} {meth : Method} {c : Code} {H : Heap} {locs : List Loc} {cells slots : Nat} {Q : State → Prop} {cc : ByteArray} {pc : Nat} {ls : Array Slot} {rest : List Value} {E : En} {A : Nat → Prop} {own host : String} {index n nL nL1 : Nat} {y : MethodName} {bytes : ByteArray} {F mc ms : Nat} {As : List Value} {b : Nat} {S : Type} {wc : va_W}
theorem kSNI {ret : FieldType} {post : Int32 → S → Prop} {ws1 : S → va_W} (f : va_W → va_W) (hexec : p.tables.exec = Jvm.exec) (hb : c.code = cc) (hml : c.maxLocals = nL1) (hts : ∀ w ∈ lw_all, w.before args s = true) (hown : s.vm.findClass own = some m.cls) (hK : KX E A s) (hA : ∀ q, s.heap.size ≤ q → A q) (hl : ls.size = nL1) (hf : isCtx f) (hI : wI E A s H locs (f wc))
    (hM : CtI l E y bytes nL ret F mc ms As wc post ws1) (hw : Cond.code y bytes nL (some ret) ∈ lw_all) (hw1 : Cond.initialized y.cls ∈ lw_all) (hw2 : Cond.methodLinkNest own index y host ∈ nW) (hw3 : Cond.static y ∈ lw_all) (hd : y.cls ≠ "java/lang/invoke/MethodHandle" ∧ y.cls ≠ "java/lang/invoke/VarHandle" ∧ (parseMethodDescriptor y.desc).map (fun d => d.parameters.length) = some n) (hn : As.length = n) (hF : F + 1 ≤ F1) (hL : nL ≤ 81) (hcs : cells + mc ≤ mc1 ∧ slots + ms ≤ ms1) (hroom : (rest.map fun v => v.category).sum ≤ 8) (hdg : decode cc pc = .ok (.invokestatic index, 3))
    (kk : ∀ (r : Int32) (u : S) (H1 : Heap) (locs1 : List Loc), post r u → wI E A s H1 locs1 (f (ws1 u)) → H.size ≤ H1.size → W p l e (rmF F1 mc1 ms1) s m args below meth c H1 locs1 (cells + mc) (slots + ms) Q (F0 m (pc + 3) ls (.int r :: rest))) : W p l e (rmF F1 mc1 ms1) s m args below meth c H locs cells slots Q (F0 m pc ls (As.reverse ++ rest)) := by
  have hFc := cut_A hf hI.2.1 hI.2.2 hA
  refine va_calli (va_runSN (As := As) (rest := rest) ⟨hexec, hb, hml, hown, hts⟩ (hM H.size) ⟨va_cnB n hts (lw_meth hw) rfl rfl rfl (hK.2.1 _ hw2) (hts _ hw1) hd ⟨hF, by show 8 + (nL + 11) + 100 * F ≤ 100 * F1; omega⟩, hts _ hw3, trivial⟩ ⟨mPre_blind, mPre_at hf hA hK hI⟩ rfl hn hl rfl (lv_room hroom) hdg hcs) hI.2.2 (fun q _ h => hFc q h) hFc (fun r u t H1 locs1 ht hvm hp hB hz hk hS => ?_)
  obtain ⟨hB1, hB2⟩ := hB
  rw [ht] at hB1
  obtain ⟨j1, j2⟩ := join_PD hf hI.1 hI.2.1 hFc hk hB1 hB2
  exact kk r u H1 locs1 hp ⟨j1, j2, hS⟩ hz
theorem kINV {post : S → Prop} {ws1 : S → va_W} (f : va_W → va_W) (hexec : p.tables.exec = Jvm.exec) (hb : c.code = cc) (hml : c.maxLocals = nL1) (hts : ∀ w ∈ lw_all, w.before args s = true) (hown : s.vm.findClass own = some m.cls) (hK : KX E A s) (hA : ∀ q, s.heap.size ≤ q → A q) (hl : ls.size = nL1) (hf : isCtx f) (hI : wI E A s H locs (f wc))
    (hM : CtV l E y bytes nL F mc ms (.ref b :: As) wc post ws1) (hw : Cond.code y bytes nL none ∈ lw_all) (hw1 : Cond.initialized y.cls ∈ lw_all) (hw2 : Cond.methodLinkNest own index y host ∈ nW) (hw3 : Cond.instanceMethod y ∈ lw_all) (hnm : y.name = "<init>") (hd : y.cls ≠ "java/lang/invoke/MethodHandle" ∧ y.cls ≠ "java/lang/invoke/VarHandle" ∧ (parseMethodDescriptor y.desc).map (fun d => d.parameters.length) = some n) (hn : As.length = n) (hF : F + 1 ≤ F1) (hL : nL ≤ 81) (hcs : cells + mc ≤ mc1 ∧ slots + ms ≤ ms1) (hroom : (rest.map fun v => v.category).sum ≤ 8) (hdg : decode cc pc = .ok (.invokespecial index, 3))
    (kk : ∀ (u : S) (H1 : Heap) (locs1 : List Loc), post u → wI E A s H1 locs1 (f (ws1 u)) → H.size ≤ H1.size → W p l e (rmF F1 mc1 ms1) s m args below meth c H1 locs1 (cells + mc) (slots + ms) Q (F0 m (pc + 3) ls rest)) : W p l e (rmF F1 mc1 ms1) s m args below meth c H locs cells slots Q (F0 m pc ls (As.reverse ++ .ref b :: rest)) := by
  have hFc := cut_A hf hI.2.1 hI.2.2 hA
  refine va_callv (va_runIN (As := As) (rest := rest) ⟨hexec, hb, hml, hown, hts⟩ (hM H.size) ⟨va_cnB n hts (lw_meth hw) rfl rfl rfl (hK.2.1 _ hw2) (hts _ hw1) hd ⟨hF, by show 8 + (nL + 11) + 100 * F ≤ 100 * F1; omega⟩, hnm, hts _ hw3⟩ ⟨mPre_blind, mPre_at hf hA hK hI⟩ rfl hn hl rfl (lv_room hroom) hdg hcs) hI.2.2 (fun q _ h => hFc q h) hFc (fun u t H1 locs1 ht hvm hp hB hz hk hS => ?_)
  obtain ⟨hB1, hB2⟩ := hB
  rw [ht] at hB1
  obtain ⟨j1, j2⟩ := join_PD hf hI.1 hI.2.1 hFc hk hB1 hB2
  exact kk u H1 locs1 hp ⟨j1, j2, hS⟩ hz
end CN
/-- contract that answers an object known by its address -/
def CtT (l : Launch) (E : En) (y : MethodName) (cc : ByteArray) (nL : Nat) (ret : FieldType) (F mc ms : Nat) (av : List Value) (ws : va_W) {S : Type} (post : S → Prop) (ws1 : S → va_W) (a0 : S → Nat) : Prop :=
  ∀ sz : Nat, Met l y (ws_ y cc nL (some ret)) (rmF F mc ms) (va_Pc av (mPre E sz ws)) (va_Qr post (fun u a t => a = a0 u ∧ wB E (va_A ws sz) (ws1 u) t) (va_A ws sz)) mc ms (va_A ws sz)
theorem CtT.of {l : Launch} {E : En} {y : MethodName} {cc : ByteArray} {nL : Nat} {ret : FieldType} {F mc ms : Nat} {av : List Value} {ws : va_W} {S : Type} {post : S → Prop} {ws1 : S → va_W} {a0 : S → Nat} (hy : plainName y.cls = true) (hent : (lg_sl av).length ≤ nL) (hrt : (∃ n, ret = .object n) ∨ ∃ t, ret = .array t) 
    (body : ∀ (p : Program) (e : Env) (s : State) (m : MethodId) (args : Array Value) (below : List Frame) (meth : Method) (c : Code) (A : Nat → Prop) (ls : Array Slot) (Q : State → Prop), p.tables.exec = Jvm.exec → c.code = cc → c.maxLocals = nL → (∀ w ∈ lw_all, w.before args s = true) → s.vm.findClass y.cls = some m.cls → meth.locks = false → meth.name = y.name → (∀ q, s.heap.size ≤ q → A q) → KX E A s → wI E A s s.heap [] ws → lv_has ls nL (lv_args 0 av) →
      (∀ (u : S) (H : Heap) (locs : List Loc) (cells slots pc : Nat) (ls : Array Slot), decode cc pc = .ok (.areturn, 1) → wI E A s H locs (ws1 u) → post u → cells ≤ mc → slots ≤ ms → W p l e (rmF F mc ms) s m args below meth c H locs cells slots Q (F0 m pc ls [.ref (a0 u)])) →
      W p l e (rmF F mc ms) s m args below meth c s.heap [] 0 0 Q (F0 m 0 ls [])) : CtT l E y cc nL ret F mc ms av ws post ws1 a0 := by
  intro sz
  refine Met.ofW (cc := cc) (maxL := nL) (ret := (some ret)) hy rfl ?_
  intro p e s m args below meth c s₁ B hml hv
  obtain ⟨rfl, hsz, hP, hK, hD0⟩ := hv
  have hts := atoms_spec (ws := ws_ y cc nL (some ret)) B.pre
  have hts : ∀ w ∈ lw_all, w.before _ s = true := fun w h => hts w (List.mem_cons_of_mem _ h)
  subst hsz
  have hl := lv_entry av (n := nL) hent
  rw [lg_entry_eq]
  refine body p e s m av.toArray below meth c (va_A ws s.heap.size) _ _ B.exec B.bytes hml hts (findClass_of_methodNamed B.named) B.notSynchronized (name_of_methodNamed B.named B.method).1 (fun q h => Or.inr h) hK ⟨hP, hD0.self, va_S.rf⟩ hl ?_
  intro u H locs cells slots pc ls hdg hI hq hc hs
  refine W.widen (k := mc) (n := ms) hc hs ?_
  exact W.aret (v := .ref (a0 u)) B.exec B.bytes B.returns hrt (Or.inr ⟨a0 u, rfl⟩) (fun t ht hW => ⟨⟨u, a0 u, rfl, hq, rfl, by show va_P _ _ _ t.heap ∧ _; rw [ht]; exact ⟨hI.1, hI.2.1⟩⟩, hI.2.2.F ht⟩) hI.2.2.2.2 hdg B.notSynchronized
section CLT
variable {p : Program} {l : Launch} {e : Env} {F1 mc1 ms1 : Nat} {s : State} {m : MethodId} {args : Array Value} {below : List Frame} {meth : Method} {c : Code} {H : Heap} {locs : List Loc} {cells slots : Nat} {Q : State → Prop} {cc bytes : ByteArray} {pc nL nL1 index n : Nat} {ls : Array Slot} {rest : List Value} {E : En} {A : Nat → Prop} {wc : va_W} {own : String} {y : MethodName} {F mc ms : Nat} {As : List Value} {b : Nat} {S : Type}
theorem kVT {ret : FieldType} {post : S → Prop} {ws1 : S → va_W} {a0 : S → Nat} (f : va_W → va_W) (hexec : p.tables.exec = Jvm.exec) (hb : c.code = cc) (hml : c.maxLocals = nL1) (hts : ∀ w ∈ lw_all, w.before args s = true) (hown : s.vm.findClass own = some m.cls) (hK : KX E A s) (hA : ∀ q, s.heap.size ≤ q → A q) (hl : ls.size = nL1) (hf : isCtx f) (hI : wI E A s H locs (f wc))
    (hM : CtT l E y bytes nL ret F mc ms (.ref b :: As) wc post ws1 a0) (hw : GoodIn lw_all (wsV own index y.cls y (ws_ y bytes nL (some ret)))) (hd : y.cls = y.cls ∧ y.cls ≠ "java/lang/invoke/MethodHandle" ∧ y.cls ≠ "java/lang/invoke/VarHandle" ∧ (parseMethodDescriptor y.desc).map (fun d => d.parameters.length) = some n) (q0 ci : Nat) {q : vw_C} {fs : List Value} (hc : CL[ci]? = some q) (hq : q.1 = y.cls) (hrc : wc[q0]? = some (b, .inr (ci, fs))) (hn : As.length = n) (hF : F + 1 ≤ F1) (hL : nL ≤ 81) (hcs : cells + mc ≤ mc1 ∧ slots + ms ≤ ms1) (hroom : (rest.map fun v => v.category).sum ≤ 8) (hdg : decode cc pc = .ok (.invokevirtual index, 3))
    (kk : ∀ (u : S) (H1 : Heap) (locs1 : List Loc), post u → wI E A s H1 locs1 (f (ws1 u)) → H.size ≤ H1.size → W p l e (rmF F1 mc1 ms1) s m args below meth c H1 locs1 (cells + mc) (slots + ms) Q (F0 m (pc + 3) ls (.ref (a0 u) :: rest))) : W p l e (rmF F1 mc1 ms1) s m args below meth c H locs cells slots Q (F0 m pc ls (As.reverse ++ .ref b :: rest)) := by
  have hFc := cut_A hf hI.2.1 hI.2.2 hA
  refine va_callr (va_runV (As := As) (rest := rest) ⟨hexec, hb, hml, hown, hts⟩ (hM H.size) (cwV n hts hw rfl rfl rfl hd ⟨hF, by show 8 + (nL + 11) + 100 * F ≤ 100 * F1; omega⟩) ⟨mPre_blind, by have h := va_recv hK.1 (cut_P hf hI.1) hc hrc; rw [hq] at h; exact h, mPre_at hf hA hK hI⟩ rfl hn hl rfl (lv_room hroom) hdg hcs) hI.2.2 (fun q _ h => hFc q h) hFc (fun u r t H1 locs1 ht hvm hp hB hz hk hS => ?_)
  obtain ⟨rfl, hB1, hB2⟩ := hB
  rw [ht] at hB1
  obtain ⟨j1, j2⟩ := join_PD hf hI.1 hI.2.1 hFc hk hB1 hB2
  exact kk u H1 locs1 hp ⟨j1, j2, hS⟩ hz
theorem kST {ret : FieldType} {post : S → Prop} {ws1 : S → va_W} {a0 : S → Nat} (f : va_W → va_W) (hexec : p.tables.exec = Jvm.exec) (hb : c.code = cc) (hml : c.maxLocals = nL1) (hts : ∀ w ∈ lw_all, w.before args s = true) (hown : s.vm.findClass own = some m.cls) (hK : KX E A s) (hA : ∀ q, s.heap.size ≤ q → A q) (hl : ls.size = nL1) (hf : isCtx f) (hI : wI E A s H locs (f wc))
    (hM : CtT l E y bytes nL ret F mc ms As wc post ws1 a0) (hw : GoodIn lw_all (va_wsS own index y (ws_ y bytes nL (some ret)))) (hd : y.cls ≠ "java/lang/invoke/MethodHandle" ∧ y.cls ≠ "java/lang/invoke/VarHandle" ∧ (parseMethodDescriptor y.desc).map (fun d => d.parameters.length) = some n) (hn : As.length = n) (hF : F + 1 ≤ F1) (hL : nL ≤ 81) (hcs : cells + mc ≤ mc1 ∧ slots + ms ≤ ms1) (hroom : (rest.map fun v => v.category).sum ≤ 8) (hdg : decode cc pc = .ok (.invokestatic index, 3))
    (kk : ∀ (u : S) (H1 : Heap) (locs1 : List Loc), post u → wI E A s H1 locs1 (f (ws1 u)) → H.size ≤ H1.size → W p l e (rmF F1 mc1 ms1) s m args below meth c H1 locs1 (cells + mc) (slots + ms) Q (F0 m (pc + 3) ls (.ref (a0 u) :: rest))) : W p l e (rmF F1 mc1 ms1) s m args below meth c H locs cells slots Q (F0 m pc ls (As.reverse ++ rest)) := by
  have hFc := cut_A hf hI.2.1 hI.2.2 hA
  refine va_callr (va_runS (As := As) (rest := rest) ⟨hexec, hb, hml, hown, hts⟩ (hM H.size) (va_cwS n hts hw rfl rfl rfl hd ⟨hF, by show 8 + (nL + 11) + 100 * F ≤ 100 * F1; omega⟩) ⟨mPre_blind, mPre_at hf hA hK hI⟩ rfl hn hl rfl (lv_room hroom) hdg hcs) hI.2.2 (fun q _ h => hFc q h) hFc (fun u r t H1 locs1 ht hvm hp hB hz hk hS => ?_)
  obtain ⟨rfl, hB1, hB2⟩ := hB
  rw [ht] at hB1
  obtain ⟨j1, j2⟩ := join_PD hf hI.1 hI.2.1 hFc hk hB1 hB2
  exact kk u H1 locs1 hp ⟨j1, j2, hS⟩ hz
end CLT
