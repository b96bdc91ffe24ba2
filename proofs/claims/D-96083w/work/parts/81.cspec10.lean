/-! X0: an entry of the tables -/
theorem nd_add : ∀ y, y < 128 → ∀ g, g < 128 → nd g y = 0 → nd y g + g = y := by decide +kernel
/-- an entry (k, y) of the tables is right -/
def tbR (K : Nat → Nat → Int32) (cost hour : Nat → Int32) (n st : Nat) (ch rd : Nat → Int32) (k y : Nat) : Prop := ∃ c r, ch (128 * k + y) = nI c ∧ rd (128 * k + y) = nI r ∧ pkR (lsV (GL K n st) (fun j => (comL hour n).getD j 0) cost hour n k y) c r (bitsN y 8 + (n - k))
theorem lsG_a {L : List Nat} {com : Nat → Nat} {cost hour : Nat → Int32} {n k lf g : Nat} {b : Int32} (h : nd g lf = 0) (h2 : ¬ b ≤ lsW cost hour (lsN com hour k) g n + lsV L com cost hour n k (nd lf g)) : lsG L com cost hour n k lf b g = lsW cost hour (lsN com hour k) g n + lsV L com cost hour n k (nd lf g) := lsG_1 h rfl h2
theorem lsG_b {L : List Nat} {com : Nat → Nat} {cost hour : Nat → Int32} {n k lf g : Nat} {b : Int32} (h : nd g lf = 0) (h2 : b ≤ lsW cost hour (lsN com hour k) g n + lsV L com cost hour n k (nd lf g)) : lsG L com cost hour n k lf b g = b := lsG_2 h rfl h2
