/-! WHAT THE SHELVES HOLD: rows and coachmen, by the reference's words (shelf, sort, size, kind, number, rows) -/
def rowTI : Nat → Nat
  | 0 => 4
  | 1 => 5
  | 2 => 0
  | 3 => 1
  | _ => 6
def rowNm : Nat → String
  | 0 => "[B"
  | 1 => "[S"
  | 2 => "[I"
  | 3 => "[J"
  | _ => "[Z"
def rowE (E : En) (so n : Nat) (R : Nat → Int64) : ClassId × vp_A := if so = 3 then (E.2 1, n, .inr (.inl R)) else (E.2 (rowTI so), n, .inl (fun j => (R j).toInt32))
def rowW (E : En) (q so n : Nat) (R : Nat → Int64) : va_W := [(q, .inl (rowE E so n R))]
/-- an element that fits its sort -/
def rOk (so : Nat) (x : Int64) : Prop := (so = 3 ∨ x.toInt32.toInt64 = x) ∧ (so = 4 → x = 0 ∨ x = 1)
theorem so_5 {P : Nat → Prop} {so : Nat} (h : so ≤ 4) (h0 : P 0) (h1 : P 1) (h2 : P 2) (h3 : P 3) (h4 : P 4) : P so := by
  rcases so with _ | _ | _ | _ | _ | so
  · exact h0
  · exact h1
  · exact h2
  · exact h3
  · exact h4
  · omega
theorem row_isA {E : En} {A : Nat → Prop} {s : State} {H : Heap} {locs : List Loc} {ws : va_W} (hK : KX E A s) (hI : wI E A s H locs ws) {q0 q so n : Nat} {R : Nat → Int64} (h : so ≤ 4) (he : ws[q0]? = some (q, .inl (rowE E so n R))) : isA s H q (rowNm so) := by
  revert he
  refine so_5 (P := fun so => ws[q0]? = some (q, .inl (rowE E so n R)) → isA s H q (rowNm so)) h ?_ ?_ ?_ ?_ ?_
  · exact fun he => isA.arr hI he (arr_nm hK (t0 := 4) rfl (fun h => h) rfl)
  · exact fun he => isA.arr hI he (arr_nm hK (t0 := 5) rfl (fun h => h) rfl)
  · exact fun he => isA.arr hI he (arr_nm hK (t0 := 0) rfl (fun h => h) rfl)
  · exact fun he => isA.arr hI he (arr_nm hK (t0 := 1) rfl (fun h => h) rfl)
  · exact fun he => isA.arr hI he (arr_nm hK (t0 := 6) rfl (fun h => h) rfl)
theorem row_self {E : En} {A : Nat → Prop} {s : State} (hK : KX E A s) {so : Nat} (h : so ≤ 4) : iA (rowNm so) (rowNm so) true s := by
  refine so_5 (P := fun so => iA (rowNm so) (rowNm so) true s) h ?_ ?_ ?_ ?_ ?_
  · exact iA.rf (arr_nm hK (t0 := 4) rfl (fun h => h) rfl)
  · exact iA.rf (arr_nm hK (t0 := 5) rfl (fun h => h) rfl)
  · exact iA.rf (arr_nm hK (t0 := 0) rfl (fun h => h) rfl)
  · exact iA.rf (arr_nm hK (t0 := 1) rfl (fun h => h) rfl)
  · exact iA.rf (arr_nm hK (t0 := 6) rfl (fun h => h) rfl)
theorem row_ncM {so : Nat} (h : so ≤ 4) : ncB (rowNm so) RX7 = true :=
  so_5 (P := fun so => ncB (rowNm so) RX7 = true) h (by decide +kernel) (by decide +kernel) (by decide +kernel) (by decide +kernel) (by decide +kernel)
def manNm : Nat → String
  | 1 => RX8
  | 2 => RX9
  | 3 => RX10
  | 4 => RX11
  | _ => RX12
theorem man_isA {E : En} {A : Nat → Prop} {s : State} {H : Heap} {locs : List Loc} {ws : va_W} (hK : KX E A s) (hI : wI E A s H locs ws) {q0 q kd : Nat} {fs : List Value} (h1 : 1 ≤ kd) (h5 : kd ≤ 5) (he : ws[q0]? = some (q, .inr (6 + kd, fs))) : isA s H q (manNm kd) := by
  revert he
  refine kd_5 (P := fun kd => ws[q0]? = some (q, .inr (6 + kd, fs)) → isA s H q (manNm kd)) h1 h5 ?_ ?_ ?_ ?_ ?_
  · exact fun he => isA.obj hK hI (ci := 7) rfl rfl he
  · exact fun he => isA.obj hK hI (ci := 8) rfl rfl he
  · exact fun he => isA.obj hK hI (ci := 9) rfl rfl he
  · exact fun he => isA.obj hK hI (ci := 10) rfl rfl he
  · exact fun he => isA.obj hK hI (ci := 11) rfl rfl he
theorem man_iA {E : En} {A : Nat → Prop} {s : State} (hK : KX E A s) {kd : Nat} (h1 : 1 ≤ kd) (h5 : kd ≤ 5) : iA (manNm kd) RX7 true s :=
  kd_5 (P := fun kd => iA (manNm kd) RX7 true s) h1 h5 (iA.yes hK.xw q2068) (iA.yes hK.xw q2067) (iA.yes hK.xw q2070) (iA.yes hK.xw q2069) (iA.yes hK.xw q2066)
/-- what shelf J holds -/
def itF (E : En) (aq : Nat → Nat) (sh so sz km bm : Nat → Int32) (R : Nat → Nat → Int64) (J : Nat) : va_W :=
  if sh J = 1 then rowW E (aq J) (so J).toNatClampNeg (sz J).toNatClampNeg (R J) else if sh J = 2 then manW E (aq J) (km J).toNatClampNeg (bm J) else []
def hdI (sh : Nat → Int32) (aq : Nat → Nat) (J : Nat) : Option Nat := if sh J = 1 ∨ sh J = 2 then some (aq J) else none
def itsW (f : Nat → va_W) : va_W := (List.range 8).flatMap f
def itsX (f : Nat → va_W) (J : Nat) : va_W := ((List.range 8).filter (fun j => j != J)).flatMap f
theorem itF_row {E : En} {aq : Nat → Nat} {sh so sz km bm : Nat → Int32} {R : Nat → Nat → Int64} {J z n : Nat} (h : sh J = 1) (hs : so J = nI z) (hn : sz J = nI n) (hz : z < 100) (hn1 : n < 100) : itF E aq sh so sz km bm R J = rowW E (aq J) z n (R J) := by
  unfold itF
  rw [if_pos h, hs, hn, nI_clamp (by omega), nI_clamp (by omega)]
theorem itF_man {E : En} {aq : Nat → Nat} {sh so sz km bm : Nat → Int32} {R : Nat → Nat → Int64} {J k : Nat} (h : sh J = 2) (hk : km J = nI k) (hk1 : k < 100) : itF E aq sh so sz km bm R J = manW E (aq J) k (bm J) := by
  unfold itF
  rw [if_neg (by rw [h]; decide), if_pos h, hk, nI_clamp (by omega)]
theorem itF_no {E : En} {aq : Nat → Nat} {sh so sz km bm : Nat → Int32} {R : Nat → Nat → Int64} {J : Nat} (h1 : ¬ sh J = 1) (h2 : ¬ sh J = 2) : itF E aq sh so sz km bm R J = [] := by
  unfold itF
  rw [if_neg h1, if_neg h2]
theorem hdI_1 {sh : Nat → Int32} {aq : Nat → Nat} {J : Nat} (h : sh J = 1) : hdI sh aq J = some (aq J) := if_pos (Or.inl h)
theorem hdI_2 {sh : Nat → Int32} {aq : Nat → Nat} {J : Nat} (h : sh J = 2) : hdI sh aq J = some (aq J) := if_pos (Or.inr h)
theorem hdI_0 {sh : Nat → Int32} {aq : Nat → Nat} {J : Nat} (h1 : ¬ sh J = 1) (h2 : ¬ sh J = 2) : hdI sh aq J = none := if_neg (fun h => h.elim h1 h2)
theorem hdI_up {sh : Nat → Int32} {aq : Nat → Nat} {J q : Nat} {x : Int32} (h : x = 1 ∨ x = 2) : va_up (hdI sh aq) J (some q) = hdI (va_up sh J x) (va_up aq J q) := by
  funext j
  unfold hdI
  by_cases e : j = J
  · subst e
    rw [va_up_s, va_up_s, va_up_s, if_pos h]
  · rw [va_up_n e, va_up_n e, va_up_n e]
theorem its_perm {f : Nat → va_W} : ∀ J, J < 8 → (itsW f).Perm (f J ++ itsX f J) := by
  have key : ∀ J, ((List.range 8).Perm (J :: (List.range 8).filter (fun j => j != J))) → (itsW f).Perm (f J ++ itsX f J) := by
    intro J h
    have h2 := List.Perm.flatMap_right f h
    rw [List.flatMap_cons] at h2
    exact h2
  exact p_8 (key 0 (by decide)) (key 1 (by decide)) (key 2 (by decide)) (key 3 (by decide)) (key 4 (by decide)) (key 5 (by decide)) (key 6 (by decide)) (key 7 (by decide))
theorem itsX_congr {f g : Nat → va_W} {J : Nat} (h : ∀ j, j ≠ J → f j = g j) : itsX f J = itsX g J := by
  unfold itsX
  have key : ∀ l : List Nat, (∀ j ∈ l, j ≠ J) → l.flatMap f = l.flatMap g := by
    intro l
    induction l with
    | nil => intro _; rfl
    | cons a l ih =>
      intro hl
      rw [List.flatMap_cons, List.flatMap_cons, h a (hl a List.mem_cons_self), ih (fun j hj => hl j (List.mem_cons_of_mem _ hj))]
  refine key _ (fun j hj => ?_)
  have h2 := (List.mem_filter.mp hj).2
  simpa using h2
section ITS
variable {E : En} {A : Nat → Prop} {s : State} {H : Heap} {locs : List Loc} {r w : va_W} {f g : Nat → va_W} {J : Nat}
theorem its_out (hJ : J < 8) (e : f J = w) (hI : wI E A s H locs (itsW f ++ r)) : wI E A s H locs (w ++ (itsX f J ++ r)) := by
  subst e
  refine wI_perm ?_ hI
  rw [← List.append_assoc]
  exact (its_perm J hJ).append_right r
theorem its_in (hJ : J < 8) (h : ∀ j, j ≠ J → g j = f j) (e : g J = w) (hI : wI E A s H locs (w ++ (itsX f J ++ r))) : wI E A s H locs (itsW g ++ r) := by
  subst e
  refine wI_perm ?_ hI
  rw [← List.append_assoc, ← itsX_congr h]
  exact ((its_perm J hJ).append_right r).symm
end ITS
/-! texts of the machine's messages -/
theorem tx_ix {i : Int32} {n : Nat} {tx : String} (hn : n < 2 ^ 31) (h : tx = (toString "Index " ++ toString i ++ toString " out of bounds for length " ++ toString n : String)) : (tx == notModelled) = false ∧ (stringBytes (stringToUtf16 tx)).size ≤ 212 := by
  subst h
  exact ⟨index_text_modelled i n, index_text_bytes i hn⟩
theorem tx_ng {n : Int32} {tx : String} (hn : n < 0) (h : tx = toString n) : (tx == notModelled) = false ∧ (stringBytes (stringToUtf16 tx)).size ≤ 44 := by
  subst h
  exact ⟨negative_text_modelled hn, negative_text_bytes n⟩
/-! elements -/
theorem i32_i64_s {so : Nat} {x : Int64} (h : rOk so x) (h3 : so ≠ 3) : x.toInt32.toInt64 = x := h.1.resolve_left h3
