/-! the town's table: 7 rows of 7 -/
def sK (K : Nat → Nat → Int32) : Nat → Int32 := fun j => K (j / 7) (j % 7)
theorem sK_at {K : Nat → Nat → Int32} {p q : Nat} (hq : q < 7) : sK K (7 * p + q) = K p q := by
  unfold sK
  rw [show (7 * p + q) / 7 = p by omega, show (7 * p + q) % 7 = q by omega]
theorem sK_kn {K : Nat → Nat → Int32} {p q : Nat} {v : Int32} (hp : p < 7) (hq : q < 7) : va_up (va_up (sK K) (7 * p + q) v) (7 * q + p) v = sK (knF K p q v) := by
  funext j
  unfold va_up sK knF
  by_cases h1 : j = 7 * q + p
  · rw [if_pos h1, if_pos (Or.inr ⟨by omega, by omega⟩)]
  · rw [if_neg h1]
    by_cases h2 : j = 7 * p + q
    · rw [if_pos h2, if_pos (Or.inl ⟨by omega, by omega⟩)]
    · rw [if_neg h2, if_neg (by omega)]
theorem knF_comm (K : Nat → Nat → Int32) (p q : Nat) (v : Int32) : knF K p q v = knF K q p v := by
  funext a b
  unfold knF
  by_cases h : (a = p ∧ b = q) ∨ (a = q ∧ b = p)
  · rw [if_pos h, if_pos (by omega)]
  · rw [if_neg h, if_neg (by omega)]
def bcI (x : Int32) : Int32 :=
  let u := fun (y : Int32) (k : Int32) => (y.toUInt32 >>> (k.toUInt32 &&& Int32.toUInt32 31)).toInt32
  let a := x - (u x 1 &&& 1431655765)
  let b := (a &&& 858993459) + (u a 2 &&& 858993459)
  let c := (b + u b 4) &&& 252645135
  let d := c + u c 8
  let e := d + u d 16
  e &&& 63
theorem bcI_n : ∀ S, S < 256 → bcI (nI S) = nI (bitsN S 8) := by decide +kernel
def stN (K : Nat → Nat → Int32) (n : Nat) : Nat → Nat
  | 0 => 0
  | p + 1 => stN K n p + bitsN (strS K p n) 8
theorem stN_le (K : Nat → Nat → Int32) (n : Nat) : ∀ p, stN K n p ≤ 8 * p
  | 0 => Nat.le_refl 0
  | p + 1 => by have := stN_le K n p; have := bitsN_le (strS K p n) 8; rw [stN]; omega
theorem mx_n {x y : Nat} (hx : x < 2 ^ 31) (hy : y < 2 ^ 31) : (if nI x < nI y then nI y else nI x) = nI (max x y) := by
  by_cases h : x < y
  · rw [if_pos ((n_lt hx hy).mpr h), Nat.max_eq_right (by omega)]
  · rw [if_neg (fun z => h ((n_lt hx hy).mp z)), Nat.max_eq_left (by omega)]
theorem mn_n {x y : Nat} (hx : x < 2 ^ 31) (hy : y < 2 ^ 31) : (if nI y < nI x then nI y else nI x) = nI (min x y) := by
  by_cases h : y < x
  · rw [if_pos ((n_lt hy hx).mpr h), Nat.min_eq_right (by omega)]
  · rw [if_neg (fun z => h ((n_lt hy hx).mp z)), Nat.min_eq_left (by omega)]
theorem sameW_set : ∀ (ws : va_W) (q : Nat) (a : Nat) {x y : va_E}, sameC x y → sameW (ws.set q (a, x)) (ws.set q (a, y))
  | [], _, _, _, _, _ => trivial
  | _ :: t, 0, _, _, _, h => ⟨rfl, h, sameW.rf t⟩
  | w :: t, q + 1, a, _, _, h => ⟨rfl, sameC.rf _, sameW_set t q a h⟩
section CP
variable {p : Program} {l : Launch} {e : Env} {F1 mc1 ms1 : Nat} {s : State} {m : MethodId} {args : Array Value} {below : List Frame} {meth : Method} {c : Code} {H : Heap} {locs : List Loc} {cells slots : Nat} {Q : State → Prop} {cc : ByteArray} {pc : Nat} {ls : Array Slot} {rest : List Value} {E : En} {A : Nat → Prop} {ws ws1 : va_W} {a : Nat}
/-- System.arraycopy of a whole array of ints onto one as long -/
theorem r_copyA (hexec : p.tables.exec = Jvm.exec) (hb : c.code = cc) (hml : c.maxLocals = ls.size) {own : String} {index : Nat} (hts : ∀ w ∈ lw_all, w.before args s = true) (hown : s.vm.findClass own = some m.cls) (hlink : Cond.methodLink own index arraycopyName ∈ lw_all) (hnat : Cond.native arraycopyName ∈ lw_all) (hstat : Cond.static arraycopyName ∈ lw_all) (hini : Cond.initialized "java/lang/System" ∈ lw_all)
    (hK : KX E A s) (hI : wI E A s H locs ws) (q0 q1 : Nat) {a0 n : Nat} {f g : Nat → Int32} (ha0 : ws[q0]? = some (a0, .inl (E.2 0, n, .inl f))) (ha1 : ws[q1]? = some (a, .inl (E.2 0, n, .inl g))) (hn : n < 2 ^ 31)
    (hF : 1 ≤ F1) (hlocals : (rest.map fun v => v.category).sum + (nativeFrameWords "java/lang/System" "arraycopy" 5 + 11) ≤ 100 * F1) (hw : ws.set q1 (a, .inl (E.2 0, n, .inl f)) = ws1) (hdg : decode cc pc = .ok (.invokestatic index, 3))
    (kk : ∀ (H1 : Heap) (locs1 : List Loc), wI E A s H1 locs1 ws1 → W p l e (rmF F1 mc1 ms1) s m args below meth c H1 locs1 cells slots Q (F0 m (pc + 3) ls rest)) : W p l e (rmF F1 mc1 ms1) s m args below meth c H locs cells slots Q (F0 m pc ls (.int (nI n) :: .int 0 :: .ref a :: .int 0 :: .ref a0 :: rest)) := by
  have hc : (nI n).toNatClampNeg = n := nI_clamp hn
  have h0 : (0 : Int32).toNatClampNeg = 0 := rfl
  refine va_copyi hexec hb hml hown (hts _ hlink) (hts _ hnat) (hts _ hstat) (hts _ hini) hK.1 hI.1 hI.2.1 hI.2.2 q0 q1 0 0 ha0 ha1 rfl rfl rfl (by decide) (by decide) (nI_pos hn) (by rw [hc, h0]; omega) (by rw [hc, h0]; omega) (fun i _ => rfl) hF hlocals hdg (fun H1 locs1 h1 h2 h3 => kk H1 locs1 ?_)
  subst hw
  refine wI_same (sameW_set ws q1 a (sameC.i (fun j hj => ?_))) ⟨h1, h2, h3⟩
  rw [hc, h0]
  unfold va_cpy
  rw [if_pos (by omega)]
  congr 1
  omega
end CP
theorem le0_eq {x : Int32} (h : 0 ≤ x.toInt) (h2 : x ≤ 0) : x = 0 := by
  have h3 := Int32.le_iff_toInt_le.mp h2
  have h4 : (0 : Int32).toInt = 0 := rfl
  exact Int32.toInt_inj.mp (by omega)
theorem yr_min {v : Int32} (h : 0 ≤ v.toInt ∧ v.toInt ≤ 99) : (if v + 1 < 99 then v + 1 else 99) = yrV v := by
  obtain ⟨x, hx, rfl⟩ := nat_of_le (k := 99) ⟨h.1, h.2⟩ (by decide)
  have h1 : nI x + 1 = nI (x + 1) := nI_1 x
  have h99 : (99 : Int32) = nI 99 := rfl
  unfold yrV
  rw [h1, h99]
  by_cases h2 : x < 99
  · rw [if_pos ((n_lt (by omega) (by decide)).mpr h2)]
    by_cases h3 : x + 1 < 99
    · rw [if_pos ((n_lt (by omega) (by decide)).mpr h3)]
    · rw [if_neg (fun z => h3 ((n_lt (by omega) (by decide)).mp z)), show x + 1 = 99 by omega]
  · rw [if_neg (fun z => h2 ((n_lt (by omega) (by decide)).mp z)), if_neg (fun z => by have := (n_lt (a := x + 1) (b := 99) (by omega) (by decide)).mp z; omega)]
