/-! System.arraycopy ON ROWS: null, other sorts, out of bounds, done -/
def rowTy : Nat → FieldType
  | 0 => .byte
  | 1 => .short
  | 2 => .int
  | 3 => .long
  | _ => .boolean
/-- an element's value, and that it fits its sort -/
def rowV (so : Nat) (x : Int64) : Value := if so = 3 then .long x else .int x.toInt32
def rF (so : Nat) (x : Int64) : Prop := fits (rowTy so) (rowV so x) = true ∧ rOk so x
theorem cpy32 {a b : Nat → Int64} {i j n : Nat} : va_cpy (fun k => (a k).toInt32) (fun k => (b k).toInt32) i j n = fun k => (cpyL a b i j n k).toInt32 := by
  funext k
  unfold va_cpy cpyL
  split <;> rfl
theorem cpy64 {a b : Nat → Int64} {i j n : Nat} : va_cpy a b i j n = cpyL a b i j n := rfl
/-! texts -/
theorem cf_mod (w : String) : (("arraycopy: " ++ w : String) == notModelled) = false := by
  rw [beq_eq_false_iff_ne]
  intro h
  have h2 := congrArg String.toList h
  rw [String.toList_append] at h2
  have h3 : "arraycopy: ".toList = 'a' :: "rraycopy: ".toList := by decide
  have h4 : notModelled.toList = '\u0000' :: " a message that is not modelled".toList := by decide
  rw [h3, h4] at h2
  simp at h2
theorem cf_byt {w : String} (h : w.toList.length ≤ 80) : (stringBytes (stringToUtf16 ("arraycopy: " ++ w))).size ≤ 364 := by
  have b1 := stringBytes_size_le (stringToUtf16 ("arraycopy: " ++ w))
  have b2 := utf16_size_le ("arraycopy: " ++ w)
  have b3 : ("arraycopy: " ++ w).toList.length = 11 + w.toList.length := by
    rw [String.toList_append, List.length_append]
    have : "arraycopy: ".toList.length = 11 := by decide
    omega
  omega
theorem int_print {x : Int} (h1 : -(10 : Int) ^ 9 * 5 ≤ x) (h2 : x ≤ (10 : Int) ^ 9 * 5) : (toString x).toList.length ≤ 11 := by
  show (Int.repr x).toList.length ≤ 11
  cases x with
  | ofNat m =>
    have h2' : (m : Int) ≤ 10 ^ 9 * 5 := h2
    have := nat_print (n := m) (by omega)
    show (toString m).toList.length ≤ 11
    omega
  | negSucc m =>
    have h1' : -(10 : Int) ^ 9 * 5 ≤ -((m : Int) + 1) := by simpa [Int.negSucc_eq] using h1
    have := nat_print (n := m.succ) (by omega)
    show ("-" ++ toString m.succ).toList.length ≤ 11
    rw [String.toList_append, List.length_append]
    have h0 : "-".toList.length = 1 := by decide
    omega
theorem kn_len {so : Nat} (h : so ≤ 4) : (Native.java_lang_System.arraycopy.kindName (rowTy so)).toList.length ≤ 7 :=
  so_5 (P := fun so => (Native.java_lang_System.arraycopy.kindName (rowTy so)).toList.length ≤ 7) h (by decide) (by decide) (by decide) (by decide) (by decide)
/-- what is out of bounds -/
theorem cf_out {so a b : Nat} {i j n : Int32} (hso : so ≤ 4) (ha : a ≤ 100) (hb : b ≤ 100) (h : n.toInt < 0 ∨ i.toInt < 0 ∨ j.toInt < 0 ∨ (a : Int) < i.toInt + n.toInt ∨ (b : Int) < j.toInt + n.toInt) :
    ∃ w : String, copyFault (rowTy so) (rowTy so) a b i j n = some w ∧ w.toList.length ≤ 80 := by
  have hk := kn_len hso
  have pi := int32_print i
  have pj := int32_print j
  have pn := int32_print n
  have pa := nat_print (n := a) (by omega)
  have pb := nat_print (n := b) (by omega)
  have li := Int32.toInt_lt i
  have lj := Int32.toInt_lt j
  have ln := Int32.toInt_lt n
  have gi := Int32.le_toInt i
  have gj := Int32.le_toInt j
  have gn := Int32.le_toInt n
  have p1 := int_print (x := i.toInt + n.toInt) (by omega) (by omega)
  have p2 := int_print (x := j.toInt + n.toInt) (by omega) (by omega)
  have z : (0 : Int32).toInt = 0 := rfl
  unfold copyFault
  split
  · refine ⟨_, rfl, ?_⟩
    show (toString "source index " ++ toString i ++ toString " out of bounds for " ++ toString (toString (Native.java_lang_System.arraycopy.kindName (rowTy so)) ++ toString "[" ++ toString a ++ toString "]")).toList.length ≤ 80
    simp only [String.toList_append, List.length_append]
    have a1 : (toString "source index ").toList.length = 13 := by decide
    have a2 : (toString " out of bounds for ").toList.length = 19 := by decide
    have a3 : (toString "[").toList.length = 1 := by decide
    have a4 : (toString "]").toList.length = 1 := by decide
    show _ + _ + _ + (toString (Native.java_lang_System.arraycopy.kindName (rowTy so)) ++ toString "[" ++ toString a ++ toString "]").toList.length ≤ 80
    simp only [String.toList_append, List.length_append]
    have a5 : (toString (Native.java_lang_System.arraycopy.kindName (rowTy so))).toList.length ≤ 7 := hk
    omega
  · split
    · refine ⟨_, rfl, ?_⟩
      show (toString "destination index " ++ toString j ++ toString " out of bounds for " ++ toString (toString (Native.java_lang_System.arraycopy.kindName (rowTy so)) ++ toString "[" ++ toString b ++ toString "]")).toList.length ≤ 80
      simp only [String.toList_append, List.length_append]
      have a1 : (toString "destination index ").toList.length = 18 := by decide
      have a2 : (toString " out of bounds for ").toList.length = 19 := by decide
      have a3 : (toString "[").toList.length = 1 := by decide
      have a4 : (toString "]").toList.length = 1 := by decide
      show _ + _ + _ + (toString (Native.java_lang_System.arraycopy.kindName (rowTy so)) ++ toString "[" ++ toString b ++ toString "]").toList.length ≤ 80
      simp only [String.toList_append, List.length_append]
      have a5 : (toString (Native.java_lang_System.arraycopy.kindName (rowTy so))).toList.length ≤ 7 := hk
      omega
    · split
      · refine ⟨_, rfl, ?_⟩
        show (toString "length " ++ toString n ++ toString " is negative").toList.length ≤ 80
        simp only [String.toList_append, List.length_append]
        have a1 : (toString "length ").toList.length = 7 := by decide
        have a2 : (toString " is negative").toList.length = 12 := by decide
        omega
      · split
        · refine ⟨_, rfl, ?_⟩
          show (toString "last source index " ++ toString (i.toInt + n.toInt) ++ toString " out of bounds for " ++ toString (toString (Native.java_lang_System.arraycopy.kindName (rowTy so)) ++ toString "[" ++ toString a ++ toString "]")).toList.length ≤ 80
          simp only [String.toList_append, List.length_append]
          have a1 : (toString "last source index ").toList.length = 18 := by decide
          have a2 : (toString " out of bounds for ").toList.length = 19 := by decide
          have a3 : (toString "[").toList.length = 1 := by decide
          have a4 : (toString "]").toList.length = 1 := by decide
          show _ + _ + _ + (toString (Native.java_lang_System.arraycopy.kindName (rowTy so)) ++ toString "[" ++ toString a ++ toString "]").toList.length ≤ 80
          simp only [String.toList_append, List.length_append]
          have a5 : (toString (Native.java_lang_System.arraycopy.kindName (rowTy so))).toList.length ≤ 7 := hk
          omega
        · split
          · refine ⟨_, rfl, ?_⟩
            show (toString "last destination index " ++ toString (j.toInt + n.toInt) ++ toString " out of bounds for " ++ toString (toString (Native.java_lang_System.arraycopy.kindName (rowTy so)) ++ toString "[" ++ toString b ++ toString "]")).toList.length ≤ 80
            simp only [String.toList_append, List.length_append]
            have a1 : (toString "last destination index ").toList.length = 23 := by decide
            have a2 : (toString " out of bounds for ").toList.length = 19 := by decide
            have a3 : (toString "[").toList.length = 1 := by decide
            have a4 : (toString "]").toList.length = 1 := by decide
            show _ + _ + _ + (toString (Native.java_lang_System.arraycopy.kindName (rowTy so)) ++ toString "[" ++ toString b ++ toString "]").toList.length ≤ 80
            simp only [String.toList_append, List.length_append]
            have a5 : (toString (Native.java_lang_System.arraycopy.kindName (rowTy so))).toList.length ≤ 7 := hk
            omega
          · rename_i g1 g2 g3 g4 g5
            exfalso
            have q1 := mt Int32.lt_iff_toInt_lt.mpr g1
            have q2 := mt Int32.lt_iff_toInt_lt.mpr g2
            have q3 := mt Int32.lt_iff_toInt_lt.mpr g3
            rw [z] at q1 q2 q3
            omega
/-- the text where the sorts differ -/
def tyTx (so s2 : Nat) : String := toString "arraycopy: type mismatch: can not copy " ++ toString (Native.java_lang_System.arraycopy.kindName (rowTy so)) ++ toString "[] into " ++ toString (Native.java_lang_System.arraycopy.kindName (rowTy s2)) ++ toString "[]"
theorem ty_mod : ∀ so, so ≤ 4 → ∀ s2, s2 ≤ 4 → (tyTx so s2 == notModelled) = false ∧ (stringBytes (stringToUtf16 (tyTx so s2))).size ≤ 100 := by
  have h : ∀ so, so < 5 → ∀ s2, s2 < 5 → (tyTx so s2 == notModelled) = false ∧ (stringBytes (stringToUtf16 (tyTx so s2))).size ≤ 100 := by decide +kernel
  exact fun so h1 s2 h2 => h so (by omega) s2 (by omega)
theorem ty_ne : ∀ so, so ≤ 4 → ∀ s2, s2 ≤ 4 → so ≠ s2 → ((refKind (rowTy so) != refKind (rowTy s2)) || (!refKind (rowTy so) && rowTy so != rowTy s2)) = true := by
  have h : ∀ so, so < 5 → ∀ s2, s2 < 5 → so ≠ s2 → ((refKind (rowTy so) != refKind (rowTy s2)) || (!refKind (rowTy so) && rowTy so != rowTy s2)) = true := by decide +kernel
  exact fun so h1 s2 h2 => h so (by omega) s2 (by omega)
theorem ty_eq : ∀ so, so ≤ 4 → ((refKind (rowTy so) != refKind (rowTy so)) || (!refKind (rowTy so) && rowTy so != rowTy so)) = false := by
  have h : ∀ so, so < 5 → ((refKind (rowTy so) != refKind (rowTy so)) || (!refKind (rowTy so) && rowTy so != rowTy so)) = false := by decide +kernel
  exact fun so h1 => h so (by omega)
/-- a row's cell and its class, in any state since -/
theorem row_cell {E : En} {A : Nat → Prop} {s U : State} {H : Heap} {locs : List Loc} {ws : va_W} (hK : KX E A s) (hI : wI E A s H locs ws) (hW : s.WarmedH U.vm) {q0 q so n : Nat} {f : Nat → Int64} (h : so ≤ 4) (he : ws[q0]? = some (q, .inl (rowE E so n f))) :
    ∃ (cs : Cell) (ks : Class) (cm : ClassId), H[q]? = some cs ∧ (∀ k, cs.vm ≠ .statics k) ∧ U.vm.classes[cs.cls]? = some ks ∧ ks.kind = .array cm (rowTy so) ∧ cs.slots.size = n := by
  revert he
  refine so_5 (P := fun so => ws[q0]? = some (q, .inl (rowE E so n f)) → ∃ (cs : Cell) (ks : Class) (cm : ClassId), H[q]? = some cs ∧ (∀ k, cs.vm ≠ .statics k) ∧ U.vm.classes[cs.cls]? = some ks ∧ ks.kind = .array cm (rowTy so) ∧ cs.slots.size = n) h ?_ ?_ ?_ ?_ ?_
  · intro he
    obtain ⟨-, k0, hk0, cm, hkk⟩ := (arrOfT_moved hW.alike (hK.1.2 4 (E.2 4, .byte) rfl).1) n (fun j => .int ((f j).toInt32))
    exact ⟨vp_cell (E.2 4) (n, .inl fun j => (f j).toInt32), k0, cm, hI.1 q0 _ he, fun _ e => by cases e, hk0, hkk, arrV_size _ _ _⟩
  · intro he
    obtain ⟨-, k0, hk0, cm, hkk⟩ := (arrOfT_moved hW.alike (hK.1.2 5 (E.2 5, .short) rfl).1) n (fun j => .int ((f j).toInt32))
    exact ⟨vp_cell (E.2 5) (n, .inl fun j => (f j).toInt32), k0, cm, hI.1 q0 _ he, fun _ e => by cases e, hk0, hkk, arrV_size _ _ _⟩
  · intro he
    obtain ⟨-, k0, hk0, cm, hkk⟩ := (arrOfT_moved hW.alike (hK.1.2 0 (E.2 0, .int) rfl).1) n (fun j => .int ((f j).toInt32))
    exact ⟨vp_cell (E.2 0) (n, .inl fun j => (f j).toInt32), k0, cm, hI.1 q0 _ he, fun _ e => by cases e, hk0, hkk, arrV_size _ _ _⟩
  · intro he
    obtain ⟨-, k0, hk0, cm, hkk⟩ := (arrOfT_moved hW.alike (hK.1.2 1 (E.2 1, .long) rfl).1) n (fun j => .long (f j))
    exact ⟨vp_cell (E.2 1) (n, .inr (.inl f)), k0, cm, hI.1 q0 _ he, fun _ e => by cases e, hk0, hkk, arrV_size _ _ _⟩
  · intro he
    obtain ⟨-, k0, hk0, cm, hkk⟩ := (arrOfT_moved hW.alike (hK.1.2 6 (E.2 6, .boolean) rfl).1) n (fun j => .int ((f j).toInt32))
    exact ⟨vp_cell (E.2 6) (n, .inl fun j => (f j).toInt32), k0, cm, hI.1 q0 _ he, fun _ e => by cases e, hk0, hkk, arrV_size _ _ _⟩
section CPX
variable {p : Program} {l : Launch} {e : Env} {F1 mc1 ms1 : Nat} {s : State} {m : MethodId} {args : Array Value} {below : List Frame} {meth : Method} {c : Code} {H : Heap} {locs : List Loc} {cells slots : Nat} {Q : State → Prop} {cc : ByteArray} {pc nL1 index : Nat} {ls : Array Slot} {rest : List Value} {E : En} {A : Nat → Prop} {ws : va_W} {own : String} {i j n : Int32}
theorem r_copyN (hexec : p.tables.exec = Jvm.exec) (hlt : l.stackTraces = false) (hb : c.code = cc) (hml : c.maxLocals = nL1) (hts : ∀ w ∈ lw_all, w.before args s = true) (hown : s.vm.findClass own = some m.cls) (hlink : Cond.methodLink own index arraycopyName ∈ lw_all) (hnat : Cond.native arraycopyName ∈ lw_all) (hstat : Cond.static arraycopyName ∈ lw_all) (hini : Cond.initialized "java/lang/System" ∈ lw_all)
    (hK : KX E A s) (hI : wI E A s H locs ws) (hl : ls.size = nL1) {x y : Option Nat} (hxy : x = none ∨ y = none) (hF : 105 ≤ F1) (hcs : cells + 1 ≤ mc1 ∧ slots + 8 ≤ ms1) (hrest : (rest.map fun v => v.category).sum ≤ 8) (hdg : decode cc pc = .ok (.invokestatic index, 3))
    (k : ∀ (H1 : Heap) (q : Addr) (ce : Cell), wI E A s H1 locs ws → H1[q]? = some ce → ce.vm = .none → s.vm.findClass "java/lang/NullPointerException" = some ce.cls → vx_W p l e (rmF F1 mc1 ms1) s m args below meth c H1 locs (cells + 1) (slots + 8) Q (F0 m pc ls rest) q) :
    W p l e (rmF F1 mc1 ms1) s m args below meth c H locs cells slots Q (F0 m pc ls (.int n :: .int j :: va_rf y :: .int i :: va_rf x :: rest)) := by
  refine nx_call (argsL := [va_rf x, .int i, va_rf y, .int j, .int n]) (rest := rest) (cls := "java/lang/NullPointerException") (msg := none) (dc := 1) (ds := 8) hexec hb (hl.trans hml.symm) hown (hts _ hlink) (hts _ hnat) (hts _ hstat) (hts _ hini) rfl (by cases x <;> cases y <;> rfl) (fun x9 h1 h2 => by cases x <;> cases y <;> simp [seenByNative, h1, h2, narrow, va_rf]) ?_
    (nx_npe (nb := 8) hexec hlt (at_npe hts hK.xw) (fun w hw => List.all_eq_true.mp at_npe_o w hw) hK.2.2.2.2.2.1 hK.2.2.2.2.2.2.1 hI.2.2 (by show 8 < F1; omega) (by show 10248 ≤ 100 * F1; omega) hcs.1 hcs.2) (by show 1 ≤ F1; omega) (by show 100 ≤ 100 * F1; omega) hrest hdg (fun H1 q ce h1 h2 h3 h4 h5 => k H1 q ce (hI.kept h2 ⟨Nat.le_trans hI.2.2.1 h1, fun q g1 g2 => (h2 q (Nat.lt_of_lt_of_le g1 hI.2.2.1)).trans (hI.2.2.2.1 q g1 g2), hI.2.2.2.2⟩) h3 h4 h5)
  intro U hU hW fs E9 hE
  cases x with
  | none => exact _root_.Jvm.W.arraycopy_null1 (s := U.setFrames fs) i j n (va_rf y) (hE _)
  | some a =>
    have hy : y = none := hxy.resolve_left (fun h => nomatch h)
    subst hy
    exact _root_.Jvm.W.arraycopy_null2 (s := U.setFrames fs) a i j n (hE _)
theorem r_copyT (hexec : p.tables.exec = Jvm.exec) (hlt : l.stackTraces = false) (hb : c.code = cc) (hml : c.maxLocals = nL1) (hts : ∀ w ∈ lw_all, w.before args s = true) (hown : s.vm.findClass own = some m.cls) (hlink : Cond.methodLink own index arraycopyName ∈ lw_all) (hnat : Cond.native arraycopyName ∈ lw_all) (hstat : Cond.static arraycopyName ∈ lw_all) (hini : Cond.initialized "java/lang/System" ∈ lw_all)
    (hK : KX E A s) (hI : wI E A s H locs ws) (hl : ls.size = nL1) (q0 q1 : Nat) {a0 a1 so s2 n0 n1 : Nat} {f g : Nat → Int64} (hso : so ≤ 4) (hs2 : s2 ≤ 4) (hne : so ≠ s2) (h0 : ws[q0]? = some (a0, .inl (rowE E so n0 f))) (h1 : ws[q1]? = some (a1, .inl (rowE E s2 n1 g))) (hF : 105 ≤ F1) (hcs : cells + 3 ≤ mc1 ∧ slots + (100 + 10) ≤ ms1) (hrest : (rest.map fun v => v.category).sum ≤ 8) (hdg : decode cc pc = .ok (.invokestatic index, 3))
    (k : ∀ (H1 : Heap) (q : Addr) (ce : Cell), wI E A s H1 locs ws → H1[q]? = some ce → ce.vm = .none → s.vm.findClass "java/lang/ArrayStoreException" = some ce.cls → vx_W p l e (rmF F1 mc1 ms1) s m args below meth c H1 locs (cells + 3) (slots + (100 + 10)) Q (F0 m pc ls rest) q) :
    W p l e (rmF F1 mc1 ms1) s m args below meth c H locs cells slots Q (F0 m pc ls (.int n :: .int j :: .ref a1 :: .int i :: .ref a0 :: rest)) := by
  obtain ⟨t1, t2⟩ := ty_mod so hso s2 hs2
  refine nx_call (argsL := [.ref a0, .int i, .ref a1, .int j, .int n]) (rest := rest) (cls := "java/lang/ArrayStoreException") (msg := some (tyTx so s2)) (dc := 3) (ds := 100 + 10) hexec hb (hl.trans hml.symm) hown (hts _ hlink) (hts _ hnat) (hts _ hstat) (hts _ hini) rfl rfl (fun x9 h1 h2 => by simp [seenByNative, h1, h2, narrow]) ?_
    (nx_vm (names := ["java/lang/RuntimeException", "java/lang/Exception"]) (nb := 100) hexec hlt (by decide +kernel) (by decide +kernel) (by decide +kernel) (by decide +kernel) (at_ast hts hK.xw) (fun w hw => List.all_eq_true.mp at_ast_o w hw) hK.2.2.2.2.2.1 hK.2.2.2.2.2.2.1 hI.2.2 t1 t2 (by omega) (by show 2 + 5 < F1; omega) (by show 10248 ≤ 100 * F1; omega) (by decide) hcs.1 hcs.2) (by show 1 ≤ F1; omega) (by show 100 ≤ 100 * F1; omega) hrest hdg (fun H1 q ce h1 h2 h3 h4 h5 => k H1 q ce (hI.kept h2 ⟨Nat.le_trans hI.2.2.1 h1, fun q g1 g2 => (h2 q (Nat.lt_of_lt_of_le g1 hI.2.2.1)).trans (hI.2.2.2.1 q g1 g2), hI.2.2.2.2⟩) h3 h4 h5)
  intro U hU hW fs E9 hE
  obtain ⟨cs, ks, cm, r1, r2, r3, r4, -⟩ := row_cell hK hI hW hso h0
  obtain ⟨cd, kd, dm, d1, d2, d3, d4, -⟩ := row_cell hK hI hW hs2 h1
  exact _root_.Jvm.W.arraycopy_types (s := U.setFrames fs) (by show U.heap[a0]? = _; rw [hU]; exact r1) (by show U.heap[a1]? = _; rw [hU]; exact d1) r2 d2 r3 d3 r4 d4 (ty_ne so hso s2 hs2 hne) (hE _)
theorem r_copyB9 (hexec : p.tables.exec = Jvm.exec) (hlt : l.stackTraces = false) (hb : c.code = cc) (hml : c.maxLocals = nL1) (hts : ∀ w ∈ lw_all, w.before args s = true) (hown : s.vm.findClass own = some m.cls) (hlink : Cond.methodLink own index arraycopyName ∈ lw_all) (hnat : Cond.native arraycopyName ∈ lw_all) (hstat : Cond.static arraycopyName ∈ lw_all) (hini : Cond.initialized "java/lang/System" ∈ lw_all)
    (hK : KX E A s) (hI : wI E A s H locs ws) (hl : ls.size = nL1) (q0 q1 : Nat) {a0 a1 so n0 n1 : Nat} {f g : Nat → Int64} (hso : so ≤ 4) (hn0 : n0 ≤ 100) (hn1 : n1 ≤ 100) (h0 : ws[q0]? = some (a0, .inl (rowE E so n0 f))) (h1 : ws[q1]? = some (a1, .inl (rowE E so n1 g))) (hout : n.toInt < 0 ∨ i.toInt < 0 ∨ j.toInt < 0 ∨ (n0 : Int) < i.toInt + n.toInt ∨ (n1 : Int) < j.toInt + n.toInt) (hF : 105 ≤ F1) (hcs : cells + 3 ≤ mc1 ∧ slots + (364 + 10) ≤ ms1) (hrest : (rest.map fun v => v.category).sum ≤ 8) (hdg : decode cc pc = .ok (.invokestatic index, 3))
    (k : ∀ (H1 : Heap) (q : Addr) (ce : Cell), wI E A s H1 locs ws → H1[q]? = some ce → ce.vm = .none → s.vm.findClass "java/lang/ArrayIndexOutOfBoundsException" = some ce.cls → vx_W p l e (rmF F1 mc1 ms1) s m args below meth c H1 locs (cells + 3) (slots + (364 + 10)) Q (F0 m pc ls rest) q) :
    W p l e (rmF F1 mc1 ms1) s m args below meth c H locs cells slots Q (F0 m pc ls (.int n :: .int j :: .ref a1 :: .int i :: .ref a0 :: rest)) := by
  obtain ⟨w, w1, w2⟩ := cf_out hso hn0 hn1 hout
  refine nx_call (argsL := [.ref a0, .int i, .ref a1, .int j, .int n]) (rest := rest) (cls := "java/lang/ArrayIndexOutOfBoundsException") (msg := some ("arraycopy: " ++ w)) (dc := 3) (ds := 364 + 10) hexec hb (hl.trans hml.symm) hown (hts _ hlink) (hts _ hnat) (hts _ hstat) (hts _ hini) rfl rfl (fun x9 h1 h2 => by simp [seenByNative, h1, h2, narrow]) ?_
    (nx_vm (names := ["java/lang/IndexOutOfBoundsException", "java/lang/RuntimeException", "java/lang/Exception"]) (nb := 364) hexec hlt (by decide +kernel) (by decide +kernel) (by decide +kernel) (by decide +kernel) (at_aio hts hK.xw) (fun w hw => List.all_eq_true.mp at_aio_o w hw) hK.2.2.2.2.2.1 hK.2.2.2.2.2.2.1 hI.2.2 (cf_mod w) (cf_byt w2) (by omega) (by show 3 + 5 < F1; omega) (by show 10248 ≤ 100 * F1; omega) (by decide) hcs.1 hcs.2) (by show 1 ≤ F1; omega) (by show 100 ≤ 100 * F1; omega) hrest hdg (fun H1 q ce h1 h2 h3 h4 h5 => k H1 q ce (hI.kept h2 ⟨Nat.le_trans hI.2.2.1 h1, fun q g1 g2 => (h2 q (Nat.lt_of_lt_of_le g1 hI.2.2.1)).trans (hI.2.2.2.1 q g1 g2), hI.2.2.2.2⟩) h3 h4 h5)
  intro U hU hW fs E9 hE
  obtain ⟨cs, ks, cm, r1, r2, r3, r4, r5⟩ := row_cell hK hI hW hso h0
  obtain ⟨cd, kd, dm, d1, d2, d3, d4, d5⟩ := row_cell hK hI hW hso h1
  exact _root_.Jvm.W.arraycopy_bounds (s := U.setFrames fs) (what := w) (by show U.heap[a0]? = _; rw [hU]; exact r1) (by show U.heap[a1]? = _; rw [hU]; exact d1) r2 d2 r3 d3 r4 d4 (ty_eq so hso) (by rw [r5, d5]; exact w1) (hE _)
theorem r_copyR (hexec : p.tables.exec = Jvm.exec) (hb : c.code = cc) (hml : c.maxLocals = nL1) (hts : ∀ w ∈ lw_all, w.before args s = true) (hown : s.vm.findClass own = some m.cls) (hlink : Cond.methodLink own index arraycopyName ∈ lw_all) (hnat : Cond.native arraycopyName ∈ lw_all) (hstat : Cond.static arraycopyName ∈ lw_all) (hini : Cond.initialized "java/lang/System" ∈ lw_all)
    (hK : KX E A s) (hI : wI E A s H locs ws) (hl : ls.size = nL1) (q0 q1 : Nat) {a0 a1 so n0 n1 I9 J9 N9 : Nat} {f g : Nat → Int64} (hso : so ≤ 4) (h0 : ws[q0]? = some (a0, .inl (rowE E so n0 f))) (h1 : ws[q1]? = some (a1, .inl (rowE E so n1 g))) (hi9 : I9 + N9 ≤ n0) (hj9 : J9 + N9 ≤ n1) (hn0 : n0 ≤ 100) (hn1 : n1 ≤ 100) (hfit : ∀ k, k < n0 → rF so (f k)) (hF : 1 ≤ F1) (hrest : (rest.map fun v => v.category).sum ≤ 8) (hdg : decode cc pc = .ok (.invokestatic index, 3))
    (kk : ∀ (H1 : Heap) (locs1 : List Loc), wI E A s H1 locs1 (ws.set q1 (a1, .inl (rowE E so n1 (cpyL f g I9 J9 N9)))) → W p l e (rmF F1 mc1 ms1) s m args below meth c H1 locs1 cells slots Q (F0 m (pc + 3) ls rest)) :
    W p l e (rmF F1 mc1 ms1) s m args below meth c H locs cells slots Q (F0 m pc ls (.int (nI N9) :: .int (nI J9) :: .ref a1 :: .int (nI I9) :: .ref a0 :: rest)) := by
  have cN : (nI N9).toNatClampNeg = N9 := nI_clamp (by omega)
  have cI : (nI I9).toNatClampNeg = I9 := nI_clamp (by omega)
  have cJ : (nI J9).toNatClampNeg = J9 := nI_clamp (by omega)
  have ng : ∀ z : Nat, z ≤ 100 → ¬ nI z < 0 := fun z hz h => by
    have := Int32.lt_iff_toInt_lt.mp h
    rw [nI_toInt (by omega), show (0 : Int32).toInt = 0 from rfl] at this
    omega
  have hloc : (rest.map fun v => v.category).sum + (nativeFrameWords "java/lang/System" "arraycopy" 5 + 11) ≤ (rmF F1 mc1 ms1).locals := by
    have := nx_words
    show _ + (nativeFrameWords arraycopyName.cls arraycopyName.name 5 + 11) ≤ 100 * F1
    omega
  revert h0 h1 hfit kk
  refine so_5 (P := fun so => ws[q0]? = some (a0, .inl (rowE E so n0 f)) → ws[q1]? = some (a1, .inl (rowE E so n1 g)) → (∀ k, k < n0 → rF so (f k)) → (∀ (H1 : Heap) (locs1 : List Loc), wI E A s H1 locs1 (ws.set q1 (a1, .inl (rowE E so n1 (cpyL f g I9 J9 N9)))) → W p l e (rmF F1 mc1 ms1) s m args below meth c H1 locs1 cells slots Q (F0 m (pc + 3) ls rest)) → W p l e (rmF F1 mc1 ms1) s m args below meth c H locs cells slots Q (F0 m pc ls (.int (nI N9) :: .int (nI J9) :: .ref a1 :: .int (nI I9) :: .ref a0 :: rest))) hso ?_ ?_ ?_ ?_ ?_
  · intro h0 h1 hfit kk
    refine va_copyi hexec hb (hml.trans hl.symm) hown (hts _ hlink) (hts _ hnat) (hts _ hstat) (hts _ hini) hK.1 hI.1 hI.2.1 hI.2.2 q0 q1 4 4 h0 h1 rfl rfl rfl (ng I9 (by omega)) (ng J9 (by omega)) (ng N9 (by omega)) (by rw [cI, cN]; exact hi9) (by rw [cJ, cN]; exact hj9) (fun k hk => by rw [cN] at hk; rw [cI]; exact (hfit (I9 + k) (by omega)).1) hF hloc hdg (fun H1 locs1 g1 g2 g3 => ?_)
    rw [cN, cI, cJ, cpy32] at g1 g2
    exact kk H1 locs1 ⟨g1, g2, g3⟩
  · intro h0 h1 hfit kk
    refine va_copyi hexec hb (hml.trans hl.symm) hown (hts _ hlink) (hts _ hnat) (hts _ hstat) (hts _ hini) hK.1 hI.1 hI.2.1 hI.2.2 q0 q1 5 5 h0 h1 rfl rfl rfl (ng I9 (by omega)) (ng J9 (by omega)) (ng N9 (by omega)) (by rw [cI, cN]; exact hi9) (by rw [cJ, cN]; exact hj9) (fun k hk => by rw [cN] at hk; rw [cI]; exact (hfit (I9 + k) (by omega)).1) hF hloc hdg (fun H1 locs1 g1 g2 g3 => ?_)
    rw [cN, cI, cJ, cpy32] at g1 g2
    exact kk H1 locs1 ⟨g1, g2, g3⟩
  · intro h0 h1 hfit kk
    refine va_copyi hexec hb (hml.trans hl.symm) hown (hts _ hlink) (hts _ hnat) (hts _ hstat) (hts _ hini) hK.1 hI.1 hI.2.1 hI.2.2 q0 q1 0 0 h0 h1 rfl rfl rfl (ng I9 (by omega)) (ng J9 (by omega)) (ng N9 (by omega)) (by rw [cI, cN]; exact hi9) (by rw [cJ, cN]; exact hj9) (fun k hk => by rw [cN] at hk; rw [cI]; exact (hfit (I9 + k) (by omega)).1) hF hloc hdg (fun H1 locs1 g1 g2 g3 => ?_)
    rw [cN, cI, cJ, cpy32] at g1 g2
    exact kk H1 locs1 ⟨g1, g2, g3⟩
  · intro h0 h1 hfit kk
    refine va_copyl hexec hb (hml.trans hl.symm) hown (hts _ hlink) (hts _ hnat) (hts _ hstat) (hts _ hini) hK.1 hI.1 hI.2.1 hI.2.2 q0 q1 1 1 h0 h1 rfl rfl rfl (ng I9 (by omega)) (ng J9 (by omega)) (ng N9 (by omega)) (by rw [cI, cN]; exact hi9) (by rw [cJ, cN]; exact hj9) (fun k hk => by rw [cN] at hk; rw [cI]; exact (hfit (I9 + k) (by omega)).1) hF hloc hdg (fun H1 locs1 g1 g2 g3 => ?_)
    rw [cN, cI, cJ, cpy64] at g1 g2
    exact kk H1 locs1 ⟨g1, g2, g3⟩
  · intro h0 h1 hfit kk
    refine va_copyi hexec hb (hml.trans hl.symm) hown (hts _ hlink) (hts _ hnat) (hts _ hstat) (hts _ hini) hK.1 hI.1 hI.2.1 hI.2.2 q0 q1 6 6 h0 h1 rfl rfl rfl (ng I9 (by omega)) (ng J9 (by omega)) (ng N9 (by omega)) (by rw [cI, cN]; exact hi9) (by rw [cJ, cN]; exact hj9) (fun k hk => by rw [cN] at hk; rw [cI]; exact (hfit (I9 + k) (by omega)).1) hF hloc hdg (fun H1 locs1 g1 g2 g3 => ?_)
    rw [cN, cI, cJ, cpy32] at g1 g2
    exact kk H1 locs1 ⟨g1, g2, g3⟩
end CPX
/-! two shelves taken out at once -/
def itsY (f : Nat → va_W) (P Z : Nat) : va_W := ((List.range 8).filter (fun j => j != P && j != Z)).flatMap f
theorem its_perm2 {f : Nat → va_W} {P Z : Nat} (hP : P < 8) (hZ : Z < 8) (h : P ≠ Z) : (itsW f).Perm (f P ++ (f Z ++ itsY f P Z)) := by
  have key : ∀ P, P < 8 → ∀ Z, Z < 8 → P ≠ Z → (List.range 8).Perm (P :: Z :: (List.range 8).filter (fun j => j != P && j != Z)) := by decide
  have h2 := List.Perm.flatMap_right f (key P hP Z hZ h)
  rw [List.flatMap_cons, List.flatMap_cons] at h2
  exact h2
theorem itsY_congr {f g : Nat → va_W} {P Z : Nat} (h : ∀ j, j ≠ P → j ≠ Z → f j = g j) : itsY f P Z = itsY g P Z := by
  unfold itsY
  have key : ∀ l : List Nat, (∀ j ∈ l, j ≠ P ∧ j ≠ Z) → l.flatMap f = l.flatMap g := by
    intro l
    induction l with
    | nil => intro _; rfl
    | cons a l ih =>
      intro hl
      rw [List.flatMap_cons, List.flatMap_cons, h a (hl a List.mem_cons_self).1 (hl a List.mem_cons_self).2, ih (fun j hj => hl j (List.mem_cons_of_mem _ hj))]
  refine key _ (fun j hj => ?_)
  have h2 := (List.mem_filter.mp hj).2
  rw [Bool.and_eq_true] at h2
  exact ⟨by simpa using h2.1, by simpa using h2.2⟩
section ITY
variable {E : En} {A : Nat → Prop} {s : State} {H : Heap} {locs : List Loc} {r w v : va_W} {f g : Nat → va_W} {P Z : Nat}
theorem its_out2 (hP : P < 8) (hZ : Z < 8) (hn : P ≠ Z) (e : f P = w) (e2 : f Z = v) (hI : wI E A s H locs (itsW f ++ r)) : wI E A s H locs (w ++ (v ++ (itsY f P Z ++ r))) := by
  subst e; subst e2
  refine wI_perm ?_ hI
  have h := (its_perm2 (f := f) hP hZ hn).append_right r
  rw [List.append_assoc, List.append_assoc] at h
  exact h
theorem its_in2 (hP : P < 8) (hZ : Z < 8) (hn : P ≠ Z) (h : ∀ j, j ≠ P → j ≠ Z → g j = f j) (e : g P = w) (e2 : g Z = v) (hI : wI E A s H locs (w ++ (v ++ (itsY f P Z ++ r)))) : wI E A s H locs (itsW g ++ r) := by
  subst e; subst e2
  refine wI_perm ?_ hI
  rw [← itsY_congr h]
  have h := (its_perm2 (f := g) hP hZ hn).append_right r
  rw [List.append_assoc, List.append_assoc] at h
  exact h.symm
end ITY
