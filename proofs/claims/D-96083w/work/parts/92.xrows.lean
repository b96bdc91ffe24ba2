/-! WHAT THE MACHINE THROWS BY ITSELF; what a thing is; catching (printed by gen/mkxrows.py) -/
theorem KX.xw {E : En} {A : Nat → Prop} {s : State} (h : KX E A s) : XW s := h.2.2.2.2.2.2.2.2.2
theorem XW.decl {x : MethodName} {s : State} (h : XW s) (hw : Cond.declares x ∈ lw_tbl) : va_Nw (.declares x) s := by
  obtain ⟨U0, a0, h1, -, -, h3⟩ := h
  exact va_Nw.warmD h3 (va_Nw.of rfl (h1 _ (tbl_t hw (fun C y e => Cond.noConfusion e))))
def nbW : Cond → Bool
  | .castable _ _ => true
  | .declares _ => true
  | w => goodWord w
theorem tb_any {args : Array Value} {s : State} (hts : ∀ w ∈ lw_all, w.before args s = true) (hx : XW s) {w : Cond} (h : w ∈ lw_tbl) (hg : nbW w = true) : w.before args s = true := by
  by_cases g : goodWord w = true
  · exact hts w (lw_g h g)
  · unfold nbW at hg
    split at hg
    · exact va_Nw.use rfl (hx.cast h)
    · exact va_Nw.use rfl (hx.decl h)
    · exact absurd hg g
theorem fm_mem {ps : List Nat} {w : Cond} {L : List Cond} (e : L = ps.filterMap (fun i => lw_tbl[i]?)) (h : w ∈ L) : w ∈ lw_tbl := by
  rw [e] at h
  obtain ⟨i, -, hi⟩ := List.mem_filterMap.mp h
  exact List.mem_of_getElem? hi
set_option maxRecDepth 100000 in
theorem at_neg_e : vx_atM "java/lang/NegativeArraySizeException" ["java/lang/RuntimeException", "java/lang/Exception"] = [87, 381, 321, 343, 346, 348, 382, 383, 123, 124, 315, 320, 344, 351, 375, 352, 376, 353, 377, 316, 318, 378, 313, 314, 350, 378, 304, 305, 306, 307, 369, 307, 308, 309, 310, 371, 310, 311, 312, 313, 373, 91, 384, 385, 386, 388, 387, 389, 90, 303, 367, 374, 328, 358, 360, 364, 356, 380, 379, 354].filterMap (fun i => lw_tbl[i]?) := by rfl
theorem at_neg_g : (vx_atM "java/lang/NegativeArraySizeException" ["java/lang/RuntimeException", "java/lang/Exception"]).all nbW = true := by decide +kernel
theorem at_neg_o : (vx_atM "java/lang/NegativeArraySizeException" ["java/lang/RuntimeException", "java/lang/Exception"]).all vx_ot = true := by decide +kernel
theorem at_neg {args : Array Value} {s : State} (hts : ∀ w ∈ lw_all, w.before args s = true) (hx : XW s) : ∀ w ∈ vx_atM "java/lang/NegativeArraySizeException" ["java/lang/RuntimeException", "java/lang/Exception"], w.before args s = true := fun w hw => tb_any hts hx (fm_mem at_neg_e hw) (List.all_eq_true.mp at_neg_g w hw)
set_option maxRecDepth 100000 in
theorem at_aio_e : vx_atM "java/lang/ArrayIndexOutOfBoundsException" ["java/lang/IndexOutOfBoundsException", "java/lang/RuntimeException", "java/lang/Exception"] = [87, 381, 321, 343, 346, 348, 382, 383, 123, 124, 315, 320, 344, 351, 375, 352, 376, 353, 377, 316, 318, 378, 313, 314, 350, 378, 413, 414, 415, 416, 428, 416, 417, 418, 307, 369, 307, 308, 309, 310, 371, 310, 311, 312, 313, 373, 91, 384, 385, 386, 388, 387, 389, 93, 412, 426, 429, 325, 421, 422, 424, 420, 380, 379, 419].filterMap (fun i => lw_tbl[i]?) := by rfl
theorem at_aio_g : (vx_atM "java/lang/ArrayIndexOutOfBoundsException" ["java/lang/IndexOutOfBoundsException", "java/lang/RuntimeException", "java/lang/Exception"]).all nbW = true := by decide +kernel
theorem at_aio_o : (vx_atM "java/lang/ArrayIndexOutOfBoundsException" ["java/lang/IndexOutOfBoundsException", "java/lang/RuntimeException", "java/lang/Exception"]).all vx_ot = true := by decide +kernel
theorem at_aio {args : Array Value} {s : State} (hts : ∀ w ∈ lw_all, w.before args s = true) (hx : XW s) : ∀ w ∈ vx_atM "java/lang/ArrayIndexOutOfBoundsException" ["java/lang/IndexOutOfBoundsException", "java/lang/RuntimeException", "java/lang/Exception"], w.before args s = true := fun w hw => tb_any hts hx (fm_mem at_aio_e hw) (List.all_eq_true.mp at_aio_g w hw)
set_option maxRecDepth 100000 in
theorem at_ast_e : vx_atM "java/lang/ArrayStoreException" ["java/lang/RuntimeException", "java/lang/Exception"] = [87, 381, 321, 343, 346, 348, 382, 383, 123, 124, 315, 320, 344, 351, 375, 352, 376, 353, 377, 316, 318, 378, 313, 314, 350, 378, 503, 504, 505, 307, 369, 307, 308, 309, 310, 371, 310, 311, 312, 313, 373, 91, 384, 385, 386, 388, 387, 389, 96, 502, 513, 514, 326, 508, 509, 511, 507, 380, 379, 506].filterMap (fun i => lw_tbl[i]?) := by rfl
theorem at_ast_g : (vx_atM "java/lang/ArrayStoreException" ["java/lang/RuntimeException", "java/lang/Exception"]).all nbW = true := by decide +kernel
theorem at_ast_o : (vx_atM "java/lang/ArrayStoreException" ["java/lang/RuntimeException", "java/lang/Exception"]).all vx_ot = true := by decide +kernel
theorem at_ast {args : Array Value} {s : State} (hts : ∀ w ∈ lw_all, w.before args s = true) (hx : XW s) : ∀ w ∈ vx_atM "java/lang/ArrayStoreException" ["java/lang/RuntimeException", "java/lang/Exception"], w.before args s = true := fun w hw => tb_any hts hx (fm_mem at_ast_e hw) (List.all_eq_true.mp at_ast_g w hw)
set_option maxRecDepth 100000 in
theorem at_cce_e : vx_atM "java/lang/ClassCastException" ["java/lang/RuntimeException", "java/lang/Exception"] = [87, 381, 321, 343, 346, 348, 382, 383, 123, 124, 315, 320, 344, 351, 375, 352, 376, 353, 377, 316, 318, 378, 313, 314, 350, 378, 610, 611, 612, 307, 369, 307, 308, 309, 310, 371, 310, 311, 312, 313, 373, 91, 384, 385, 386, 388, 387, 389, 104, 609, 620, 621, 327, 615, 616, 618, 614, 380, 379, 613].filterMap (fun i => lw_tbl[i]?) := by rfl
theorem at_cce_g : (vx_atM "java/lang/ClassCastException" ["java/lang/RuntimeException", "java/lang/Exception"]).all nbW = true := by decide +kernel
theorem at_cce_o : (vx_atM "java/lang/ClassCastException" ["java/lang/RuntimeException", "java/lang/Exception"]).all vx_ot = true := by decide +kernel
theorem at_cce {args : Array Value} {s : State} (hts : ∀ w ∈ lw_all, w.before args s = true) (hx : XW s) : ∀ w ∈ vx_atM "java/lang/ClassCastException" ["java/lang/RuntimeException", "java/lang/Exception"], w.before args s = true := fun w hw => tb_any hts hx (fm_mem at_cce_e hw) (List.all_eq_true.mp at_cce_g w hw)
section VMX
variable {p : Program} {l : Launch} {e : Env} {F1 mc1 ms1 : Nat} {s : State} {m : MethodId} {args : Array Value} {below : List Frame} {meth : Method} {c : Code} {H : Heap} {locs : List Loc} {cells slots : Nat} {Q : State → Prop} {cc : ByteArray} {pc nL1 : Nat} {ls : Array Slot} {rest : List Value} {E : En} {A : Nat → Prop} {ws : va_W}
theorem r_vm_neg (hexec : p.tables.exec = Jvm.exec) (hlt : l.stackTraces = false) (hml : c.maxLocals = nL1) (hts : ∀ w ∈ lw_all, w.before args s = true) (hK : KX E A s) (hI : wI E A s H locs ws) (hl : ls.size = nL1) (hlk : meth.locks = false) {text : String} {nb : Nat} (htext : (text == notModelled) = false) (hnb : (stringBytes (stringToUtf16 text)).size ≤ nb) (hnb1 : nb ≤ 1000) (hF : 105 ≤ F1) (hrest : (rest.map fun v => v.category).sum ≤ 8) (hcs : cells + 3 ≤ mc1 ∧ slots + (nb + 10) ≤ ms1)
    (k : ∀ (H1 : Heap) (q9 : Addr) (ce : Cell), wI E A s H1 locs ws → H1[q9]? = some ce → ce.vm = .none → s.vm.findClass "java/lang/NegativeArraySizeException" = some ce.cls → vx_W p l e (rmF F1 mc1 ms1) s m args below meth c H1 locs (cells + 3) (slots + (nb + 10)) Q (F0 m pc ls rest) q9) :
    vx_Note p l e (rmF F1 mc1 ms1) s m args below meth c H locs cells slots Q (F0 m pc ls rest) "java/lang/NegativeArraySizeException" text := by
  refine vx_vm (names := ["java/lang/RuntimeException", "java/lang/Exception"]) (nb := nb) hexec hlt (by decide +kernel) (by decide +kernel) (by decide +kernel) (by decide +kernel) (at_neg hts hK.xw) (fun w hw => List.all_eq_true.mp at_neg_o w hw) hK.2.2.2.2.2.1 hK.2.2.2.2.2.2.1 hI.2.2 (hl.trans hml.symm) htext hnb hnb1 (by show 2 + 4 < F1; omega) (by show _ + 10240 ≤ 100 * F1; omega) (by decide) hcs.1 hcs.2 hlk (fun H1 q9 ce _ h2 h3 h4 h5 h6 => ?_)
  exact k H1 q9 ce (hI.kept h2 h3) h4 h5 h6
theorem r_vm_aio (hexec : p.tables.exec = Jvm.exec) (hlt : l.stackTraces = false) (hml : c.maxLocals = nL1) (hts : ∀ w ∈ lw_all, w.before args s = true) (hK : KX E A s) (hI : wI E A s H locs ws) (hl : ls.size = nL1) (hlk : meth.locks = false) {text : String} {nb : Nat} (htext : (text == notModelled) = false) (hnb : (stringBytes (stringToUtf16 text)).size ≤ nb) (hnb1 : nb ≤ 1000) (hF : 105 ≤ F1) (hrest : (rest.map fun v => v.category).sum ≤ 8) (hcs : cells + 3 ≤ mc1 ∧ slots + (nb + 10) ≤ ms1)
    (k : ∀ (H1 : Heap) (q9 : Addr) (ce : Cell), wI E A s H1 locs ws → H1[q9]? = some ce → ce.vm = .none → s.vm.findClass "java/lang/ArrayIndexOutOfBoundsException" = some ce.cls → vx_W p l e (rmF F1 mc1 ms1) s m args below meth c H1 locs (cells + 3) (slots + (nb + 10)) Q (F0 m pc ls rest) q9) :
    vx_Note p l e (rmF F1 mc1 ms1) s m args below meth c H locs cells slots Q (F0 m pc ls rest) "java/lang/ArrayIndexOutOfBoundsException" text := by
  refine vx_vm (names := ["java/lang/IndexOutOfBoundsException", "java/lang/RuntimeException", "java/lang/Exception"]) (nb := nb) hexec hlt (by decide +kernel) (by decide +kernel) (by decide +kernel) (by decide +kernel) (at_aio hts hK.xw) (fun w hw => List.all_eq_true.mp at_aio_o w hw) hK.2.2.2.2.2.1 hK.2.2.2.2.2.2.1 hI.2.2 (hl.trans hml.symm) htext hnb hnb1 (by show 3 + 4 < F1; omega) (by show _ + 10240 ≤ 100 * F1; omega) (by decide) hcs.1 hcs.2 hlk (fun H1 q9 ce _ h2 h3 h4 h5 h6 => ?_)
  exact k H1 q9 ce (hI.kept h2 h3) h4 h5 h6
theorem r_vm_ast (hexec : p.tables.exec = Jvm.exec) (hlt : l.stackTraces = false) (hml : c.maxLocals = nL1) (hts : ∀ w ∈ lw_all, w.before args s = true) (hK : KX E A s) (hI : wI E A s H locs ws) (hl : ls.size = nL1) (hlk : meth.locks = false) {text : String} {nb : Nat} (htext : (text == notModelled) = false) (hnb : (stringBytes (stringToUtf16 text)).size ≤ nb) (hnb1 : nb ≤ 1000) (hF : 105 ≤ F1) (hrest : (rest.map fun v => v.category).sum ≤ 8) (hcs : cells + 3 ≤ mc1 ∧ slots + (nb + 10) ≤ ms1)
    (k : ∀ (H1 : Heap) (q9 : Addr) (ce : Cell), wI E A s H1 locs ws → H1[q9]? = some ce → ce.vm = .none → s.vm.findClass "java/lang/ArrayStoreException" = some ce.cls → vx_W p l e (rmF F1 mc1 ms1) s m args below meth c H1 locs (cells + 3) (slots + (nb + 10)) Q (F0 m pc ls rest) q9) :
    vx_Note p l e (rmF F1 mc1 ms1) s m args below meth c H locs cells slots Q (F0 m pc ls rest) "java/lang/ArrayStoreException" text := by
  refine vx_vm (names := ["java/lang/RuntimeException", "java/lang/Exception"]) (nb := nb) hexec hlt (by decide +kernel) (by decide +kernel) (by decide +kernel) (by decide +kernel) (at_ast hts hK.xw) (fun w hw => List.all_eq_true.mp at_ast_o w hw) hK.2.2.2.2.2.1 hK.2.2.2.2.2.2.1 hI.2.2 (hl.trans hml.symm) htext hnb hnb1 (by show 2 + 4 < F1; omega) (by show _ + 10240 ≤ 100 * F1; omega) (by decide) hcs.1 hcs.2 hlk (fun H1 q9 ce _ h2 h3 h4 h5 h6 => ?_)
  exact k H1 q9 ce (hI.kept h2 h3) h4 h5 h6
theorem r_vm_cce (hexec : p.tables.exec = Jvm.exec) (hlt : l.stackTraces = false) (hml : c.maxLocals = nL1) (hts : ∀ w ∈ lw_all, w.before args s = true) (hK : KX E A s) (hI : wI E A s H locs ws) (hl : ls.size = nL1) (hlk : meth.locks = false) {text : String} {nb : Nat} (htext : (text == notModelled) = false) (hnb : (stringBytes (stringToUtf16 text)).size ≤ nb) (hnb1 : nb ≤ 1000) (hF : 105 ≤ F1) (hrest : (rest.map fun v => v.category).sum ≤ 8) (hcs : cells + 3 ≤ mc1 ∧ slots + (nb + 10) ≤ ms1)
    (k : ∀ (H1 : Heap) (q9 : Addr) (ce : Cell), wI E A s H1 locs ws → H1[q9]? = some ce → ce.vm = .none → s.vm.findClass "java/lang/ClassCastException" = some ce.cls → vx_W p l e (rmF F1 mc1 ms1) s m args below meth c H1 locs (cells + 3) (slots + (nb + 10)) Q (F0 m pc ls rest) q9) :
    vx_Note p l e (rmF F1 mc1 ms1) s m args below meth c H locs cells slots Q (F0 m pc ls rest) "java/lang/ClassCastException" text := by
  refine vx_vm (names := ["java/lang/RuntimeException", "java/lang/Exception"]) (nb := nb) hexec hlt (by decide +kernel) (by decide +kernel) (by decide +kernel) (by decide +kernel) (at_cce hts hK.xw) (fun w hw => List.all_eq_true.mp at_cce_o w hw) hK.2.2.2.2.2.1 hK.2.2.2.2.2.2.1 hI.2.2 (hl.trans hml.symm) htext hnb hnb1 (by show 2 + 4 < F1; omega) (by show _ + 10240 ≤ 100 * F1; omega) (by decide) hcs.1 hcs.2 hlk (fun H1 q9 ce _ h2 h3 h4 h5 h6 => ?_)
  exact k H1 q9 ce (hI.kept h2 h3) h4 h5 h6
end VMX
/-- a thing that can be cast to a class, or can't -/
def iA (C nm : String) (b : Bool) (s : State) : Prop := ∃ c t : ClassId, s.vm.findClass C = some c ∧ s.vm.findClass nm = some t ∧ s.vm.assignable c t = b
def isA (s : State) (H : Heap) (a : Nat) (C : String) : Prop := ∃ cell : Cell, H[a]? = some cell ∧ cell.vm.isStatics = false ∧ s.vm.findClass C = some cell.cls
def isNC (a b : String) : Cond → Bool
  | .not (.castable x y) => x == a && y == b
  | _ => false
def ncB (a b : String) : Bool := (cLeaves narrow_1).any (isNC a b)
theorem iA.no {a b : String} {s : State} (h : XW s) (hb : ncB a b = true) : va_Nc a b s := by
  obtain ⟨c, hc, h2⟩ := List.any_eq_true.mp hb
  unfold isNC at h2
  split at h2
  · rw [Bool.and_eq_true, beq_iff_eq, beq_iff_eq] at h2
    obtain ⟨rfl, rfl⟩ := h2
    exact h.nocast hc
  · cases h2
theorem va_Nc.iA {a b : String} {s : State} (h : va_Nc a b s) : iA a b false s := h
theorem iA.yes {a b : String} {s : State} (h : XW s) (hw : Cond.castable a b ∈ lw_tbl) : iA a b true s := by
  have hc : (Cond.castable a b).before (#[] : Array Value) s = true := h.cast hw
  obtain ⟨c3, c4, h1, h2, h3⟩ := Cond.castable_spec hc
  exact ⟨c3, c4, h1, h2, h3⟩
theorem iA.rf {a : String} {s : State} {c : ClassId} (h : s.vm.findClass a = some c) : iA a a true s := ⟨c, c, h, h, va_asg _ _⟩
theorem isA.obj {E : En} {A : Nat → Prop} {s : State} {H : Heap} {locs : List Loc} {ws : va_W} (hK : KX E A s) (hI : wI E A s H locs ws) {q0 ci a : Nat} {q : vw_C} {fs : List Value} {nm : String} (hc : CL[ci]? = some q) (hn : q.1 = nm) (he : ws[q0]? = some (a, .inr (ci, fs))) : isA s H a nm := by
  subst hn
  exact va_recv hK.1 hI.1 hc he
theorem arr_nm {E : En} {A : Nat → Prop} {s : State} (hK : KX E A s) {t0 : Nat} {cA : ClassId} {ty : FieldType} {nm : String} (ht : (TY E)[t0]? = some (cA, ty)) (hp : va_RA s cA ty → s.vm.findClass ("[" ++ ty.toString) = some cA) (hn : "[" ++ ty.toString = nm) : s.vm.findClass nm = some cA := by
  subst hn
  exact hp (hK.1.2 t0 _ ht).2
theorem isA.arr {E : En} {A : Nat → Prop} {s : State} {H : Heap} {locs : List Loc} {ws : va_W} (hI : wI E A s H locs ws) {q0 a : Nat} {cA : ClassId} {x : vp_A} {nm : String} (he : ws[q0]? = some (a, .inl (cA, x))) (hn : s.vm.findClass nm = some cA) : isA s H a nm := by
  refine ⟨vp_cell cA x, hI.1 q0 _ he, ?_, ?_⟩
  · obtain ⟨n, f | f | f | f | f⟩ := x <;> rfl
  · rw [show (vp_cell cA x).cls = cA by obtain ⟨n, f | f | f | f | f⟩ := x <;> rfl]; exact hn
section CAST
variable {p : Program} {l : Launch} {e : Env} {R : Room} {s : State} {m : MethodId} {args : Array Value} {below : List Frame} {meth : Method} {c : Code} {H : Heap} {locs : List Loc} {cells slots : Nat} {Q : State → Prop} {cc : ByteArray} {pc : Nat} {ls : Array Slot} {rest : List Value} {own C nm : String} {index a : Nat}
theorem r_instT (hexec : p.tables.exec = Jvm.exec) (hb : c.code = cc) (hts : ∀ w ∈ lw_all, w.before args s = true) (hown : s.vm.findClass own = some m.cls) (hlink : Cond.classLink own index nm ∈ lw_all) (hc : iA C nm true s) (hr : isA s H a C) (hdg : decode cc pc = .ok (.instanceof index, 3)) (k : W p l e R s m args below meth c H locs cells slots Q (F0 m (pc + 3) ls (.int 1 :: rest))) : W p l e R s m args below meth c H locs cells slots Q (F0 m pc ls (.ref a :: rest)) := by
  obtain ⟨cell, h1, h2, h3⟩ := hr
  obtain ⟨c1, t1, g1, g2, g3⟩ := hc
  cases h3.symm.trans g1
  intro T hT X
  obtain ⟨vm', X', st⟩ := X.instanceofYes hexec hown (hts _ hlink) (by rw [hT]; exact h1) h2 g2 g3 (g := F0 m pc ls (.ref a :: rest)) rfl rfl (by rw [hb]; exact hdg)
  obtain ⟨t, a1, b1⟩ := k (T.setVm vm') hT X'
  exact ⟨t, st t a1, b1⟩
theorem r_instF (hexec : p.tables.exec = Jvm.exec) (hb : c.code = cc) (hts : ∀ w ∈ lw_all, w.before args s = true) (hown : s.vm.findClass own = some m.cls) (hlink : Cond.classLink own index nm ∈ lw_all) (hc : iA C nm false s) (hr : isA s H a C) (hdg : decode cc pc = .ok (.instanceof index, 3)) (k : W p l e R s m args below meth c H locs cells slots Q (F0 m (pc + 3) ls (.int 0 :: rest))) : W p l e R s m args below meth c H locs cells slots Q (F0 m pc ls (.ref a :: rest)) :=
  va_instNo (C := C) hexec hb hown (hts _ hlink) hc hr hdg k
theorem r_castT (hexec : p.tables.exec = Jvm.exec) (hb : c.code = cc) (hts : ∀ w ∈ lw_all, w.before args s = true) (hown : s.vm.findClass own = some m.cls) (hlink : Cond.classLink own index nm ∈ lw_all) (hc : iA C nm true s) (hr : isA s H a C) (hdg : decode cc pc = .ok (.checkcast index, 3)) (k : W p l e R s m args below meth c H locs cells slots Q (F0 m (pc + 3) ls (.ref a :: rest))) : W p l e R s m args below meth c H locs cells slots Q (F0 m pc ls (.ref a :: rest)) := by
  obtain ⟨cell, h1, h2, h3⟩ := hr
  obtain ⟨c1, t1, g1, g2, g3⟩ := hc
  cases h3.symm.trans g1
  intro T hT X
  obtain ⟨vm', X', st⟩ := X.checkcastYes hexec hown (hts _ hlink) (by rw [hT]; exact h1) h2 g2 g3 (g := F0 m pc ls (.ref a :: rest)) rfl rfl (by rw [hb]; exact hdg)
  obtain ⟨t, a1, b1⟩ := k (T.setVm vm') hT X'
  exact ⟨t, st t a1, b1⟩
end CAST
section CATCH
variable {p : Program} {l : Launch} {e : Env} {R : Room} {s : State} {m : MethodId} {args : Array Value} {below : List Frame} {meth : Method} {c : Code} {H : Heap} {locs : List Loc} {cells slots : Nat} {Q : State → Prop} {pc : Nat} {ls : Array Slot} {rest : List Value} {own En nm : String} {hh : List (Nat × Nat × Nat × Nat)} {ce : Cell} {q : Nat}
theorem r_catch (i : Nat) (x : ExceptionTableEntry) (hown : s.vm.findClass own = some m.cls) (hts : ∀ w ∈ lw_all, w.before args s = true) (hx0 : XW s) (htab : c.exceptionTable.toList = tableOf hh) (hx : (tableOf hh)[i]? = some x)
    (hpass : ∀ z ∈ (tableOf hh).take i, covers z pc = false ∨ (z.catchType ≠ 0 ∧ ∃ nm : String, (Cond.classLink own z.catchType nm).before args s = true ∧ va_Nc En nm s)) (hcv : covers x pc = true) (h0 : x.catchType ≠ 0) (hlink : Cond.classLink own x.catchType nm ∈ lw_all) (hcast : Cond.castable En nm ∈ lw_tbl)
    (hq1 : H[q]? = some ce) (hq2 : ce.vm = .none) (hq3 : s.vm.findClass En = some ce.cls) (kk : W p l e R s m args below meth c H locs cells slots Q (F0 m x.handlerPc ls [.ref q])) : vx_W p l e R s m args below meth c H locs cells slots Q (F0 m pc ls rest) q := by
  refine vx_catch (E := En) (name := nm) hown ((tableOf hh).take i) x ((tableOf hh).drop (i + 1)) ?_ hpass hcv h0 (hts _ hlink) (va_Nw.use rfl (hx0.cast hcast)) hq1 hq2 hq3 kk
  rw [htab]
  obtain ⟨hi, e⟩ := List.getElem?_eq_some_iff.mp hx
  rw [← e, ← List.drop_eq_getElem_cons hi, List.take_append_drop]
end CATCH
