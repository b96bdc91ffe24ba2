/-! ROWS over wI, contracts and calls (printed by gen/mkrows.py) -/
def clsOk (C : String) (T : u_T) (N : Nat) (ty : Nat → FieldType) : Prop := (∀ w ∈ u_ws C T N, w ∈ lw_all) ∧ (∀ k, k < N → parseFieldDescriptor (T k).2.2.1 = some (ty k)) ∧ ∀ a, a < N → ∀ b, b < N → a ≠ b → (T a).2.1 ≠ (T b).2.1
theorem okX0 : clsOk RX0 TX0 11 tyX0 := ⟨in_X0, tyX0_ok, nmX0⟩
theorem okX1 : clsOk RX1 TX1 10 tyX1 := ⟨in_X1, tyX1_ok, nmX1⟩
theorem okX2 : clsOk RX2 TX2 8 tyX2 := ⟨in_X2, tyX2_ok, nmX2⟩
theorem okX3 : clsOk RX3 TX3 7 tyX3 := ⟨in_X3, tyX3_ok, nmX3⟩
theorem okX4 : clsOk RX4 TX4 1 tyX4 := ⟨in_X4, tyX4_ok, nmX4⟩
theorem okX5 : clsOk RX5 TX5 45 tyX5 := ⟨in_X5, tyX5_ok, nmX5⟩
theorem okX6 : clsOk RX6 TX6 7 tyX6 := ⟨in_X6, tyX6_ok, nmX6⟩
theorem okX8 : clsOk RX8 TX8 1 tyX8 := ⟨in_X8, tyX8_ok, nmX8⟩
theorem okX9 : clsOk RX9 TX9 1 tyX9 := ⟨in_X9, tyX9_ok, nmX9⟩
theorem okX10 : clsOk RX10 TX10 1 tyX10 := ⟨in_X10, tyX10_ok, nmX10⟩
theorem okX11 : clsOk RX11 TX11 1 tyX11 := ⟨in_X11, tyX11_ok, nmX11⟩
theorem okX12 : clsOk RX12 TX12 1 tyX12 := ⟨in_X12, tyX12_ok, nmX12⟩
theorem okX13 : clsOk RX13 TX13 7 tyX13 := ⟨in_X13, tyX13_ok, nmX13⟩
theorem okX14 : clsOk RX14 TX14 7 tyX14 := ⟨in_X14, tyX14_ok, nmX14⟩
theorem okX15 : clsOk RX15 TX15 6 tyX15 := ⟨in_X15, tyX15_ok, nmX15⟩
theorem okJ4 : clsOk RJ4 TJ4 4 tyJ4 := ⟨in_J4, tyJ4_ok, nmJ4⟩
theorem okJ13 : clsOk RJ13 TJ13 4 tyJ13 := ⟨in_J13, tyJ13_ok, nmJ13⟩
section RW
variable {p : Program} {l : Launch} {e : Env} {R : Room} {s : State} {m : MethodId} {args : Array Value} {below : List Frame} {meth : Method} {c : Code} {H : Heap} {locs : List Loc} {cells slots : Nat} {Q : State → Prop} {cc : ByteArray} {pc : Nat} {ls : Array Slot} {rest : List Value} {E : En} {A : Nat → Prop} {ws ws1 : va_W} {a : Nat}
theorem r_get (hexec : p.tables.exec = Jvm.exec) (hb : c.code = cc) {own ref C : String} {T : u_T} {N ci index : Nat} {ty0 : Nat → FieldType} (hts : ∀ w ∈ lw_all, w.before args s = true) (hown : s.vm.findClass own = some m.cls) (hK : KX E A s) (hI : wI E A s H locs ws) (ok : clsOk C T N ty0) (hc : CL[ci]? = some (C, T, N)) (q0 : Nat) {fs : List Value} (he : ws[q0]? = some (a, .inr (ci, fs))) (k : Nat) (hk : k < N) (hlink : Cond.fieldLink own index ref (T k).2.1 (T k).2.2.1 ∈ lw_all) (href : (T k).1 = ref) {v : Value} (hv : fs[k]? = some v) (hdg : decode cc pc = .ok (.getfield index, 3))
    (kk : W p l e R s m args below meth c H locs cells slots Q (F0 m (pc + 3) ls (v :: rest))) : W p l e R s m args below meth c H locs cells slots Q (F0 m pc ls (.ref a :: rest)) :=
  va_get hexec hb hts ok.1 hown hK.1 hI.1 q0 he hc k hk (hts _ hlink) (fun _ h => by rw [← href]; exact h) hv hdg kk
theorem r_put (hexec : p.tables.exec = Jvm.exec) (hb : c.code = cc) {own ref C : String} {T : u_T} {N ci index : Nat} {ty0 : Nat → FieldType} (hts : ∀ w ∈ lw_all, w.before args s = true) (hown : s.vm.findClass own = some m.cls) (hK : KX E A s) (hI : wI E A s H locs ws) (ok : clsOk C T N ty0) (hc : CL[ci]? = some (C, T, N)) (q0 : Nat) {fs : List Value} (he : ws[q0]? = some (a, .inr (ci, fs))) (k : Nat) (hk : k < N) (hlink : Cond.fieldLink own index ref (T k).2.1 (T k).2.2.1 ∈ lw_all) (href : (T k).1 = ref) (hfin : (T k).2.2.2 = false) {v : Value} (hn : narrow (ty0 k) v = v) (hfit : fits (ty0 k) v = true) (hl : k < fs.length)
    (hw : ws.set q0 (a, .inr (ci, fs.set k v)) = ws1) (hdg : decode cc pc = .ok (.putfield index, 3)) (kk : ∀ (H1 : Heap) (locs1 : List Loc), wI E A s H1 locs1 ws1 → W p l e R s m args below meth c H1 locs1 cells slots Q (F0 m (pc + 3) ls rest)) : W p l e R s m args below meth c H locs cells slots Q (F0 m pc ls (v :: .ref a :: rest)) := by
  subst hw
  exact va_put (ty := ty0 k) hexec hb hts ok.1 ty0 ok.2.1 ok.2.2 hown hK.1 hI.1 hI.2.1 hI.2.2 q0 he hc k hk (hts _ hlink) (fun _ h => by rw [← href]; exact h) hfin (ok.2.1 k hk) hn hfit hl hdg (fun H1 locs1 h1 h2 h3 => kk H1 locs1 ⟨h1, h2, h3⟩)
theorem r_putF (hexec : p.tables.exec = Jvm.exec) (hb : c.code = cc) {own ref C : String} {T : u_T} {N ci index : Nat} {ty0 : Nat → FieldType} (hts : ∀ w ∈ lw_all, w.before args s = true) (hown : s.vm.findClass own = some m.cls) (hK : KX E A s) (hI : wI E A s H locs ws) (ok : clsOk C T N ty0) (hc : CL[ci]? = some (C, T, N)) (q0 : Nat) {fs : List Value} (he : ws[q0]? = some (a, .inr (ci, fs))) (k : Nat) (hk : k < N) (hlink : Cond.fieldLink own index ref (T k).2.1 (T k).2.2.1 ∈ lw_all) (href : (T k).1 = ref) (hfin : (T k).2.2.2 = true) (hin2 : meth.name = "<init>") (hdecl : (T k).1 = own) {v : Value} (hn : narrow (ty0 k) v = v) (hfit : fits (ty0 k) v = true) (hl : k < fs.length)
    (hw : ws.set q0 (a, .inr (ci, fs.set k v)) = ws1) (hdg : decode cc pc = .ok (.putfield index, 3)) (kk : ∀ (H1 : Heap) (locs1 : List Loc), wI E A s H1 locs1 ws1 → W p l e R s m args below meth c H1 locs1 cells slots Q (F0 m (pc + 3) ls rest)) : W p l e R s m args below meth c H locs cells slots Q (F0 m pc ls (v :: .ref a :: rest)) := by
  subst hw
  exact va_putF (ty := ty0 k) hexec hb hts ok.1 ty0 ok.2.1 ok.2.2 hown hK.1 hI.1 hI.2.1 hI.2.2 q0 he hc k hk (hts _ hlink) (fun _ h => by rw [← href]; exact h) hfin hin2 hdecl (ok.2.1 k hk) hn hfit hl hdg (fun H1 locs1 h1 h2 h3 => kk H1 locs1 ⟨h1, h2, h3⟩)
theorem r_iald (hexec : p.tables.exec = Jvm.exec) (hb : c.code = cc) (hK : KX E A s) (hI : wI E A s H locs ws) (q0 : Nat) {n J : Nat} {f : Nat → Int32} {v : Int32} (he : ws[q0]? = some (a, .inl (E.2 0, n, .inl f))) (hJ : J < n) (hn : n < 2 ^ 31) (hv : f J = v) (hdg : decode cc pc = .ok (.iaload, 1))
    (kk : W p l e R s m args below meth c H locs cells slots Q (F0 m (pc + 1) ls (.int v :: rest))) : W p l e R s m args below meth c H locs cells slots Q (F0 m pc ls (.int (nI J) :: .ref a :: rest)) := by
  refine va_iald hexec hb hK.1 hI.1 q0 0 he rfl (vp_in_nI hJ hn) hdg ?_
  rw [nI_clamp (Nat.lt_trans hJ hn), hv]
  exact kk
theorem r_iast (hexec : p.tables.exec = Jvm.exec) (hb : c.code = cc) (hK : KX E A s) (hI : wI E A s H locs ws) (q0 : Nat) {n J : Nat} {f : Nat → Int32} {x : Int32} (he : ws[q0]? = some (a, .inl (E.2 0, n, .inl f))) (hJ : J < n) (hn : n < 2 ^ 31) (hw : ws.set q0 (a, .inl (E.2 0, n, .inl (va_up f J x))) = ws1) (hdg : decode cc pc = .ok (.iastore, 1))
    (kk : ∀ (H1 : Heap) (locs1 : List Loc), wI E A s H1 locs1 ws1 → W p l e R s m args below meth c H1 locs1 cells slots Q (F0 m (pc + 1) ls rest)) : W p l e R s m args below meth c H locs cells slots Q (F0 m pc ls (.int x :: .int (nI J) :: .ref a :: rest)) := by
  subst hw
  refine va_iast hexec hb hK.1 hI.1 hI.2.1 hI.2.2 q0 0 he rfl (vp_in_nI hJ hn) hdg (fun H1 locs1 h1 h2 h3 => ?_)
  rw [nI_clamp (Nat.lt_trans hJ hn)] at h1 h2
  exact kk H1 locs1 ⟨h1, h2, h3⟩
theorem r_lald (hexec : p.tables.exec = Jvm.exec) (hb : c.code = cc) (hK : KX E A s) (hI : wI E A s H locs ws) (q0 : Nat) {n J : Nat} {f : Nat → Int64} {v : Int64} (he : ws[q0]? = some (a, .inl (E.2 1, n, .inr (.inl f)))) (hJ : J < n) (hn : n < 2 ^ 31) (hv : f J = v) (hdg : decode cc pc = .ok (.laload, 1))
    (kk : W p l e R s m args below meth c H locs cells slots Q (F0 m (pc + 1) ls (.long v :: rest))) : W p l e R s m args below meth c H locs cells slots Q (F0 m pc ls (.int (nI J) :: .ref a :: rest)) := by
  refine va_lald hexec hb hK.1 hI.1 q0 1 he rfl (vp_in_nI hJ hn) hdg ?_
  rw [nI_clamp (Nat.lt_trans hJ hn), hv]
  exact kk
theorem r_last (hexec : p.tables.exec = Jvm.exec) (hb : c.code = cc) (hK : KX E A s) (hI : wI E A s H locs ws) (q0 : Nat) {n J : Nat} {f : Nat → Int64} {x : Int64} (he : ws[q0]? = some (a, .inl (E.2 1, n, .inr (.inl f)))) (hJ : J < n) (hn : n < 2 ^ 31) (hw : ws.set q0 (a, .inl (E.2 1, n, .inr (.inl (va_up f J x)))) = ws1) (hdg : decode cc pc = .ok (.lastore, 1))
    (kk : ∀ (H1 : Heap) (locs1 : List Loc), wI E A s H1 locs1 ws1 → W p l e R s m args below meth c H1 locs1 cells slots Q (F0 m (pc + 1) ls rest)) : W p l e R s m args below meth c H locs cells slots Q (F0 m pc ls (.long x :: .int (nI J) :: .ref a :: rest)) := by
  subst hw
  refine va_last hexec hb hK.1 hI.1 hI.2.1 hI.2.2 q0 1 he rfl (vp_in_nI hJ hn) hdg (fun H1 locs1 h1 h2 h3 => ?_)
  rw [nI_clamp (Nat.lt_trans hJ hn)] at h1 h2
  exact kk H1 locs1 ⟨h1, h2, h3⟩
theorem r_aald (hexec : p.tables.exec = Jvm.exec) (hb : c.code = cc) (hK : KX E A s) (hI : wI E A s H locs ws) (q0 t0 : Nat) {n J : Nat} {cA : ClassId} {ty : FieldType} {f : Nat → Option Nat} {r : Nat} (ht : (TY E)[t0]? = some (cA, ty)) (hty : ty.isReference = true) (he : ws[q0]? = some (a, .inl (cA, n, .inr (.inr (.inr (.inr f)))))) (hJ : J < n) (hn : n < 2 ^ 31) (hv : f J = some r) (hdg : decode cc pc = .ok (.aaload, 1))
    (kk : W p l e R s m args below meth c H locs cells slots Q (F0 m (pc + 1) ls (.ref r :: rest))) : W p l e R s m args below meth c H locs cells slots Q (F0 m pc ls (.int (nI J) :: .ref a :: rest)) := by
  refine W.aald (v := .ref r) (ty := ty) hexec hb (hI.1 q0 _ he) ((hK.1.2 t0 _ ht).1 n (fun j => va_rf (f j))) hty (fun q => by cases q) (by show ¬ (_ < 0 ∨ (arrV _ _ _).slots.size ≤ _); rw [arrV_size]; exact vp_in_nI hJ hn) ?_ rfl rfl hdg kk
  show (arrV _ _ _).slots[_]? = _
  rw [nI_clamp (Nat.lt_trans hJ hn), arrV_read _ _ hJ, hv]
  rfl
theorem r_alen (hexec : p.tables.exec = Jvm.exec) (hb : c.code = cc) (hK : KX E A s) (hI : wI E A s H locs ws) (q0 t0 : Nat) {cA : ClassId} {x : vp_A} {ty : FieldType} {v : Int32} (ht : (TY E)[t0]? = some (cA, ty)) (he : ws[q0]? = some (a, .inl (cA, x))) (hv : nI x.1 = v) (hdg : decode cc pc = .ok (.arraylength, 1))
    (kk : W p l e R s m args below meth c H locs cells slots Q (F0 m (pc + 1) ls (.int v :: rest))) : W p l e R s m args below meth c H locs cells slots Q (F0 m pc ls (.ref a :: rest)) :=
  va_alen hexec hb hK.1 hI.1 q0 t0 he ht hv hdg kk
end RW
/-- contract, answer kind I: from the world ws at any place, the call returns with post, its world ws1 -/
def CtI (l : Launch) (E : En) (y : MethodName) (cc : ByteArray) (nL : Nat) (ret : FieldType) (F mc ms : Nat) (av : List Value) (ws : va_W) {S : Type} (post : Int32 → S → Prop) (ws1 : S → va_W) : Prop :=
  ∀ sz : Nat, Met l y (ws_ y cc nL (some ret)) (rmF F mc ms) (va_Pc av (mPre E sz ws)) (va_Qi post (fun u t => wB E (va_A ws sz) (ws1 u) t) (va_A ws sz)) mc ms (va_A ws sz)
theorem CtI.of {l : Launch} {E : En} {y : MethodName} {cc : ByteArray} {nL : Nat} {ret : FieldType} {F mc ms : Nat} {av : List Value} {ws : va_W} {S : Type} {post : Int32 → S → Prop} {ws1 : S → va_W} (hy : plainName y.cls = true) (hent : (lg_sl av).length ≤ nL) 
    (body : ∀ (p : Program) (e : Env) (s : State) (m : MethodId) (args : Array Value) (below : List Frame) (meth : Method) (c : Code) (A : Nat → Prop) (ls : Array Slot) (Q : State → Prop), p.tables.exec = Jvm.exec → c.code = cc → c.maxLocals = nL → (∀ w ∈ lw_all, w.before args s = true) → s.vm.findClass y.cls = some m.cls → meth.locks = false → meth.name = y.name → (∀ q, s.heap.size ≤ q → A q) → KX E A s → wI E A s s.heap [] ws → lv_has ls nL (lv_args 0 av) →
      (∀ (u : S) (v : Int32) (H : Heap) (locs : List Loc) (cells slots pc : Nat) (ls : Array Slot), decode cc pc = .ok (.ireturn, 1) → wI E A s H locs (ws1 u) → post v u → cells ≤ mc → slots ≤ ms → narrow ret (.int v) = .int v → W p l e (rmF F mc ms) s m args below meth c H locs cells slots Q (F0 m pc ls [.int v])) →
      W p l e (rmF F mc ms) s m args below meth c s.heap [] 0 0 Q (F0 m 0 ls [])) : CtI l E y cc nL ret F mc ms av ws post ws1 := by
  intro sz
  refine Met.ofW (cc := cc) (maxL := nL) (ret := (some ret)) hy rfl ?_
  intro p e s m args below meth c s₁ B hml hv
  obtain ⟨rfl, hsz, hP, hK, hD0⟩ := hv
  have hts := atoms_spec (ws := ws_ y cc nL (some ret)) B.pre
  have hts : ∀ w ∈ lw_all, w.before _ s = true := fun w h => hts w (List.mem_cons_of_mem _ h)
  subst hsz
  have hl := lv_entry av (n := nL) hent
  rw [lg_entry_eq]
  refine body p e s m av.toArray below meth c (va_A ws s.heap.size) _ _ B.exec B.bytes hml hts (findClass_of_methodNamed B.named) B.notSynchronized (name_of_methodNamed B.named B.method).1 (fun q h => Or.inr h) hK ⟨hP, hD0.self, va_S.rf⟩ hl ?_
  intro u v H locs cells slots pc ls hdg hI hq hc hs hn
  refine W.widen (k := mc) (n := ms) hc hs ?_
  exact W.zret (v := v) B.exec B.bytes B.returns hn (fun t ht hW => ⟨⟨v, u, rfl, hq, by show va_P _ _ _ t.heap ∧ _; rw [ht]; exact ⟨hI.1, hI.2.1⟩⟩, hI.2.2.F ht⟩) hI.2.2.2.2 hdg B.notSynchronized
/-- contract, answer kind L: from the world ws at any place, the call returns with post, its world ws1 -/
def CtL (l : Launch) (E : En) (y : MethodName) (cc : ByteArray) (nL : Nat) (F mc ms : Nat) (av : List Value) (ws : va_W) {S : Type} (post : Int64 → S → Prop) (ws1 : S → va_W) : Prop :=
  ∀ sz : Nat, Met l y (ws_ y cc nL (some .long)) (rmF F mc ms) (va_Pc av (mPre E sz ws)) (va_Ql post (fun u t => wB E (va_A ws sz) (ws1 u) t) (va_A ws sz)) mc ms (va_A ws sz)
theorem CtL.of {l : Launch} {E : En} {y : MethodName} {cc : ByteArray} {nL : Nat} {F mc ms : Nat} {av : List Value} {ws : va_W} {S : Type} {post : Int64 → S → Prop} {ws1 : S → va_W} (hy : plainName y.cls = true) (hent : (lg_sl av).length ≤ nL) 
    (body : ∀ (p : Program) (e : Env) (s : State) (m : MethodId) (args : Array Value) (below : List Frame) (meth : Method) (c : Code) (A : Nat → Prop) (ls : Array Slot) (Q : State → Prop), p.tables.exec = Jvm.exec → c.code = cc → c.maxLocals = nL → (∀ w ∈ lw_all, w.before args s = true) → s.vm.findClass y.cls = some m.cls → meth.locks = false → meth.name = y.name → (∀ q, s.heap.size ≤ q → A q) → KX E A s → wI E A s s.heap [] ws → lv_has ls nL (lv_args 0 av) →
      (∀ (u : S) (v : Int64) (H : Heap) (locs : List Loc) (cells slots pc : Nat) (ls : Array Slot), decode cc pc = .ok (.lreturn, 1) → wI E A s H locs (ws1 u) → post v u → cells ≤ mc → slots ≤ ms → W p l e (rmF F mc ms) s m args below meth c H locs cells slots Q (F0 m pc ls [.long v])) →
      W p l e (rmF F mc ms) s m args below meth c s.heap [] 0 0 Q (F0 m 0 ls [])) : CtL l E y cc nL F mc ms av ws post ws1 := by
  intro sz
  refine Met.ofW (cc := cc) (maxL := nL) (ret := (some .long)) hy rfl ?_
  intro p e s m args below meth c s₁ B hml hv
  obtain ⟨rfl, hsz, hP, hK, hD0⟩ := hv
  have hts := atoms_spec (ws := ws_ y cc nL (some .long)) B.pre
  have hts : ∀ w ∈ lw_all, w.before _ s = true := fun w h => hts w (List.mem_cons_of_mem _ h)
  subst hsz
  have hl := lv_entry av (n := nL) hent
  rw [lg_entry_eq]
  refine body p e s m av.toArray below meth c (va_A ws s.heap.size) _ _ B.exec B.bytes hml hts (findClass_of_methodNamed B.named) B.notSynchronized (name_of_methodNamed B.named B.method).1 (fun q h => Or.inr h) hK ⟨hP, hD0.self, va_S.rf⟩ hl ?_
  intro u v H locs cells slots pc ls hdg hI hq hc hs
  refine W.widen (k := mc) (n := ms) hc hs ?_
  exact W.lret (v := v) B.exec B.bytes B.returns (fun t ht hW => ⟨⟨v, u, rfl, hq, by show va_P _ _ _ t.heap ∧ _; rw [ht]; exact ⟨hI.1, hI.2.1⟩⟩, hI.2.2.F ht⟩) hI.2.2.2.2 hdg B.notSynchronized
/-- contract, answer kind V: from the world ws at any place, the call returns with post, its world ws1 -/
def CtV (l : Launch) (E : En) (y : MethodName) (cc : ByteArray) (nL : Nat) (F mc ms : Nat) (av : List Value) (ws : va_W) {S : Type} (post : S → Prop) (ws1 : S → va_W) : Prop :=
  ∀ sz : Nat, Met l y (ws_ y cc nL none) (rmF F mc ms) (va_Pc av (mPre E sz ws)) (va_Qv post (fun u t => wB E (va_A ws sz) (ws1 u) t) (va_A ws sz)) mc ms (va_A ws sz)
theorem CtV.of {l : Launch} {E : En} {y : MethodName} {cc : ByteArray} {nL : Nat} {F mc ms : Nat} {av : List Value} {ws : va_W} {S : Type} {post : S → Prop} {ws1 : S → va_W} (hy : plainName y.cls = true) (hent : (lg_sl av).length ≤ nL) 
    (body : ∀ (p : Program) (e : Env) (s : State) (m : MethodId) (args : Array Value) (below : List Frame) (meth : Method) (c : Code) (A : Nat → Prop) (ls : Array Slot) (Q : State → Prop), p.tables.exec = Jvm.exec → c.code = cc → c.maxLocals = nL → (∀ w ∈ lw_all, w.before args s = true) → s.vm.findClass y.cls = some m.cls → meth.locks = false → meth.name = y.name → (∀ q, s.heap.size ≤ q → A q) → KX E A s → wI E A s s.heap [] ws → lv_has ls nL (lv_args 0 av) →
      (∀ (u : S) (H : Heap) (locs : List Loc) (cells slots pc : Nat) (ls : Array Slot), decode cc pc = .ok (.return_, 1) → wI E A s H locs (ws1 u) → post u → cells ≤ mc → slots ≤ ms → W p l e (rmF F mc ms) s m args below meth c H locs cells slots Q (F0 m pc ls [])) →
      W p l e (rmF F mc ms) s m args below meth c s.heap [] 0 0 Q (F0 m 0 ls [])) : CtV l E y cc nL F mc ms av ws post ws1 := by
  intro sz
  refine Met.ofW (cc := cc) (maxL := nL) (ret := none) hy rfl ?_
  intro p e s m args below meth c s₁ B hml hv
  obtain ⟨rfl, hsz, hP, hK, hD0⟩ := hv
  have hts := atoms_spec (ws := ws_ y cc nL none) B.pre
  have hts : ∀ w ∈ lw_all, w.before _ s = true := fun w h => hts w (List.mem_cons_of_mem _ h)
  subst hsz
  have hl := lv_entry av (n := nL) hent
  rw [lg_entry_eq]
  refine body p e s m av.toArray below meth c (va_A ws s.heap.size) _ _ B.exec B.bytes hml hts (findClass_of_methodNamed B.named) B.notSynchronized (name_of_methodNamed B.named B.method).1 (fun q h => Or.inr h) hK ⟨hP, hD0.self, va_S.rf⟩ hl ?_
  intro u H locs cells slots pc ls hdg hI hq hc hs
  refine W.widen (k := mc) (n := ms) hc hs ?_
  exact W.vret B.exec B.bytes B.returns (fun t ht hW => ⟨⟨u, rfl, hq, by show va_P _ _ _ t.heap ∧ _; rw [ht]; exact ⟨hI.1, hI.2.1⟩⟩, hI.2.2.F ht⟩) hI.2.2.2.2 hdg B.notSynchronized
/-- contract, answer kind R: from the world ws at any place, the call returns with post, its world ws1 -/
def CtR (l : Launch) (E : En) (y : MethodName) (cc : ByteArray) (nL : Nat) (ret : FieldType) (F mc ms : Nat) (av : List Value) (ws : va_W) {S : Type} (post : S → Prop) (ws1 : S → Nat → va_W) : Prop :=
  ∀ sz : Nat, Met l y (ws_ y cc nL (some ret)) (rmF F mc ms) (va_Pc av (mPre E sz ws)) (va_Qr post (fun u a t => wB E (va_A ws sz) (ws1 u a) t) (va_A ws sz)) mc ms (va_A ws sz)
theorem CtR.of {l : Launch} {E : En} {y : MethodName} {cc : ByteArray} {nL : Nat} {ret : FieldType} {F mc ms : Nat} {av : List Value} {ws : va_W} {S : Type} {post : S → Prop} {ws1 : S → Nat → va_W} (hy : plainName y.cls = true) (hent : (lg_sl av).length ≤ nL) (hrt : (∃ n, ret = .object n) ∨ ∃ t, ret = .array t) 
    (body : ∀ (p : Program) (e : Env) (s : State) (m : MethodId) (args : Array Value) (below : List Frame) (meth : Method) (c : Code) (A : Nat → Prop) (ls : Array Slot) (Q : State → Prop), p.tables.exec = Jvm.exec → c.code = cc → c.maxLocals = nL → (∀ w ∈ lw_all, w.before args s = true) → s.vm.findClass y.cls = some m.cls → meth.locks = false → meth.name = y.name → (∀ q, s.heap.size ≤ q → A q) → KX E A s → wI E A s s.heap [] ws → lv_has ls nL (lv_args 0 av) →
      (∀ (u : S) (b : Nat) (H : Heap) (locs : List Loc) (cells slots pc : Nat) (ls : Array Slot), decode cc pc = .ok (.areturn, 1) → wI E A s H locs (ws1 u b) → post u → cells ≤ mc → slots ≤ ms → W p l e (rmF F mc ms) s m args below meth c H locs cells slots Q (F0 m pc ls [.ref b])) →
      W p l e (rmF F mc ms) s m args below meth c s.heap [] 0 0 Q (F0 m 0 ls [])) : CtR l E y cc nL ret F mc ms av ws post ws1 := by
  intro sz
  refine Met.ofW (cc := cc) (maxL := nL) (ret := (some ret)) hy rfl ?_
  intro p e s m args below meth c s₁ B hml hv
  obtain ⟨rfl, hsz, hP, hK, hD0⟩ := hv
  have hts := atoms_spec (ws := ws_ y cc nL (some ret)) B.pre
  have hts : ∀ w ∈ lw_all, w.before _ s = true := fun w h => hts w (List.mem_cons_of_mem _ h)
  subst hsz
  have hl := lv_entry av (n := nL) hent
  rw [lg_entry_eq]
  refine body p e s m av.toArray below meth c (va_A ws s.heap.size) _ _ B.exec B.bytes hml hts (findClass_of_methodNamed B.named) B.notSynchronized (name_of_methodNamed B.named B.method).1 (fun q h => Or.inr h) hK ⟨hP, hD0.self, va_S.rf⟩ hl ?_
  intro u b H locs cells slots pc ls hdg hI hq hc hs
  refine W.widen (k := mc) (n := ms) hc hs ?_
  exact W.aret (v := .ref b) B.exec B.bytes B.returns hrt (Or.inr ⟨b, rfl⟩) (fun t ht hW => ⟨⟨u, b, rfl, hq, by show va_P _ _ _ t.heap ∧ _; rw [ht]; exact ⟨hI.1, hI.2.1⟩⟩, hI.2.2.F ht⟩) hI.2.2.2.2 hdg B.notSynchronized
section CL
variable {p : Program} {l : Launch} {e : Env} {F1 mc1 ms1 : Nat} {s : State} {m : MethodId} {args : Array Value} {below : List Frame} {meth : Method} {c : Code} {H : Heap} {locs : List Loc} {cells slots : Nat} {Q : State → Prop} {cc bytes : ByteArray} {pc nL nL1 index n : Nat} {ls : Array Slot} {rest : List Value} {E : En} {A : Nat → Prop} {wc : va_W} {own : String} {y : MethodName} {F mc ms : Nat} {As : List Value} {b : Nat} {S : Type}
theorem mPre_blind {E : En} {sz : Nat} {ws : va_W} {av : List Value} : FrameBlind (va_Pc av (mPre E sz ws)) := by
  intro a U g mk q
  obtain ⟨q0, q1, qP, qK, qD⟩ := q
  exact ⟨q0, q1, qP, KX.same (s := U) rfl rfl qK, qD⟩
theorem mPre_at {f : va_W → va_W} (hf : isCtx f) (hA : ∀ q, s.heap.size ≤ q → A q) (hK : KX E A s) (hI : wI E A s H locs (f wc)) {av : List Value} : ∀ U : State, U.heap = H → s.WarmedH U.vm → va_Pc av (mPre E H.size wc) av.toArray U :=
  fun U hU hW => ⟨rfl, by rw [hU], by rw [hU]; exact cut_P hf hI.1, hK.call hW hU hI.2.2 (cut_A hf hI.2.1 hI.2.2 hA), (cut_D hf hI.2.1).weaken (fun _ _ _ _ => trivial)⟩
theorem kVI {ret : FieldType} {post : Int32 → S → Prop} {ws1 : S → va_W} (f : va_W → va_W) (hexec : p.tables.exec = Jvm.exec) (hb : c.code = cc) (hml : c.maxLocals = nL1) (hts : ∀ w ∈ lw_all, w.before args s = true) (hown : s.vm.findClass own = some m.cls) (hK : KX E A s) (hA : ∀ q, s.heap.size ≤ q → A q) (hl : ls.size = nL1) (hf : isCtx f) (hI : wI E A s H locs (f wc))
    (hM : CtI l E y bytes nL ret F mc ms (.ref b :: As) wc post ws1) (hw : GoodIn lw_all (wsV own index y.cls y (ws_ y bytes nL (some ret)))) (hd : y.cls = y.cls ∧ y.cls ≠ "java/lang/invoke/MethodHandle" ∧ y.cls ≠ "java/lang/invoke/VarHandle" ∧ (parseMethodDescriptor y.desc).map (fun d => d.parameters.length) = some n) (q0 ci : Nat) {q : vw_C} {fs : List Value} (hc : CL[ci]? = some q) (hq : q.1 = y.cls) (hrc : wc[q0]? = some (b, .inr (ci, fs))) (hn : As.length = n) (hF : F + 1 ≤ F1) (hL : nL ≤ 81) (hcs : cells + mc ≤ mc1 ∧ slots + ms ≤ ms1) (hroom : (rest.map fun v => v.category).sum ≤ 8) (hdg : decode cc pc = .ok (.invokevirtual index, 3))
    (kk : ∀ (r : Int32) (u : S) (H1 : Heap) (locs1 : List Loc), post r u → wI E A s H1 locs1 (f (ws1 u)) → H.size ≤ H1.size → W p l e (rmF F1 mc1 ms1) s m args below meth c H1 locs1 (cells + mc) (slots + ms) Q (F0 m (pc + 3) ls (.int r :: rest))) : W p l e (rmF F1 mc1 ms1) s m args below meth c H locs cells slots Q (F0 m pc ls (As.reverse ++ .ref b :: rest)) := by
  have hFc := cut_A hf hI.2.1 hI.2.2 hA
  refine va_calli (va_runV (As := As) (rest := rest) ⟨hexec, hb, hml, hown, hts⟩ (hM H.size) (cwV n hts hw rfl rfl rfl hd ⟨hF, by show 8 + (nL + 11) + 100 * F ≤ 100 * F1; omega⟩) ⟨mPre_blind, by have h := va_recv hK.1 (cut_P hf hI.1) hc hrc; rw [hq] at h; exact h, mPre_at hf hA hK hI⟩ rfl hn hl rfl (lv_room hroom) hdg hcs) hI.2.2 (fun q _ h => hFc q h) hFc (fun r u t H1 locs1 ht hvm hp hB hz hk hS => ?_)
  obtain ⟨hB1, hB2⟩ := hB
  rw [ht] at hB1
  obtain ⟨j1, j2⟩ := join_PD hf hI.1 hI.2.1 hFc hk hB1 hB2
  exact kk r u H1 locs1 hp ⟨j1, j2, hS⟩ hz
theorem kVL {post : Int64 → S → Prop} {ws1 : S → va_W} (f : va_W → va_W) (hexec : p.tables.exec = Jvm.exec) (hb : c.code = cc) (hml : c.maxLocals = nL1) (hts : ∀ w ∈ lw_all, w.before args s = true) (hown : s.vm.findClass own = some m.cls) (hK : KX E A s) (hA : ∀ q, s.heap.size ≤ q → A q) (hl : ls.size = nL1) (hf : isCtx f) (hI : wI E A s H locs (f wc))
    (hM : CtL l E y bytes nL F mc ms (.ref b :: As) wc post ws1) (hw : GoodIn lw_all (wsV own index y.cls y (ws_ y bytes nL (some .long)))) (hd : y.cls = y.cls ∧ y.cls ≠ "java/lang/invoke/MethodHandle" ∧ y.cls ≠ "java/lang/invoke/VarHandle" ∧ (parseMethodDescriptor y.desc).map (fun d => d.parameters.length) = some n) (q0 ci : Nat) {q : vw_C} {fs : List Value} (hc : CL[ci]? = some q) (hq : q.1 = y.cls) (hrc : wc[q0]? = some (b, .inr (ci, fs))) (hn : As.length = n) (hF : F + 1 ≤ F1) (hL : nL ≤ 81) (hcs : cells + mc ≤ mc1 ∧ slots + ms ≤ ms1) (hroom : (rest.map fun v => v.category).sum ≤ 8) (hdg : decode cc pc = .ok (.invokevirtual index, 3))
    (kk : ∀ (r : Int64) (u : S) (H1 : Heap) (locs1 : List Loc), post r u → wI E A s H1 locs1 (f (ws1 u)) → H.size ≤ H1.size → W p l e (rmF F1 mc1 ms1) s m args below meth c H1 locs1 (cells + mc) (slots + ms) Q (F0 m (pc + 3) ls (.long r :: rest))) : W p l e (rmF F1 mc1 ms1) s m args below meth c H locs cells slots Q (F0 m pc ls (As.reverse ++ .ref b :: rest)) := by
  have hFc := cut_A hf hI.2.1 hI.2.2 hA
  refine va_calll (va_runV (As := As) (rest := rest) ⟨hexec, hb, hml, hown, hts⟩ (hM H.size) (cwV n hts hw rfl rfl rfl hd ⟨hF, by show 8 + (nL + 11) + 100 * F ≤ 100 * F1; omega⟩) ⟨mPre_blind, by have h := va_recv hK.1 (cut_P hf hI.1) hc hrc; rw [hq] at h; exact h, mPre_at hf hA hK hI⟩ rfl hn hl rfl (lv_room hroom) hdg hcs) hI.2.2 (fun q _ h => hFc q h) hFc (fun r u t H1 locs1 ht hvm hp hB hz hk hS => ?_)
  obtain ⟨hB1, hB2⟩ := hB
  rw [ht] at hB1
  obtain ⟨j1, j2⟩ := join_PD hf hI.1 hI.2.1 hFc hk hB1 hB2
  exact kk r u H1 locs1 hp ⟨j1, j2, hS⟩ hz
theorem kVV {post : S → Prop} {ws1 : S → va_W} (f : va_W → va_W) (hexec : p.tables.exec = Jvm.exec) (hb : c.code = cc) (hml : c.maxLocals = nL1) (hts : ∀ w ∈ lw_all, w.before args s = true) (hown : s.vm.findClass own = some m.cls) (hK : KX E A s) (hA : ∀ q, s.heap.size ≤ q → A q) (hl : ls.size = nL1) (hf : isCtx f) (hI : wI E A s H locs (f wc))
    (hM : CtV l E y bytes nL F mc ms (.ref b :: As) wc post ws1) (hw : GoodIn lw_all (wsV own index y.cls y (ws_ y bytes nL none))) (hd : y.cls = y.cls ∧ y.cls ≠ "java/lang/invoke/MethodHandle" ∧ y.cls ≠ "java/lang/invoke/VarHandle" ∧ (parseMethodDescriptor y.desc).map (fun d => d.parameters.length) = some n) (q0 ci : Nat) {q : vw_C} {fs : List Value} (hc : CL[ci]? = some q) (hq : q.1 = y.cls) (hrc : wc[q0]? = some (b, .inr (ci, fs))) (hn : As.length = n) (hF : F + 1 ≤ F1) (hL : nL ≤ 81) (hcs : cells + mc ≤ mc1 ∧ slots + ms ≤ ms1) (hroom : (rest.map fun v => v.category).sum ≤ 8) (hdg : decode cc pc = .ok (.invokevirtual index, 3))
    (kk : ∀ (u : S) (H1 : Heap) (locs1 : List Loc), post u → wI E A s H1 locs1 (f (ws1 u)) → H.size ≤ H1.size → W p l e (rmF F1 mc1 ms1) s m args below meth c H1 locs1 (cells + mc) (slots + ms) Q (F0 m (pc + 3) ls rest)) : W p l e (rmF F1 mc1 ms1) s m args below meth c H locs cells slots Q (F0 m pc ls (As.reverse ++ .ref b :: rest)) := by
  have hFc := cut_A hf hI.2.1 hI.2.2 hA
  refine va_callv (va_runV (As := As) (rest := rest) ⟨hexec, hb, hml, hown, hts⟩ (hM H.size) (cwV n hts hw rfl rfl rfl hd ⟨hF, by show 8 + (nL + 11) + 100 * F ≤ 100 * F1; omega⟩) ⟨mPre_blind, by have h := va_recv hK.1 (cut_P hf hI.1) hc hrc; rw [hq] at h; exact h, mPre_at hf hA hK hI⟩ rfl hn hl rfl (lv_room hroom) hdg hcs) hI.2.2 (fun q _ h => hFc q h) hFc (fun u t H1 locs1 ht hvm hp hB hz hk hS => ?_)
  obtain ⟨hB1, hB2⟩ := hB
  rw [ht] at hB1
  obtain ⟨j1, j2⟩ := join_PD hf hI.1 hI.2.1 hFc hk hB1 hB2
  exact kk u H1 locs1 hp ⟨j1, j2, hS⟩ hz
theorem kVR {ret : FieldType} {post : S → Prop} {ws1 : S → Nat → va_W} (f : va_W → va_W) (hexec : p.tables.exec = Jvm.exec) (hb : c.code = cc) (hml : c.maxLocals = nL1) (hts : ∀ w ∈ lw_all, w.before args s = true) (hown : s.vm.findClass own = some m.cls) (hK : KX E A s) (hA : ∀ q, s.heap.size ≤ q → A q) (hl : ls.size = nL1) (hf : isCtx f) (hI : wI E A s H locs (f wc))
    (hM : CtR l E y bytes nL ret F mc ms (.ref b :: As) wc post ws1) (hw : GoodIn lw_all (wsV own index y.cls y (ws_ y bytes nL (some ret)))) (hd : y.cls = y.cls ∧ y.cls ≠ "java/lang/invoke/MethodHandle" ∧ y.cls ≠ "java/lang/invoke/VarHandle" ∧ (parseMethodDescriptor y.desc).map (fun d => d.parameters.length) = some n) (q0 ci : Nat) {q : vw_C} {fs : List Value} (hc : CL[ci]? = some q) (hq : q.1 = y.cls) (hrc : wc[q0]? = some (b, .inr (ci, fs))) (hn : As.length = n) (hF : F + 1 ≤ F1) (hL : nL ≤ 81) (hcs : cells + mc ≤ mc1 ∧ slots + ms ≤ ms1) (hroom : (rest.map fun v => v.category).sum ≤ 8) (hdg : decode cc pc = .ok (.invokevirtual index, 3))
    (kk : ∀ (u : S) (r : Nat) (H1 : Heap) (locs1 : List Loc), post u → wI E A s H1 locs1 (f (ws1 u r)) → H.size ≤ H1.size → W p l e (rmF F1 mc1 ms1) s m args below meth c H1 locs1 (cells + mc) (slots + ms) Q (F0 m (pc + 3) ls (.ref r :: rest))) : W p l e (rmF F1 mc1 ms1) s m args below meth c H locs cells slots Q (F0 m pc ls (As.reverse ++ .ref b :: rest)) := by
  have hFc := cut_A hf hI.2.1 hI.2.2 hA
  refine va_callr (va_runV (As := As) (rest := rest) ⟨hexec, hb, hml, hown, hts⟩ (hM H.size) (cwV n hts hw rfl rfl rfl hd ⟨hF, by show 8 + (nL + 11) + 100 * F ≤ 100 * F1; omega⟩) ⟨mPre_blind, by have h := va_recv hK.1 (cut_P hf hI.1) hc hrc; rw [hq] at h; exact h, mPre_at hf hA hK hI⟩ rfl hn hl rfl (lv_room hroom) hdg hcs) hI.2.2 (fun q _ h => hFc q h) hFc (fun u r t H1 locs1 ht hvm hp hB hz hk hS => ?_)
  obtain ⟨hB1, hB2⟩ := hB
  rw [ht] at hB1
  obtain ⟨j1, j2⟩ := join_PD hf hI.1 hI.2.1 hFc hk hB1 hB2
  exact kk u r H1 locs1 hp ⟨j1, j2, hS⟩ hz
theorem kSI {ret : FieldType} {post : Int32 → S → Prop} {ws1 : S → va_W} (f : va_W → va_W) (hexec : p.tables.exec = Jvm.exec) (hb : c.code = cc) (hml : c.maxLocals = nL1) (hts : ∀ w ∈ lw_all, w.before args s = true) (hown : s.vm.findClass own = some m.cls) (hK : KX E A s) (hA : ∀ q, s.heap.size ≤ q → A q) (hl : ls.size = nL1) (hf : isCtx f) (hI : wI E A s H locs (f wc))
    (hM : CtI l E y bytes nL ret F mc ms As wc post ws1) (hw : GoodIn lw_all (va_wsS own index y (ws_ y bytes nL (some ret)))) (hd : y.cls ≠ "java/lang/invoke/MethodHandle" ∧ y.cls ≠ "java/lang/invoke/VarHandle" ∧ (parseMethodDescriptor y.desc).map (fun d => d.parameters.length) = some n) (hn : As.length = n) (hF : F + 1 ≤ F1) (hL : nL ≤ 81) (hcs : cells + mc ≤ mc1 ∧ slots + ms ≤ ms1) (hroom : (rest.map fun v => v.category).sum ≤ 8) (hdg : decode cc pc = .ok (.invokestatic index, 3))
    (kk : ∀ (r : Int32) (u : S) (H1 : Heap) (locs1 : List Loc), post r u → wI E A s H1 locs1 (f (ws1 u)) → H.size ≤ H1.size → W p l e (rmF F1 mc1 ms1) s m args below meth c H1 locs1 (cells + mc) (slots + ms) Q (F0 m (pc + 3) ls (.int r :: rest))) : W p l e (rmF F1 mc1 ms1) s m args below meth c H locs cells slots Q (F0 m pc ls (As.reverse ++ rest)) := by
  have hFc := cut_A hf hI.2.1 hI.2.2 hA
  refine va_calli (va_runS (As := As) (rest := rest) ⟨hexec, hb, hml, hown, hts⟩ (hM H.size) (va_cwS n hts hw rfl rfl rfl hd ⟨hF, by show 8 + (nL + 11) + 100 * F ≤ 100 * F1; omega⟩) ⟨mPre_blind, mPre_at hf hA hK hI⟩ rfl hn hl rfl (lv_room hroom) hdg hcs) hI.2.2 (fun q _ h => hFc q h) hFc (fun r u t H1 locs1 ht hvm hp hB hz hk hS => ?_)
  obtain ⟨hB1, hB2⟩ := hB
  rw [ht] at hB1
  obtain ⟨j1, j2⟩ := join_PD hf hI.1 hI.2.1 hFc hk hB1 hB2
  exact kk r u H1 locs1 hp ⟨j1, j2, hS⟩ hz
theorem kSL {post : Int64 → S → Prop} {ws1 : S → va_W} (f : va_W → va_W) (hexec : p.tables.exec = Jvm.exec) (hb : c.code = cc) (hml : c.maxLocals = nL1) (hts : ∀ w ∈ lw_all, w.before args s = true) (hown : s.vm.findClass own = some m.cls) (hK : KX E A s) (hA : ∀ q, s.heap.size ≤ q → A q) (hl : ls.size = nL1) (hf : isCtx f) (hI : wI E A s H locs (f wc))
    (hM : CtL l E y bytes nL F mc ms As wc post ws1) (hw : GoodIn lw_all (va_wsS own index y (ws_ y bytes nL (some .long)))) (hd : y.cls ≠ "java/lang/invoke/MethodHandle" ∧ y.cls ≠ "java/lang/invoke/VarHandle" ∧ (parseMethodDescriptor y.desc).map (fun d => d.parameters.length) = some n) (hn : As.length = n) (hF : F + 1 ≤ F1) (hL : nL ≤ 81) (hcs : cells + mc ≤ mc1 ∧ slots + ms ≤ ms1) (hroom : (rest.map fun v => v.category).sum ≤ 8) (hdg : decode cc pc = .ok (.invokestatic index, 3))
    (kk : ∀ (r : Int64) (u : S) (H1 : Heap) (locs1 : List Loc), post r u → wI E A s H1 locs1 (f (ws1 u)) → H.size ≤ H1.size → W p l e (rmF F1 mc1 ms1) s m args below meth c H1 locs1 (cells + mc) (slots + ms) Q (F0 m (pc + 3) ls (.long r :: rest))) : W p l e (rmF F1 mc1 ms1) s m args below meth c H locs cells slots Q (F0 m pc ls (As.reverse ++ rest)) := by
  have hFc := cut_A hf hI.2.1 hI.2.2 hA
  refine va_calll (va_runS (As := As) (rest := rest) ⟨hexec, hb, hml, hown, hts⟩ (hM H.size) (va_cwS n hts hw rfl rfl rfl hd ⟨hF, by show 8 + (nL + 11) + 100 * F ≤ 100 * F1; omega⟩) ⟨mPre_blind, mPre_at hf hA hK hI⟩ rfl hn hl rfl (lv_room hroom) hdg hcs) hI.2.2 (fun q _ h => hFc q h) hFc (fun r u t H1 locs1 ht hvm hp hB hz hk hS => ?_)
  obtain ⟨hB1, hB2⟩ := hB
  rw [ht] at hB1
  obtain ⟨j1, j2⟩ := join_PD hf hI.1 hI.2.1 hFc hk hB1 hB2
  exact kk r u H1 locs1 hp ⟨j1, j2, hS⟩ hz
theorem kSV {post : S → Prop} {ws1 : S → va_W} (f : va_W → va_W) (hexec : p.tables.exec = Jvm.exec) (hb : c.code = cc) (hml : c.maxLocals = nL1) (hts : ∀ w ∈ lw_all, w.before args s = true) (hown : s.vm.findClass own = some m.cls) (hK : KX E A s) (hA : ∀ q, s.heap.size ≤ q → A q) (hl : ls.size = nL1) (hf : isCtx f) (hI : wI E A s H locs (f wc))
    (hM : CtV l E y bytes nL F mc ms As wc post ws1) (hw : GoodIn lw_all (va_wsS own index y (ws_ y bytes nL none))) (hd : y.cls ≠ "java/lang/invoke/MethodHandle" ∧ y.cls ≠ "java/lang/invoke/VarHandle" ∧ (parseMethodDescriptor y.desc).map (fun d => d.parameters.length) = some n) (hn : As.length = n) (hF : F + 1 ≤ F1) (hL : nL ≤ 81) (hcs : cells + mc ≤ mc1 ∧ slots + ms ≤ ms1) (hroom : (rest.map fun v => v.category).sum ≤ 8) (hdg : decode cc pc = .ok (.invokestatic index, 3))
    (kk : ∀ (u : S) (H1 : Heap) (locs1 : List Loc), post u → wI E A s H1 locs1 (f (ws1 u)) → H.size ≤ H1.size → W p l e (rmF F1 mc1 ms1) s m args below meth c H1 locs1 (cells + mc) (slots + ms) Q (F0 m (pc + 3) ls rest)) : W p l e (rmF F1 mc1 ms1) s m args below meth c H locs cells slots Q (F0 m pc ls (As.reverse ++ rest)) := by
  have hFc := cut_A hf hI.2.1 hI.2.2 hA
  refine va_callv (va_runS (As := As) (rest := rest) ⟨hexec, hb, hml, hown, hts⟩ (hM H.size) (va_cwS n hts hw rfl rfl rfl hd ⟨hF, by show 8 + (nL + 11) + 100 * F ≤ 100 * F1; omega⟩) ⟨mPre_blind, mPre_at hf hA hK hI⟩ rfl hn hl rfl (lv_room hroom) hdg hcs) hI.2.2 (fun q _ h => hFc q h) hFc (fun u t H1 locs1 ht hvm hp hB hz hk hS => ?_)
  obtain ⟨hB1, hB2⟩ := hB
  rw [ht] at hB1
  obtain ⟨j1, j2⟩ := join_PD hf hI.1 hI.2.1 hFc hk hB1 hB2
  exact kk u H1 locs1 hp ⟨j1, j2, hS⟩ hz
theorem kSR {ret : FieldType} {post : S → Prop} {ws1 : S → Nat → va_W} (f : va_W → va_W) (hexec : p.tables.exec = Jvm.exec) (hb : c.code = cc) (hml : c.maxLocals = nL1) (hts : ∀ w ∈ lw_all, w.before args s = true) (hown : s.vm.findClass own = some m.cls) (hK : KX E A s) (hA : ∀ q, s.heap.size ≤ q → A q) (hl : ls.size = nL1) (hf : isCtx f) (hI : wI E A s H locs (f wc))
    (hM : CtR l E y bytes nL ret F mc ms As wc post ws1) (hw : GoodIn lw_all (va_wsS own index y (ws_ y bytes nL (some ret)))) (hd : y.cls ≠ "java/lang/invoke/MethodHandle" ∧ y.cls ≠ "java/lang/invoke/VarHandle" ∧ (parseMethodDescriptor y.desc).map (fun d => d.parameters.length) = some n) (hn : As.length = n) (hF : F + 1 ≤ F1) (hL : nL ≤ 81) (hcs : cells + mc ≤ mc1 ∧ slots + ms ≤ ms1) (hroom : (rest.map fun v => v.category).sum ≤ 8) (hdg : decode cc pc = .ok (.invokestatic index, 3))
    (kk : ∀ (u : S) (r : Nat) (H1 : Heap) (locs1 : List Loc), post u → wI E A s H1 locs1 (f (ws1 u r)) → H.size ≤ H1.size → W p l e (rmF F1 mc1 ms1) s m args below meth c H1 locs1 (cells + mc) (slots + ms) Q (F0 m (pc + 3) ls (.ref r :: rest))) : W p l e (rmF F1 mc1 ms1) s m args below meth c H locs cells slots Q (F0 m pc ls (As.reverse ++ rest)) := by
  have hFc := cut_A hf hI.2.1 hI.2.2 hA
  refine va_callr (va_runS (As := As) (rest := rest) ⟨hexec, hb, hml, hown, hts⟩ (hM H.size) (va_cwS n hts hw rfl rfl rfl hd ⟨hF, by show 8 + (nL + 11) + 100 * F ≤ 100 * F1; omega⟩) ⟨mPre_blind, mPre_at hf hA hK hI⟩ rfl hn hl rfl (lv_room hroom) hdg hcs) hI.2.2 (fun q _ h => hFc q h) hFc (fun u r t H1 locs1 ht hvm hp hB hz hk hS => ?_)
  obtain ⟨hB1, hB2⟩ := hB
  rw [ht] at hB1
  obtain ⟨j1, j2⟩ := join_PD hf hI.1 hI.2.1 hFc hk hB1 hB2
  exact kk u r H1 locs1 hp ⟨j1, j2, hS⟩ hz
theorem kIV {post : S → Prop} {ws1 : S → va_W} (f : va_W → va_W) (hexec : p.tables.exec = Jvm.exec) (hb : c.code = cc) (hml : c.maxLocals = nL1) (hts : ∀ w ∈ lw_all, w.before args s = true) (hown : s.vm.findClass own = some m.cls) (hK : KX E A s) (hA : ∀ q, s.heap.size ≤ q → A q) (hl : ls.size = nL1) (hf : isCtx f) (hI : wI E A s H locs (f wc))
    (hM : CtV l E y bytes nL F mc ms (.ref b :: As) wc post ws1) (hw : Cond.code y bytes nL none ∈ lw_all) (hw1 : Cond.initialized y.cls ∈ lw_all) (hw2 : Cond.methodLink own index y ∈ lw_all) (hw3 : Cond.instanceMethod y ∈ lw_all) (hnm : y.name = "<init>") (hd : y.cls ≠ "java/lang/invoke/MethodHandle" ∧ y.cls ≠ "java/lang/invoke/VarHandle" ∧ (parseMethodDescriptor y.desc).map (fun d => d.parameters.length) = some n) (hn : As.length = n) (hF : F + 1 ≤ F1) (hL : nL ≤ 81) (hcs : cells + mc ≤ mc1 ∧ slots + ms ≤ ms1) (hroom : (rest.map fun v => v.category).sum ≤ 8) (hdg : decode cc pc = .ok (.invokespecial index, 3))
    (kk : ∀ (u : S) (H1 : Heap) (locs1 : List Loc), post u → wI E A s H1 locs1 (f (ws1 u)) → H.size ≤ H1.size → W p l e (rmF F1 mc1 ms1) s m args below meth c H1 locs1 (cells + mc) (slots + ms) Q (F0 m (pc + 3) ls rest)) : W p l e (rmF F1 mc1 ms1) s m args below meth c H locs cells slots Q (F0 m pc ls (As.reverse ++ .ref b :: rest)) := by
  have hFc := cut_A hf hI.2.1 hI.2.2 hA
  refine va_callv (va_runI (As := As) (rest := rest) ⟨hexec, hb, hml, hown, hts⟩ (hM H.size) (cwI n hts (lw_meth hw) rfl rfl rfl (hts _ hw1) (hts _ hw2) (hts _ hw3) hnm hd ⟨hF, by show 8 + (nL + 11) + 100 * F ≤ 100 * F1; omega⟩) ⟨mPre_blind, mPre_at hf hA hK hI⟩ rfl hn hl rfl (lv_room hroom) hdg hcs) hI.2.2 (fun q _ h => hFc q h) hFc (fun u t H1 locs1 ht hvm hp hB hz hk hS => ?_)
  obtain ⟨hB1, hB2⟩ := hB
  rw [ht] at hB1
  obtain ⟨j1, j2⟩ := join_PD hf hI.1 hI.2.1 hFc hk hB1 hB2
  exact kk u H1 locs1 hp ⟨j1, j2, hS⟩ hz
end CL
