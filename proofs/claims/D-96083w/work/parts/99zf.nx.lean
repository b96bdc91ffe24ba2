/-! A NATIVE METHOD THROWS (System.arraycopy): the machine's exception made over the native's frame, no traces kept (printed by gen/mknx.py; rows turned from EXCEPTIONS.to-paste: nx_vmAt, nx_npeAt, nx_vm, nx_npe) -/
section NXO
variable {p : Program} {e : Env} {below base : List Frame} {s0 V : State} {a : Addr}
theorem nx_fr (h : Over V base below) (a : Addr) : (V.setFrames (.thenThrow a :: base)).frames = .thenThrow a :: base ∧ (V.setFrames (.thenThrow a :: base)).cur < (V.setFrames (.thenThrow a :: base)).threads.size := by
  have f1 : (V.setFrames (.thenThrow a :: base)).frames = .thenThrow a :: base := State.frames_setFrames _ h.cur
  exact ⟨f1, State.cur_lt_of_frames f1⟩
/-- in the exception's constructor -/
theorem nx_in (h : Over V base below) {m : MethodId} {meth : Method} {code : Code} (hm : V.vm.method? m = some meth) (hc : meth.code = some code) (hp : V.plainMethod m) :
    At ((V.setFrames (.thenThrow a :: base)).pushFrame (.java (pass0J m a 0 []))) m code below ∧ ((V.setFrames (.thenThrow a :: base)).pushFrame (.java (pass0J m a 0 []))).frames = .java (pass0J m a 0 []) :: .thenThrow a :: base := by
  obtain ⟨f1, c1⟩ := nx_fr h a
  obtain ⟨mid, e1⟩ := h.above
  constructor
  · refine At.pushOn _ ⟨h.running, by simpa using h.runnable, by simpa using h.alone⟩ c1 ⟨.thenThrow a :: mid, ?_⟩ hm hc hp
    rw [f1, e1]
    rfl
  · have f2 : ((V.setFrames (.thenThrow a :: base)).pushFrame (.java (pass0J m a 0 []))).frames = .java (pass0J m a 0 []) :: (V.setFrames (.thenThrow a :: base)).frames := State.frames_setFrames _ c1
    rw [f2, f1]
/-- from the constructor's return to the throwing -/
theorem nx_back (hexec : p.tables.exec = Jvm.exec) (h : Over V base below) {t : State} {m : MethodId} {meth : Method} {code : Code} {y : Cell}
    (hm : V.vm.method? m = some meth) (hc : meth.code = some code) (hp : V.plainMethod m) (hl : meth.locks = false) (h4 : decode code.code 4 = .ok (.return_, 1))
    (hrest : Steps p.tables e below ((V.setCell a y).setFrames (.throwing a :: base)) t) :
    Steps p.tables e below ((((V.setFrames (.thenThrow a :: base)).pushFrame (.java (pass0J m a 0 []))).setCell a y).setTop (pass0J m a 4 [])) t := by
  obtain ⟨hI, fI⟩ := nx_in (a := a) h hm hc hp
  obtain ⟨mid, e1⟩ := h.above
  have hB : At (((V.setFrames (.thenThrow a :: base)).pushFrame (.java (pass0J m a 0 []))).setCell a y) m code below := (At.setCell_iff _ _).mpr hI
  jvm_step hB [hexec, h4, return_.wp_sem]
  intro acts
  have fB : (((V.setFrames (.thenThrow a :: base)).pushFrame (.java (pass0J m a 0 []))).setCell a y).frames = .java (pass0J m a 0 []) :: .thenThrow a :: base := fI
  rw [ret_to (t := ((V.setFrames (.thenThrow a :: base)).pushFrame (.java (pass0J m a 0 []))).setCell a y) (f := pass0J m a 4 []) (f₀ := pass0J m a 0 []) (below := .thenThrow a :: base) (fs := .thenThrow a :: base) (meth := meth) fB hm hl rfl rfl rfl acts]
  have cB := State.cur_lt_of_frames fB
  have f9 : ((((V.setFrames (.thenThrow a :: base)).pushFrame (.java (pass0J m a 0 []))).setCell a y).setFrames (.thenThrow a :: base)).frames = .thenThrow a :: base := State.frames_setFrames _ cB
  refine Steps.head ⟨hB.running, by simpa using hB.runnable, by simpa using hB.alone⟩ ⟨.thenThrow a :: mid, by rw [f9, e1]; rfl, by simp, by simp⟩ ?_
  rw [stepThread_thenThrow f9]
  have e9 : ((((V.setFrames (.thenThrow a :: base)).pushFrame (.java (pass0J m a 0 []))).setCell a y).setFrames (.thenThrow a :: base)).setFrames (.throwing a :: base) = (V.setCell a y).setFrames (.throwing a :: base) := by
    rw [State.setFrames_setFrames, State.pushFrame, State.setCell_setFrames, State.setCell_setFrames, State.setFrames_setFrames, State.setFrames_setFrames]
  show Steps p.tables e below (((((V.setFrames (.thenThrow a :: base)).pushFrame (.java (pass0J m a 0 []))).setCell a y).setFrames (.thenThrow a :: base)).setFrames (.throwing a :: base)) t
  rw [e9]
  exact hrest
end NXO

set_option maxHeartbeats 1000000 in
theorem nx_vmAt {p : Program} {l : Launch} {e : Env} {R : Room} {s : State} {m₀ : MethodId} {args : Array Value} {below : List Frame} {meth : Method} {c : Code} {W : State} {locs : List Loc} {cells slots : Nat}
    (X : Stand p l e R s m₀ args below meth c W locs cells slots) (hexec : p.tables.exec = Jvm.exec) (htr : e.platform.stackTraces = false) {cls : String} {names : List String} {text : String}
    (hcls : Bundle.fit cls = true) (hnames : ∀ n ∈ names, Bundle.fit n = true) (hsoe : (cls == "java/lang/StackOverflowError") = false) (hoom : (cls == "java/lang/OutOfMemoryError") = false)
    (h : ∀ a ∈ Bundle.messageArmAtoms cls names, a.before args s = true)
    (hlocs : ∀ x ∈ locs, ∀ cell, s.heap[x.base]? = some cell → cell.vm.isStatics = false)
    (htext : (text == notModelled) = false) (hlimit : ¬ (stringBytes (stringToUtf16 text)).size > e.platform.arrayLengthLimit) (hheap : ¬ (stringBytes (stringToUtf16 text)).size * componentBytes .byte > e.platform.maxHeapBytes)
    {g : JFrame} (hg : g.method = m₀) (hsize : g.locals.size = c.maxLocals) {nf : NFrame} (hnf : nf.words = 0)
    (hRframes : names.length + 5 < R.frames) (hRlocals : 2 * g.monitorRoom + (g.stack.map fun v => v.category).sum + 10240 ≤ R.locals) (hshort : 13 * names.length + 55 ≤ 10240)
    (hRcells : cells + 3 ≤ R.cells) (hRslots : slots + ((stringBytes (stringToUtf16 text)).size + 4 + 6) ≤ R.slots) :
    ∃ (S : State) (q : Addr) (ce : Cell), Steps p.tables e below (W.setFrames (.throwNew cls (some text) none :: .native nf :: .java g :: below)) (S.setFrames (.throwing q :: .native nf :: .java g :: below)) ∧
      Stand p l e R s m₀ args below meth c S locs (cells + 3) (slots + ((stringBytes (stringToUtf16 text)).size + 4 + 6)) ∧ S.heap[q]? = some ce ∧ s.vm.findClass cls = some ce.cls ∧ ce.vm = .none := by
  have howns : e.platform.frameOwnsMonitors = true := by rw [X.admits.platform]
  have hfin : e.platform.finalization = false := by rw [X.admits.platform]
  have hpl : e.platform.magicAccessors = ({} : Platform).magicAccessors := by rw [X.admits.platform]
  have a : ∀ x, x ∈ Bundle.messageArmAtoms cls names → x.holds args s none s [] = true := fun x hx => h x hx
  obtain ⟨T, Z0, L, -, Y⟩ := ThrowableC.of_atoms (args := args) howns hfin hpl (fun x hx => h x (by simp [Bundle.messageArmAtoms, hx]))
  obtain ⟨Z, M, LZ, LM, hnZ⟩ := Init0T.ofS_atoms (args := args) hpl L Y (fun x hx => h x (by simp [Bundle.messageArmAtoms, hx]))
  obtain ⟨P1, Ps, hlen, L1, hL, hP1m, hlink1, hlink⟩ := Bundle.chainS (args := args) hpl hnZ names cls hcls hnames (fun x hx => h x (by simp [Bundle.messageArmAtoms, hx]))
  obtain ⟨Zs, LZs, hn4, hfitv, hfitc⟩ := StringT.of_atoms (args := args) (fun x hx => h x (by simp [Bundle.messageArmAtoms, hx]))
  have hfound : s.vm.findClass cls = some P1.m.cls := findClass_of_methodNamed hP1m
  obtain ⟨c1, kX, hc1, hk, hord, -, -, hn6⟩ := Cond.instantiable_spec (a (.instantiable cls 6) (by simp [Bundle.messageArmAtoms]))
  cases Option.some.inj (hc1.symm.trans hfound)
  have hinit := Cond.initialized_spec hfound hk (a (.initialized cls) (by simp [Bundle.messageArmAtoms]))
  have hctor : kX.findMethod "<init>" "(Ljava/lang/String;)V" = some P1.m.idx := findMethod_of_methodNamed hP1m hk
  have hsel0 : selectMethod e.platform s.vm P1.m.cls T.fill0 = .method T.fill0 := by
    obtain ⟨c2, r2, m2, q1, q2, q3, q4, -⟩ := Cond.selects_spec (a (.selects cls Bundle.tFill0 Bundle.tFill0) (by simp [Bundle.messageArmAtoms]))
    cases Option.some.inj (q1.symm.trans hfound)
    cases Option.some.inj (q2.symm.trans (State.methodFound?_of_named Y.fill0 (by decide)))
    cases Option.some.inj (q3.symm.trans Y.fill0)
    rw [Launch.admits_selectMethod X.admits]; exact q4
  have hselF : selectMethod e.platform s.vm P1.m.cls T.fill = .method T.fill := by
    obtain ⟨c2, r2, m2, q1, q2, q3, q4, -⟩ := Cond.selects_spec (a (.selects cls Bundle.tFill Bundle.tFill) (by simp [Bundle.messageArmAtoms]))
    cases Option.some.inj (q1.symm.trans hfound)
    cases Option.some.inj (q2.symm.trans (State.methodFound?_of_named Y.fill (by decide)))
    cases Option.some.inj (q3.symm.trans Y.fill)
    rw [Launch.admits_selectMethod X.admits]; exact q4
  obtain ⟨cellS0, hcS0, hiss⟩ := Y.statics
  obtain ⟨u0, hu0⟩ := Cond.staticRefV Y.unassigned L.unassignedStatic L.statics hcS0 hiss (a (.isRef (.static Bundle.tN "UNASSIGNED_STACK" Bundle.steD)) (by simp [Bundle.messageArmAtoms]))
  obtain ⟨sen, hsen⟩ := Cond.staticRefV Y.sentinel L.sentinelStatic L.statics hcS0 hiss (a (.isRef (.static Bundle.tN "SUPPRESSED_SENTINEL" Bundle.listD)) (by simp [Bundle.messageArmAtoms]))
  obtain ⟨ci198, i198, fB, hk198, hg198, ha198, hsB, -, hnB, htB, hffB⟩ := Cond.ownField (t := .object "java/lang/Object") Y.found L.cls (by decide +kernel) (a (.fieldLink Bundle.tN 198 Bundle.tN "backtrace" "Ljava/lang/Object;") (by simp [Bundle.messageArmAtoms])) (a (.lays Bundle.tN Bundle.tN "backtrace" "Ljava/lang/Object;") (by simp [Bundle.messageArmAtoms])) e.platform hpl
  obtain ⟨cellS, hcS', heS, -, hkeep⟩ := X.same.2.2.2.2.2 T.aS cellS0 hcS0
  have hcellS : W.heap[T.aS]? = some cellS := hcS'
  have hout' : ∀ i, (⟨T.aS, i⟩ : Loc) ∉ locs := fun i hmem => by
    have := hlocs _ hmem cellS0 hcS0
    rw [hiss] at this; cases this
  have hknownS : cellS.vm ≠ .unknown := by
    rw [heS]; intro hu
    rw [show cellS0.vm = .unknown from hu] at hiss
    cases hiss
  have hvU : cellS.slots[T.fUnassigned.slot]? = some u0.v := by rw [hkeep _ (hout' _)]; exact hu0
  have hvSen : cellS.slots[T.fSentinel.slot]? = some sen.v := by rw [hkeep _ (hout' _)]; exact hsen
  obtain ⟨iM, hffM⟩ := Y.msg
  obtain ⟨tyC, dC, hdC, hdnC⟩ := Cond.laysAt hfound hk Y.cause (a (.lays cls Bundle.tN "cause" "Ljava/lang/Throwable;") (by simp [Bundle.messageArmAtoms]))
  obtain ⟨tyS, dS, hdS, hdnS⟩ := Cond.laysAt hfound hk Y.stack (a (.lays cls Bundle.tN "stackTrace" Bundle.steD) (by simp [Bundle.messageArmAtoms]))
  obtain ⟨tyP, dP, hdP, hdnP⟩ := Cond.laysAt hfound hk Y.supp (a (.lays cls Bundle.tN "suppressedExceptions" Bundle.listD) (by simp [Bundle.messageArmAtoms]))
  obtain ⟨tyM, dM, hdM, hdnM⟩ := Cond.laysAt hfound hk hffM (a (.lays cls Bundle.tN "detailMessage" "Ljava/lang/String;") (by simp [Bundle.messageArmAtoms]))
  obtain ⟨tyB, dB, hdB, hdnB⟩ := Cond.laysAt hfound hk hffB (a (.lays cls Bundle.tN "backtrace" "Ljava/lang/Object;") (by simp [Bundle.messageArmAtoms]))
  have bC := Cond.laysApart hdB hdC hdnB hdnC (by rw [hnB, Y.causeName]; decide)
  have bS := Cond.laysApart hdB hdS hdnB hdnS (by rw [hnB, Y.stackName]; decide)
  have bP := Cond.laysApart hdB hdP hdnB hdnP (by rw [hnB, Y.suppName]; decide)
  have hbk : ((preparedCellV T.toThrowableT (freshCell P1.m.cls kX) (W.heap.size + 2) u0 sen).withEntry W.cur).slots[fB.slot]? = some .null := by
    have := fresh_default (c := P1.m.cls) tyB
    rw [htB] at this
    simpa [preparedCellV, Cell.setSlot, Cell.withEntry, Array.getElem?_setIfInBounds, bC, bS, bP, bC.symm, bS.symm, bP.symm, defaultValue] using this
  have tkC := Takes.of_laid (v := .ref (W.heap.size + 2)) hk hord tyC (by rw [Y.causeType]; rfl)
  have tkS := Takes.of_laid (v := u0.v) hk hord tyS (by rw [Y.stackType]; exact fits_refV_array _ u0)
  have tkP := Takes.of_laid (v := sen.v) hk hord tyP (by rw [Y.suppType]; exact fits_refV_object _ sen)
  have tkM := Takes.of_laid (v := .ref (W.heap.size + 1)) hk hord tyM (by rw [Y.msgType]; rfl)
  have hskip : SkipFacts T e.platform s (fun u => u) u0 ((preparedCellV T.toThrowableT (freshCell P1.m.cls kX) (W.heap.size + 2) u0 sen).withEntry W.cur) := ⟨{ ci198 := ci198, i198 := i198, fBack := fB }, ⟨hk198, hg198, ha198, hsB⟩, hbk, fun _ _ => rfl⟩
  obtain ⟨vm', X5, st, -⟩ := X.nativeThrowsMessageColdBareV hexec hsize hnf T L Z LZ M LM Zs LZs P1 L1 Ps hL hlink1 hlink hsoe hoom hfound hk hinit hord hctor htext hlimit hheap (hfitv _) (hfitc _)
    hsel0 hselF hcellS hknownS hvU hvSen tkC tkS tkP tkM Y.objLocals hskip (fun _ _ hA hW _ hroom _ hrest => L.nativeOff p htr hA hW hroom hrest) (by rw [hlen]; exact hRframes) hRlocals (by rw [hlen]; exact hshort) hRcells (by rw [hn4, hn6]; exact hRslots)
  have ha : (W.heap.size + 2) < ((withThrown W Zs text P1.m.cls kX).setVm vm').heap.size := by
    show _ < (withThrown W Zs text P1.m.cls kX).heap.size
    rw [(withThrown_facts e.platform W Zs text P1.m.cls kX).2.2.1]; omega
  have b1 : (bytesOf Zs.cB (stringToUtf16 text)).slots.size = (stringBytes (stringToUtf16 text)).size := by
    rw [(Cell.writeAll_facts _ _).2.2]; simp [bytes0]
  have b2 : (stringAt Zs.cS Zs.kS Zs.fv Zs.fc (stringToUtf16 text) W.heap.size).slots.size = 4 := by simp [string0, Cell.setSlot, hn4]
  have b3 : (freshCell P1.m.cls kX).slots.size = 6 := by simp [hn6]
  rw [b1, b2, b3] at X5
  have e9 : slots + (stringBytes (stringToUtf16 text)).size + 4 + 6 = slots + ((stringBytes (stringToUtf16 text)).size + 4 + 6) := by omega
  rw [e9] at X5
  refine ⟨((withThrown W Zs text P1.m.cls kX).setVm vm').setCell (W.heap.size + 2) (plainBareV T.toThrowableT (freshCell P1.m.cls kX) (W.heap.size + 2) u0 sen (.ref (W.heap.size + 1))), W.heap.size + 2, _, st,
    X5.forget (fun y hy => ?_), heapAt_setCell_self _ ha, hfound, rfl⟩
  simp only [List.mem_cons, List.not_mem_nil, or_false] at hy
  have hge : s.heap.size ≤ W.heap.size := X.same.2.1
  rcases hy with rfl | rfl | rfl | rfl | rfl <;> exact Nat.le_trans hge (Nat.le_add_right _ 2)
set_option maxHeartbeats 2000000 in
theorem nx_npeAt {p : Program} {l : Launch} {e : Env} {R : Room} {s : State} {m₀ : MethodId} {args : Array Value} {below : List Frame} {meth : Method} {c : Code} {W : State} {locs : List Loc} {cells slots : Nat}
    (X : Stand p l e R s m₀ args below meth c W locs cells slots) (hexec : p.tables.exec = Jvm.exec) (htr : e.platform.stackTraces = false) {n : Nat}
    (h : ∀ a ∈ Bundle.npeArmAtoms n, a.before args s = true)
    (hlocs : ∀ x ∈ locs, ∀ cell, s.heap[x.base]? = some cell → cell.vm.isStatics = false)
    {g : JFrame} (hg : g.method = m₀) (hsize : g.locals.size = c.maxLocals) {nf : NFrame} (hnf : nf.words = 0)
    (hRframes : 8 < R.frames) (hRlocals : 2 * g.monitorRoom + (g.stack.map fun v => v.category).sum + 10240 ≤ R.locals)
    (hRcells : cells + 1 ≤ R.cells) (hRslots : slots + n ≤ R.slots) :
    ∃ (S : State) (q : Addr) (ce : Cell), Steps p.tables e below (W.setFrames (.throwNew "java/lang/NullPointerException" none none :: .native nf :: .java g :: below)) (S.setFrames (.throwing q :: .native nf :: .java g :: below)) ∧
      Stand p l e R s m₀ args below meth c S locs (cells + 1) (slots + n) ∧ S.heap[q]? = some ce ∧ s.vm.findClass "java/lang/NullPointerException" = some ce.cls ∧ ce.vm = .none := by
  have howns : e.platform.frameOwnsMonitors = true := by rw [X.admits.platform]
  have hfin : e.platform.finalization = false := by rw [X.admits.platform]
  have hpl : e.platform.magicAccessors = ({} : Platform).magicAccessors := by rw [X.admits.platform]
  have hpl2 : e.platform.arrayCloneIsPublic = true := by rw [X.admits.platform]
  have a' : ∀ x, x ∈ Bundle.npeArmAtoms n → x.holds args s none s [] = true := fun x hx => h x hx
  obtain ⟨T, Z, L, LZ, Y⟩ := ThrowableC.of_atoms (args := args) howns hfin hpl (fun x hx => h x (by simp [Bundle.npeArmAtoms, hx]))
  obtain ⟨N, LN, hcN, hnNF, hordN, hffS⟩ := NpeC.of_atoms (args := args) hpl hpl2 L Y (fun x hx => h x (by simp [Bundle.npeArmAtoms, hx]))
  obtain ⟨P1, L1, hP1m, hP1s⟩ := PassC.of_atoms (args := args) (s := s) hpl (X := Bundle.nN) (Y := Bundle.rN) (by decide) (by decide) LibCode.NullPointerException.Init0.at_0 LibCode.NullPointerException.Init0.at_1 LibCode.NullPointerException.Init0.at_4 (fun x hx => h x (by simp [Bundle.npeArmAtoms, hx]))
  obtain ⟨PR, LR, hPRm, hPRs⟩ := PassC.of_atoms (args := args) (s := s) hpl (X := Bundle.rN) (Y := Bundle.eN) (by decide) (by decide) LibCode.RuntimeException.Init0.at_0 LibCode.RuntimeException.Init0.at_1 LibCode.RuntimeException.Init0.at_4 (fun x hx => h x (by simp [Bundle.npeArmAtoms, hx]))
  obtain ⟨PE, LEx, hPEm, hPEs⟩ := PassC.of_atoms (args := args) (s := s) hpl (X := Bundle.eN) (Y := Bundle.tN) (by decide) (by decide) LibCode.Exception.Init0.at_0 LibCode.Exception.Init0.at_1 LibCode.Exception.Init0.at_4 (fun x hx => h x (by simp [Bundle.npeArmAtoms, hx]))
  have hfound : s.vm.findClass Bundle.nN = some P1.m.cls := findClass_of_methodNamed hP1m
  have ecls : N.cN = P1.m.cls := Option.some.inj (hcN.symm.trans hfound)
  have hk : s.vm.classes[P1.m.cls]? = some N.kN := by rw [← ecls]; exact LN.cls
  have hinit := Cond.initialized_spec hfound hk (a' (.initialized Bundle.nN) (by simp [Bundle.npeArmAtoms]))
  have hctor : N.kN.findMethod "<init>" "()V" = some P1.m.idx := findMethod_of_methodNamed hP1m hk
  obtain ⟨c1, k1, hc1, hk1, -, -, -, hn⟩ := Cond.instantiable_spec (a' (.instantiable Bundle.nN n) (by simp [Bundle.npeArmAtoms]))
  cases Option.some.inj (hc1.symm.trans hfound)
  cases Option.some.inj (hk1.symm.trans hk)
  have hfsz : (freshCell P1.m.cls N.kN).slots.size = n := by simp [hn]
  have hlink1 : P1.sup = PR.m := Option.some.inj (hP1s.symm.trans hPRm)
  have hlinkR : PR.sup = PE.m := Option.some.inj (hPRs.symm.trans hPEm)
  have hlinkE : PE.sup = Z.m T.toThrowableT := Option.some.inj (hPEs.symm.trans Y.init0)
  have hLs : ∀ P, P ∈ [PR, PE] → P.Links0 e.platform s := fun P hP => by
    simp only [List.mem_cons, List.not_mem_nil, or_false] at hP
    rcases hP with rfl | rfl
    · exact LR
    · exact LEx
  have hsel0 : selectMethod e.platform s.vm P1.m.cls T.fill0 = .method T.fill0 := by
    obtain ⟨c2, r2, m2, q1, q2, q3, q4, -⟩ := Cond.selects_spec (a' (.selects Bundle.nN Bundle.tFill0 Bundle.tFill0) (by simp [Bundle.npeArmAtoms]))
    cases Option.some.inj (q1.symm.trans hfound)
    cases Option.some.inj (q2.symm.trans (State.methodFound?_of_named Y.fill0 (by decide)))
    cases Option.some.inj (q3.symm.trans Y.fill0)
    rw [Launch.admits_selectMethod X.admits]; exact q4
  have hselF : selectMethod e.platform s.vm P1.m.cls T.fill = .method N.fill := by
    obtain ⟨c2, r2, m2, q1, q2, q3, q4, -⟩ := Cond.selects_spec (a' (.selects Bundle.nN Bundle.tFill Bundle.nFill) (by simp [Bundle.npeArmAtoms]))
    cases Option.some.inj (q1.symm.trans hfound)
    cases Option.some.inj (q2.symm.trans (State.methodFound?_of_named Y.fill (by decide)))
    cases Option.some.inj (q3.symm.trans hnNF)
    rw [Launch.admits_selectMethod X.admits]; exact q4
  obtain ⟨cellS0, hcS0, hiss⟩ := Y.statics
  obtain ⟨u0, hu0⟩ := Cond.staticRefV Y.unassigned L.unassignedStatic L.statics hcS0 hiss (a' (.isRef (.static Bundle.tN "UNASSIGNED_STACK" Bundle.steD)) (by simp [Bundle.npeArmAtoms]))
  obtain ⟨sen, hsen⟩ := Cond.staticRefV Y.sentinel L.sentinelStatic L.statics hcS0 hiss (a' (.isRef (.static Bundle.tN "SUPPRESSED_SENTINEL" Bundle.listD)) (by simp [Bundle.npeArmAtoms]))
  obtain ⟨ci198, i198, fB, hk198, hg198, ha198, hsB, -, hnB, htB, hffB⟩ := Cond.ownField (t := .object "java/lang/Object") Y.found L.cls (by decide +kernel) (a' (.fieldLink Bundle.tN 198 Bundle.tN "backtrace" Bundle.objD) (by simp [Bundle.npeArmAtoms])) (a' (.lays Bundle.tN Bundle.tN "backtrace" Bundle.objD) (by simp [Bundle.npeArmAtoms])) e.platform hpl
  obtain ⟨cellS, hcS', heS, -, hkeep⟩ := X.same.2.2.2.2.2 T.aS cellS0 hcS0
  have hcellS : W.heap[T.aS]? = some cellS := hcS'
  have hout' : ∀ i, (⟨T.aS, i⟩ : Loc) ∉ locs := fun i hmem => by
    have := hlocs _ hmem cellS0 hcS0
    rw [hiss] at this; cases this
  have hknownS : cellS.vm ≠ .unknown := by
    rw [heS]; intro hu
    rw [show cellS0.vm = .unknown from hu] at hiss
    cases hiss
  have hvU : cellS.slots[T.fUnassigned.slot]? = some u0.v := by rw [hkeep _ (hout' _)]; exact hu0
  have hvSen : cellS.slots[T.fSentinel.slot]? = some sen.v := by rw [hkeep _ (hout' _)]; exact hsen
  obtain ⟨tyC, dC, hdC, hdnC⟩ := Cond.laysAt hfound hk Y.cause (a' (.lays Bundle.nN Bundle.tN "cause" "Ljava/lang/Throwable;") (by simp [Bundle.npeArmAtoms]))
  obtain ⟨tyS, dS, hdS, hdnS⟩ := Cond.laysAt hfound hk Y.stack (a' (.lays Bundle.nN Bundle.tN "stackTrace" Bundle.steD) (by simp [Bundle.npeArmAtoms]))
  obtain ⟨tyP, dP, hdP, hdnP⟩ := Cond.laysAt hfound hk Y.supp (a' (.lays Bundle.nN Bundle.tN "suppressedExceptions" Bundle.listD) (by simp [Bundle.npeArmAtoms]))
  obtain ⟨tyX, dX, hdX, hdnX⟩ := Cond.laysAt hfound hk hffS (a' (.lays Bundle.nN Bundle.nN "extendedMessageState" "I") (by simp [Bundle.npeArmAtoms, Bundle.npeAtoms]))
  obtain ⟨hnX, htX⟩ := State.fieldFound?_type hffS (t := .int) (by decide +kernel)
  have xC := Cond.laysApart hdC hdX hdnC hdnX (by rw [hnX, Y.causeName]; decide)
  have xS := Cond.laysApart hdS hdX hdnS hdnX (by rw [hnX, Y.stackName]; decide)
  have xP := Cond.laysApart hdP hdX hdnP hdnX (by rw [hnX, Y.suppName]; decide)
  have hv0 : (freshCell P1.m.cls N.kN).slots[N.fState.slot]? = some (.int 0) := by
    have := fresh_default (c := P1.m.cls) tyX
    rw [htX] at this; exact this
  obtain ⟨tyB, dB, hdB, hdnB⟩ := Cond.laysAt hfound hk hffB (a' (.lays Bundle.nN Bundle.tN "backtrace" Bundle.objD) (by simp [Bundle.npeArmAtoms]))
  have bC := Cond.laysApart hdB hdC hdnB hdnC (by rw [hnB, Y.causeName]; decide)
  have bS := Cond.laysApart hdB hdS hdnB hdnS (by rw [hnB, Y.stackName]; decide)
  have bP := Cond.laysApart hdB hdP hdnB hdnP (by rw [hnB, Y.suppName]; decide)
  have bX := Cond.laysApart hdB hdX hdnB hdnX (by rw [hnB, hnX]; decide)
  have hbk : ((npeCell N.toNpeT (preparedCellV T.toThrowableT (freshCell P1.m.cls N.kN) W.heap.size u0 sen) W.cur).withEntry W.cur).slots[fB.slot]? = some .null := by
    have := fresh_default (c := P1.m.cls) tyB
    rw [htB] at this
    simpa [npeCell, preparedCellV, Cell.setSlot, Cell.withEntry, Array.getElem?_setIfInBounds, bC, bS, bP, bX, bC.symm, bS.symm, bP.symm, bX.symm, defaultValue] using this
  have tkC := Takes.of_laid (v := .ref W.heap.size) hk hordN tyC (by rw [Y.causeType]; rfl)
  have tkS := Takes.of_laid (v := u0.v) hk hordN tyS (by rw [Y.stackType]; exact fits_refV_array _ u0)
  have tkP := Takes.of_laid (v := sen.v) hk hordN tyP (by rw [Y.suppType]; exact fits_refV_object _ sen)
  have tkX := Takes.of_laid (v := .int 1) hk hordN tyX (by rw [htX]; rfl)
  have hskip : SkipFacts T e.platform s (fun u => u) u0 ((npeCell N.toNpeT (preparedCellV T.toThrowableT (freshCell P1.m.cls N.kN) W.heap.size u0 sen) W.cur).withEntry W.cur) := ⟨{ ci198 := ci198, i198 := i198, fBack := fB }, ⟨hk198, hg198, ha198, hsB⟩, hbk, fun _ _ => rfl⟩
  have hO := X.overNative g nf
  obtain ⟨hbeyond, hfreeW⟩ := X.vmMayThrowNative hsize hnf (.throwNew "java/lang/NullPointerException" none none) (fun f hf => by cases hf) rfl hRlocals
  have hfr9 : (Frame.native nf :: .java g :: below).length + [PR, PE].length + 5 < (e.platform.stackLimits W.me).1 := by have := X.framesAboveNative g nf (n := [PR, PE].length + 5) (by simpa using hRframes); omega
  have hwd9 : (stackUse (.native nf :: .java g :: below)).2 + 13 * [PR, PE].length + 68 ≤ (e.platform.stackLimits W.me).2 := by have := X.stackAboveNative hsize hnf (K := 13 * [PR, PE].length + 68) (by simp only [List.length_cons, List.length_nil]; omega); omega
  -- the constructor, over the native's frame
  have hltS : T.aS < W.heap.size := (Array.getElem?_eq_some_iff.mp hcellS).1
  obtain ⟨kX', hk', he'⟩ := X.warmed.alike.2.2 _ _ hk
  have hty : kX'.instanceTypes = N.kN.instanceTypes := by rw [he']
  have hfresh : freshCell P1.m.cls kX' = freshCell P1.m.cls N.kN := by
    show ({ cls := P1.m.cls, slots := kX'.instanceTypes.map defaultValue, vm := .none } : Cell) = _
    rw [hty]
  have hOV : Over (W.pushCell (freshCell P1.m.cls N.kN)) (.native nf :: .java g :: below) below := (Over.pushCell_iff _).mpr hO
  have hWV : s.WarmedH (W.pushCell (freshCell P1.m.cls N.kN)).vm := X.warmed
  have w5 : (W.pushCell (freshCell P1.m.cls N.kN)).heap[T.aS]? = some cellS := by
    rw [← hcellS]
    simp [State.pushCell, Array.getElem?_push, Nat.ne_of_lt hltS]
  have w6 : (W.pushCell (freshCell P1.m.cls N.kN)).heap[W.heap.size]? = some (freshCell P1.m.cls N.kN) := State.heap_pushCell_size W (freshCell P1.m.cls N.kN)
  have hcur9 : (W.pushCell (freshCell P1.m.cls N.kN)).cur = W.cur := rfl
  have hlim9 : e.platform.stackLimits (W.pushCell (freshCell P1.m.cls N.kN)).me = e.platform.stackLimits W.me := rfl
  generalize hcN9 : ((npeCell N.toNpeT (preparedCellV T.toThrowableT (freshCell P1.m.cls N.kN) W.heap.size u0 sen) W.cur).withEntry W.cur) = cN at hskip
  generalize hV9 : W.pushCell (freshCell P1.m.cls N.kN) = V at hOV hWV w5 w6 hcur9 hlim9
  generalize hb9 : (Frame.native nf :: .java g :: below) = base at hO hbeyond hfreeW hfr9 hwd9 hOV
  obtain ⟨vm', hW9, st9⟩ : ∃ vm', s.WarmedH vm' ∧ ∀ target, Steps p.tables e below (((V.setVm vm').setCell W.heap.size (cN.setSlot T.fStack.slot u0.v).left.left).setFrames (.throwing W.heap.size :: base)) target → Steps p.tables e below (doInvoke e (V.setFrames (.thenThrow W.heap.size :: base)) [] P1.m #[.ref W.heap.size]).1 target := by
    have hmW := hWV.methodAt L1.method
    obtain ⟨hI, hfI⟩ := nx_in (a := W.heap.size) hOV hmW L1.code (hWV.plainAt L1.plain)
    have hfN := (nx_fr hOV W.heap.size).1
    have hroom := roomAbove (pl := e.platform) (u := V.setFrames (.thenThrow W.heap.size :: base)) (vars := 1) (pushed := [.thenThrow W.heap.size]) (base := base) (free := 13 * [PR, PE].length + 68) (lim := e.platform.stackLimits W.me) hfN (by rw [State.stackLimits_setFrames]; exact hlim9)
      (by simp only [List.length_cons, List.length_nil] at hfr9 ⊢; omega) (by omega) (by rw [stackUse_light _ _ (fun f hf => by cases hf) rfl, stackUse_nil]; show 0 + 1 + 11 ≤ _; omega)
    obtain ⟨vm1, hW1, st1⟩ := Steps.invokeInitCold (tb := p.tables) (s₀ := s) (U := ((V.setFrames (.thenThrow W.heap.size :: base)).pushFrame (.java (pass0J P1.m W.heap.size 0 [])))) (f := pass0J P1.m W.heap.size 1 [.ref W.heap.size]) (args := []) (rest := []) (a := W.heap.size) hI hexec L1.at1 hWV L1.links L1.right L1.notHandle L1.cls L1.file L1.pool
      L1.supClass L1.supMethod L1.supName L1.supStatic L1.supAbstract L1.supFound L1.supParams.symm rfl
    have hO1 : Over (V.setVm vm1) base below := hOV.setVm (hWV.alike.symm.trans hW1.alike)
    obtain ⟨hI1, hfI1⟩ := nx_in (V := V.setVm vm1) (a := W.heap.size) hO1 (hW1.methodAt L1.method) L1.code (hW1.plainAt (U := V.setVm vm1) L1.plain)
    have hXvm : ∀ w, (((V.setVm vm1).setFrames (.thenThrow W.heap.size :: base)).pushFrame (.java (pass0J P1.m W.heap.size 0 []))).setVm w = (((V.setVm w).setFrames (.thenThrow W.heap.size :: base)).pushFrame (.java (pass0J P1.m W.heap.size 0 []))) := fun w => by rw [State.pushFrame_setVm, State.setFrames_setVm, State.setVm_twice]
    obtain ⟨vm2, hW2, st2⟩ : ∃ vm2, s.WarmedH vm2 ∧ ∀ t' : State, Steps p.tables e below ((((((V.setVm vm1).setFrames (.thenThrow W.heap.size :: base)).pushFrame (.java (pass0J P1.m W.heap.size 0 []))).setVm vm2).setCell W.heap.size (cN.setSlot T.fStack.slot u0.v).left.left).setTop (pass0J P1.m W.heap.size 4 [])) t' →
        Steps p.tables e below (doInvoke e ((((V.setVm vm1).setFrames (.thenThrow W.heap.size :: base)).pushFrame (.java (pass0J P1.m W.heap.size 0 []))).setTop (pass0J P1.m W.heap.size 1 [])) [] (firstOf (Z.m T.toThrowableT) ([PR, PE].map (·.toPassT))) #[.ref W.heap.size]).1 t' := by
      have hXc : (((V.setVm vm1).setFrames (.thenThrow W.heap.size :: base)).pushFrame (.java (pass0J P1.m W.heap.size 0 []))).heap[W.heap.size]? = some (freshCell P1.m.cls N.kN) := w6
      have hXS : (((V.setVm vm1).setFrames (.thenThrow W.heap.size :: base)).pushFrame (.java (pass0J P1.m W.heap.size 0 []))).heap[T.aS]? = some cellS := w5
      have hXcur : (((V.setVm vm1).setFrames (.thenThrow W.heap.size :: base)).pushFrame (.java (pass0J P1.m W.heap.size 0 []))).cur = W.cur := hcur9
      have hXW : s.WarmedH (((V.setVm vm1).setFrames (.thenThrow W.heap.size :: base)).pushFrame (.java (pass0J P1.m W.heap.size 0 []))).vm := hW1
      have hXlim : e.platform.stackLimits (((V.setVm vm1).setFrames (.thenThrow W.heap.size :: base)).pushFrame (.java (pass0J P1.m W.heap.size 0 []))).me = e.platform.stackLimits W.me := by rw [State.stackLimits_pushFrame, State.stackLimits_setFrames]; exact hlim9
      generalize (((V.setVm vm1).setFrames (.thenThrow W.heap.size :: base)).pushFrame (.java (pass0J P1.m W.heap.size 0 []))) = X9 at hI1 hfI1 hXc hXS hXcur hXW hXlim ⊢
      subst hcN9
      exact Steps.initNpe0ColdByV p (V := X9) (g := pass0J P1.m W.heap.size 1 []) (c := P1.code) (self := W.heap.size) hI1 hexec T L Z LZ N LN hXW hXcur (Nn := fun u => u) heapOnly_id (fun _ _ => rfl) (fun _ => rfl) (fun u x y => setCell_twice _ _ _ _) (fun _ => Nat.le_refl _) hXc (by intro k hk'; cases hk') (by intro hk'; cases hk') rfl hk hsel0 hXS (Nat.ne_of_lt hltS) hknownS hvU hv0 xC xS xP tkS tkX
        (fun _ hu => hu) (fun _ hu => hu) rfl rfl rfl (by simp [npeCell, preparedCellV, Cell.setSlot, Cell.withEntry]) hskip (fun _ _ hA hW _ hroom _ hrest => L.nativeOff p htr hA hW hroom hrest) hselF hvSen tkC tkP Y.objLocals [PR, PE] hLs ⟨hlinkR, hlinkE, trivial⟩ (ig := .invokespecial P1.index) (len := 3) [] hXlim
        (by rw [hfI1]; simp only [List.length_cons, List.length_nil] at hfr9 ⊢; omega)
        (by rw [hfI1, List.tail_cons, stackUse_java, stackUse_light _ _ (fun f hf => by cases hf) rfl]
            show (stackUse base).2 + (1 + 11 + 2 * 0 + operandWords []) + 13 * [PR, PE].length + 55 ≤ (e.platform.stackLimits W.me).2
            simp only [operandWords, List.foldl_nil, List.length_cons, List.length_nil] at hwd9 ⊢
            omega)
        L1.at1
    refine ⟨vm2, hW2, fun target hrest => ?_⟩
    rw [(doInvoke_java (s := (V.setFrames (.thenThrow W.heap.size :: base))) (e := e) (acts := []) (args := #[.ref W.heap.size]) (meth := P1.meth) (code := P1.code) hmW L1.code L1.locks (by rw [L1.locals]; exact hroom)).1, L1.locals]
    show Steps p.tables e below ((V.setFrames (.thenThrow W.heap.size :: base)).pushFrame (.java (pass0J P1.m W.heap.size 0 []))) target
    rw [← State.setTop_self (s := ((V.setFrames (.thenThrow W.heap.size :: base)).pushFrame (.java (pass0J P1.m W.heap.size 0 [])))) (State.topJava?_of_frames hfI)]
    jvm_step hI [hexec, L1.at0, Value.isRef]
    refine st1 target ?_
    have hl9 : P1.sup = firstOf (Z.m T.toThrowableT) ([PR, PE].map (·.toPassT)) := hlink1
    rw [hl9]
    refine st2 target ?_
    rw [hXvm]
    exact nx_back hexec (V := V.setVm vm2) (hOV.setVm (hWV.alike.symm.trans hW2.alike)) (hW2.methodAt L1.method) L1.code (hW2.plainAt (U := V.setVm vm2) L1.plain) L1.locks L1.at4 hrest
  have st : Steps p.tables e below (W.setFrames (.throwNew "java/lang/NullPointerException" none none :: base)) (((V.setVm vm').setCell W.heap.size (cN.setSlot T.fStack.slot u0.v).left.left).setFrames (.throwing W.heap.size :: base)) := by
    obtain ⟨mid, hmid⟩ := hO.above
    have f0 : (W.setFrames (.throwNew "java/lang/NullPointerException" none none :: base)).frames = .throwNew "java/lang/NullPointerException" none none :: base := State.frames_setFrames _ hO.cur
    refine Steps.head ⟨hO.running, by simpa using hO.runnable, by simpa using hO.alone⟩ ⟨.throwNew "java/lang/NullPointerException" none none :: mid, by rw [f0, hmid]; rfl, by simp, by simp⟩ ?_
    rw [stepThread_throwNew f0, stepThrowNew_plain (s := W.setFrames (.throwNew "java/lang/NullPointerException" none none :: base)) (c := P1.m.cls) (k := kX') (i := P1.m.idx) (by decide) (by decide) (by show W.vm.findClass _ = _; rw [X.warmed.alike.findClass]; exact hfound) hk' (by rw [he']; exact hinit) (by rw [he']; exact hordN) (Launch.admits_hotImplicitExceptions X.admits) hbeyond hfreeW (by rw [he']; exact hctor) (X.cellsAbove hRcells) (by have := X.slotsAbove hRslots; rw [hty, hn]; exact this)]
    have hN9 : ((W.setFrames (.throwNew "java/lang/NullPointerException" none none :: base)).pushCell (freshCell P1.m.cls kX')).setFrames (.thenThrow ((W.setFrames (.throwNew "java/lang/NullPointerException" none none :: base)).heap.size) :: base) = V.setFrames (.thenThrow W.heap.size :: base) := by
      rw [State.pushCell_setFrames, State.setFrames_setFrames, hfresh, hV9]
      rfl
    rw [hN9]
    exact st9 _ (Steps.refl _)
  subst hb9
  subst hV9
  subst hcN9
  rw [npeBareV_eq T.toThrowableT N.toNpeT W.heap.size u0 sen W.cur rfl rfl] at st
  have X2 := (X.pushed (freshCell P1.m.cls N.kN)).noted hW9
  have hsz9 : ((W.pushCell (freshCell P1.m.cls N.kN)).setVm vm').heap.size = W.heap.size + 1 := State.heap_size_pushCell _ _
  have ha9 : W.heap.size < ((W.pushCell (freshCell P1.m.cls N.kN)).setVm vm').heap.size := by rw [hsz9]; omega
  have hcell9 : ((W.pushCell (freshCell P1.m.cls N.kN)).setVm vm').heap[W.heap.size]? = some (freshCell P1.m.cls N.kN) := State.heap_pushCell_size W (freshCell P1.m.cls N.kN)
  have X3 := ((((X2.stored hcell9 T.fCause.slot (.ref W.heap.size)).storedAgain ha9 T.fStack.slot u0.v).storedAgain ha9 T.fSupp.slot sen.v).storedAgain ha9 N.fState.slot (.int 1)).storedAgain ha9 T.fStack.slot u0.v
  simp only [List.append_assoc, List.cons_append, List.nil_append] at X3
  have hlt : W.heap.size < ((W.pushCell (freshCell P1.m.cls N.kN)).setVm vm').heap.size := by
    show W.heap.size < (W.pushCell (freshCell P1.m.cls N.kN)).heap.size
    rw [State.heap_size_pushCell]; omega
  rw [hfsz] at X3
  refine ⟨_, W.heap.size, _, st, X3.forget (fun y hy => ?_), heapAt_setCell_self _ hlt, hfound, rfl⟩
  simp only [List.mem_cons, List.not_mem_nil, or_false] at hy
  have hge : s.heap.size ≤ W.heap.size := X.same.2.1
  rcases hy with rfl | rfl | rfl | rfl | rfl <;> exact hge
section NXW
variable {p : Program} {l : Launch} {e : Env} {R : Room} {s : State} {args : Array Value} {below : List Frame} {H : Heap} {locs : List Loc} {cells slots : Nat}
/-- the machine throws cls over a native's frame: what comes -/
def nx_Over (p : Program) (l : Launch) (e : Env) (R : Room) (s : State) (args : Array Value) (below : List Frame) (H : Heap) (locs : List Loc) (cells slots : Nat) (cls : String) (msg : Option String) (dc ds : Nat) : Prop :=
  ∀ (m : MethodId) (meth : Method) (c : Code) (g : JFrame) (T : State), T.heap = H → Stand p l e R s m args below meth c T locs cells slots → g.method = m → g.locals.size = c.maxLocals → 2 * g.monitorRoom + (g.stack.map fun v => v.category).sum ≤ 8 → ∀ nf : NFrame, nf.words = 0 → ∃ (S : State) (q : Addr) (ce : Cell), Steps p.tables e below (T.setFrames (.throwNew cls msg none :: .native nf :: .java g :: below)) (S.setFrames (.throwing q :: .native nf :: .java g :: below)) ∧
    Stand p l e R s m args below meth c S locs (cells + dc) (slots + ds) ∧ S.heap[q]? = some ce ∧ ce.vm = .none ∧ s.vm.findClass cls = some ce.cls ∧ H.size ≤ S.heap.size ∧ ∀ q : Nat, q < H.size → S.heap[q]? = H[q]?

theorem nx_vm (hexec : p.tables.exec = Jvm.exec) (hl : l.stackTraces = false) {cls text : String} {names : List String} {nb : Nat} {A : Nat → Prop}
    (hcls : Bundle.fit cls = true) (hnames : ∀ n ∈ names, Bundle.fit n = true) (hsoe : (cls == "java/lang/StackOverflowError") = false) (hoom : (cls == "java/lang/OutOfMemoryError") = false)
    (hat : ∀ w ∈ vx_atM cls names, w.before args s = true) (hgood : ∀ w ∈ vx_atM cls names, vx_ot w = true)
    (hU : vx_Zq Bundle.tN "UNASSIGNED_STACK" Bundle.steD A s s.heap) (hN : vx_Zq Bundle.tN "SUPPRESSED_SENTINEL" Bundle.listD A s s.heap) (hS : va_S A s.heap H locs)
    (htext : (text == notModelled) = false) (hnb : (stringBytes (stringToUtf16 text)).size ≤ nb) (hnb1 : nb ≤ 1000)
    (hRframes : names.length + 5 < R.frames) (hRlocals : 10248 ≤ R.locals) (hshort : 13 * names.length + 55 ≤ 10240) (hRcells : cells + 3 ≤ R.cells) (hRslots : slots + (nb + 10) ≤ R.slots)
    : nx_Over p l e R s args below H locs cells slots cls (some text) 3 (nb + 10) := by
  intro m meth c g T hT X hgm hsize hmr nf hnf
  have htr : e.platform.stackTraces = false := (show e.platform.stackTraces = l.stackTraces by rw [X.admits.platform]).trans hl
  have Y := vx_rebase X (R' := { frames := R.frames, locals := R.locals, cells := 3, slots := nb + 10 }) (Nat.le_refl _) (Nat.le_refl _) hRcells hRslots
  have hhp : ((T.setVm s.vm).setFrames (.invoking m args :: below)).heap = H := hT
  have hW0 : s.WarmedH ((T.setVm s.vm).setFrames (.invoking m args :: below)).vm := State.WarmedH.refl s
  have hat' : ∀ w ∈ vx_atM cls names, w.before args ((T.setVm s.vm).setFrames (.invoking m args :: below)) = true := fun w hw => vx_ot_at hW0 rfl (hgood w hw) (hat w hw)
  have hU' : vx_Zq Bundle.tN "UNASSIGNED_STACK" Bundle.steD A ((T.setVm s.vm).setFrames (.invoking m args :: below)) ((T.setVm s.vm).setFrames (.invoking m args :: below)).heap := by rw [hhp]; exact vx_Zq.moved hW0.alike (hU.kept hS.2.1)
  have hN' : vx_Zq Bundle.tN "SUPPRESSED_SENTINEL" Bundle.listD A ((T.setVm s.vm).setFrames (.invoking m args :: below)) ((T.setVm s.vm).setFrames (.invoking m args :: below)).heap := by rw [hhp]; exact vx_Zq.moved hW0.alike (hN.kept hS.2.1)
  obtain ⟨S, q, ce, st, Z, hce, hcl', hv⟩ := nx_vmAt Y hexec htr (cls := cls) (names := names) (text := text) hcls hnames hsoe hoom (vx_own hat' (vx_isRefq hU'.1) (vx_isRefq hN'.1) hU'.2.word hN'.2.word) (fun x hx => nomatch hx) htext
    (by rw [Launch.admits_arrayLengthLimit X.admits]; omega) (by rw [Launch.admits_maxHeapBytes X.admits]; simp only [componentBytes]; omega)
    (g := g) hgm hsize hnf hRframes (by show _ + 10240 ≤ R.locals; omega) hshort (by show 0 + 3 ≤ 3; omega) (by show 0 + (_ + 4 + 6) ≤ nb + 10; omega)
  obtain ⟨f1, f2⟩ := vx_frame Z.same
  have f1' : H.size ≤ S.heap.size := by rw [← hT]; exact f1
  have f2' : ∀ q : Nat, q < H.size → S.heap[q]? = H[q]? := fun q hq => by
    rw [← hT]
    exact f2 q (by rw [← hT] at hq; exact hq) (fun z hz => nomatch hz)
  have X5 := vx_back9 X Y Z
  have X6 : Stand p l e R s m args below meth c S locs (cells + 3) (slots + (nb + 10)) := { X5 with same := X5.same.mono (by omega) (by omega) }
  exact ⟨S, q, ce, st, X6, hce, hv, hcl', f1', f2'⟩
theorem nx_npe (hexec : p.tables.exec = Jvm.exec) (hl : l.stackTraces = false) {nb : Nat} {A : Nat → Prop}
    (hat : ∀ w ∈ vx_atN nb, w.before args s = true) (hgood : ∀ w ∈ vx_atN nb, vx_ot w = true)
    (hU : vx_Zq Bundle.tN "UNASSIGNED_STACK" Bundle.steD A s s.heap) (hN : vx_Zq Bundle.tN "SUPPRESSED_SENTINEL" Bundle.listD A s s.heap) (hS : va_S A s.heap H locs)
    (hRframes : 8 < R.frames) (hRlocals : 10248 ≤ R.locals) (hRcells : cells + 1 ≤ R.cells) (hRslots : slots + nb ≤ R.slots)
    : nx_Over p l e R s args below H locs cells slots "java/lang/NullPointerException" none 1 nb := by
  intro m meth c g T hT X hgm hsize hmr nf hnf
  have htr : e.platform.stackTraces = false := (show e.platform.stackTraces = l.stackTraces by rw [X.admits.platform]).trans hl
  have Y := vx_rebase X (R' := { frames := R.frames, locals := R.locals, cells := 1, slots := nb }) (Nat.le_refl _) (Nat.le_refl _) hRcells hRslots
  have hhp : ((T.setVm s.vm).setFrames (.invoking m args :: below)).heap = H := hT
  have hW0 : s.WarmedH ((T.setVm s.vm).setFrames (.invoking m args :: below)).vm := State.WarmedH.refl s
  have hat' : ∀ w ∈ vx_atN nb, w.before args ((T.setVm s.vm).setFrames (.invoking m args :: below)) = true := fun w hw => vx_ot_at hW0 rfl (hgood w hw) (hat w hw)
  have hU' : vx_Zq Bundle.tN "UNASSIGNED_STACK" Bundle.steD A ((T.setVm s.vm).setFrames (.invoking m args :: below)) ((T.setVm s.vm).setFrames (.invoking m args :: below)).heap := by rw [hhp]; exact vx_Zq.moved hW0.alike (hU.kept hS.2.1)
  have hN' : vx_Zq Bundle.tN "SUPPRESSED_SENTINEL" Bundle.listD A ((T.setVm s.vm).setFrames (.invoking m args :: below)) ((T.setVm s.vm).setFrames (.invoking m args :: below)).heap := by rw [hhp]; exact vx_Zq.moved hW0.alike (hN.kept hS.2.1)
  obtain ⟨S, q, ce, st, Z, hce, hcl', hv⟩ := nx_npeAt Y hexec htr (n := nb) (vx_own hat' (vx_isRefq hU'.1) (vx_isRefq hN'.1) hU'.2.word hN'.2.word) (fun x hx => nomatch hx)
    (g := g) hgm hsize hnf hRframes (by show _ + 10240 ≤ R.locals; omega) (by show 0 + 1 ≤ 1; omega) (by show 0 + nb ≤ nb; omega)
  obtain ⟨f1, f2⟩ := vx_frame Z.same
  have f1' : H.size ≤ S.heap.size := by rw [← hT]; exact f1
  have f2' : ∀ q : Nat, q < H.size → S.heap[q]? = H[q]? := fun q hq => by
    rw [← hT]
    exact f2 q (by rw [← hT] at hq; exact hq) (fun z hz => nomatch hz)
  have X5 := vx_back9 X Y Z
  have X6 : Stand p l e R s m args below meth c S locs (cells + 1) (slots + nb) := { X5 with same := X5.same.mono (by omega) (by omega) }
  exact ⟨S, q, ce, st, X6, hce, hv, hcl', f1', f2'⟩
theorem nx_desc : parseMethodDescriptor arraycopyName.desc = some { parameters := [.object "java/lang/Object", .int, .object "java/lang/Object", .int, .int], returnType := none } := by decide +kernel
theorem nx_words : nativeFrameWords arraycopyName.cls arraycopyName.name 5 = 7 := by decide +kernel
/-- System.arraycopy that throws -/
theorem nx_call {m : MethodId} {meth : Method} {c : Code} {Q : State → Prop} {cc : ByteArray} {pc : Nat} {ls : Array Slot} {rest : List Value} {cls : String} {msg : Option String} {dc ds : Nat} {argsL : List Value} {own : String} {index : Nat} (hexec : p.tables.exec = Jvm.exec) (hb : c.code = cc) (hml : ls.size = c.maxLocals) (hown : s.vm.findClass own = some m.cls)
    (hlink : (Cond.methodLink own index arraycopyName).before args s = true) (hnat : (Cond.native arraycopyName).before args s = true) (hstat : (Cond.static arraycopyName).before args s = true) (hini : (Cond.initialized "java/lang/System").before args s = true)
    (hlen : argsL.length = 5) (hops : operandWords argsL = 5) (hseen : ∀ x : Method, x.isStatic = true → x.sig.parameters = [.object "java/lang/Object", .int, .object "java/lang/Object", .int, .int] → seenByNative x argsL.toArray = argsL.toArray)
    (hsem : ∀ U : State, U.heap = H → s.WarmedH U.vm → ∀ (fs : List Frame) (E : CtlPost), (∀ acts', E (.throwNew cls msg) acts' (U.setFrames fs)) → wp (Native.java_lang_System.arraycopy.sem argsL.toArray) (fun _ _ _ _ => False) E e false [] (U.setFrames fs))
    (hover : nx_Over p l e R s args below H locs cells slots cls msg dc ds) (hF : 1 ≤ R.frames) (hlocals : 100 ≤ R.locals) (hrest : (rest.map fun v => v.category).sum ≤ 8) (hdg : decode cc pc = .ok (.invokestatic index, 3))
    (k : ∀ (H1 : Heap) (q : Addr) (ce : Cell), H.size ≤ H1.size → (∀ q : Nat, q < H.size → H1[q]? = H[q]?) → H1[q]? = some ce → ce.vm = .none → s.vm.findClass cls = some ce.cls → vx_W p l e R s m args below meth c H1 locs (cells + dc) (slots + ds) Q (F0 m pc ls rest) q) :
    W p l e R s m args below meth c H locs cells slots Q (F0 m pc ls (argsL.reverse ++ rest)) := by
  intro T hT X
  obtain ⟨r, kr, x, hnamed, N⟩ := nativeStatic hnat hstat nx_desc
  have hmeth : s.vm.method? r = some x := by simp [Vm.method?, N.cls, N.meth]
  obtain ⟨kP, hkP, -⟩ := className_of_methodNamed hnamed
  have hinitP := Cond.initialized_spec (findClass_of_methodNamed hnamed) hkP hini
  obtain ⟨vm₁, X₁, hstep₁⟩ := X.invokestatic hexec hown hlink hnamed hmeth N.static hkP hinitP ⟨by decide, by decide⟩ (g := F0 m pc ls (argsL.reverse ++ rest)) rfl (argsL := argsL) (rest := rest) (by rw [N.sig]; exact hlen) rfl (by rw [hb]; exact hdg)
  have hK : BackT l R p e below s args arraycopyName 3 8 (fun A a => A.U.heap = H ∧ s.WarmedH A.U.vm ∧ A.locs = locs ∧ A.cells = cells ∧ A.slots = slots ∧ a = argsL.toArray)
      (fun A a q B => ∃ ce : Cell, B.locs = locs ∧ B.cells = cells + dc ∧ B.slots = slots + ds ∧ B.U.heap[q]? = some ce ∧ ce.vm = .none ∧ s.vm.findClass cls = some ce.cls ∧ H.size ≤ B.U.heap.size ∧ ∀ q : Nat, q < H.size → B.U.heap[q]? = H[q]?) := by
    refine BackT.of_native (row := arraycopyRow) (words := 5) (arraycopy_row p) ⟨r, kr, x, hnamed, N⟩ hF (by rw [nx_words]; omega) ?_
    intro m9 meth9 c9 A a9 x9 g9 mk9 X9 hg9 hz9 hw9 hn9 hst hps hp
    obtain ⟨U9, L9, k9, n9⟩ := A
    obtain ⟨hH, hWm, hl1, hc1, hs1, rfl⟩ := hp
    dsimp only [Pt.U, Pt.locs, Pt.cells, Pt.slots] at hH hWm hl1 hc1 hs1 X9
    subst hl1; subst hc1; subst hs1
    obtain ⟨S, q, ce, st, Z, h1, h2, h3, h4, h5⟩ := hover m9 meth9 c9 g9 U9 hH X9 hg9 hz9 hw9 { method := mk9, args := argsL.toArray, locked := none } rfl
    exact ⟨hops, hseen x9 hst hps, cls, msg, id, fun _ => rfl, rfl, fun fs E hE => by rw [arraycopyRow_sem]; exact hsem U9 hH hWm fs E hE, q, ⟨S, L9, k9 + dc, n9 + ds⟩, Z, ⟨ce, rfl, rfl, rfl, h1, h2, h3, h4, h5⟩, st⟩
  obtain ⟨q, B, X', hpost, hsteps⟩ := hK m meth c ⟨T.setVm vm₁, locs, cells, slots⟩ (F0 m pc ls rest) (.invokestatic index) r argsL.toArray X₁ rfl hml (by rw [hb]; exact hdg) (by show 2 * 0 + _ ≤ 8; omega) (X₁.named hnamed) ⟨hT, X₁.warmed, rfl, rfl, rfl, rfl⟩
  obtain ⟨U9, L9, k9, n9⟩ := B
  obtain ⟨ce, hl1, hc1, hs1, h1, h2, h3, h4, h5⟩ := hpost
  dsimp only [Pt.U, Pt.locs, Pt.cells, Pt.slots] at hl1 hc1 hs1 h1 h2 h3 h4 h5 X' hsteps
  subst hl1; subst hc1; subst hs1
  obtain ⟨t, a1, b1⟩ := k U9.heap q ce h4 h5 h1 h2 h3 U9 rfl X'
  exact ⟨t, hstep₁ _ (fun acts => by rw [doInvoke_state]; exact hsteps.trans a1), b1⟩
end NXW
set_option maxRecDepth 100000 in
theorem at_npe_e : vx_atN 8 = [87, 381, 321, 343, 346, 348, 382, 383, 123, 124, 315, 320, 344, 351, 375, 352, 376, 353, 377, 316, 318, 378, 340, 330, 331, 486, 488, 337, 338, 500, 477, 478, 479, 480, 368, 480, 481, 482, 483, 370, 483, 484, 485, 382, 372, 95, 335, 498, 499, 329, 494, 495, 497, 380, 379, 492].filterMap (fun i => lw_tbl[i]?) := by rfl
theorem at_npe_g : (vx_atN 8).all nbW = true := by decide +kernel
theorem at_npe_o : (vx_atN 8).all vx_ot = true := by decide +kernel
theorem at_npe {args : Array Value} {s : State} (hts : ∀ w ∈ lw_all, w.before args s = true) (hx : XW s) : ∀ w ∈ vx_atN 8, w.before args s = true := fun w hw => tb_any hts hx (fm_mem at_npe_e hw) (List.all_eq_true.mp at_npe_g w hw)
