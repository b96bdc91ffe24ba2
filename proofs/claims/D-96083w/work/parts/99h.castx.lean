/-! A CAST THAT FAILS: the machine throws a ClassCastException -/
theorem md_find {α : Type} {p : α → Bool} {l : List α} {x : α} (h : l.find? p = some x) : x ∈ l ∧ p x = true := ⟨List.mem_of_find?_eq_some h, List.find?_some h⟩
theorem home_len {vm : Vm} {k : Class} (hm : ∀ m ∈ vm.modules, (m.loader.isSome || m.name == "java.base" || !(castPackages_1.any fun p => m.packages.contains p)) = true) (hl : k.loader = none) (hp : packageOf k.name ∈ castPackages_1) : (vm.home k).toList.length ≤ 38 := by
  have hk : ∀ m, vm.moduleOf k = some m → m.name = "java.base" := by
    intro m h
    unfold Vm.moduleOf at h
    split at h
    · have := List.find?_some h
      exact beq_iff_eq.mp this
    · have h1 := List.mem_of_find?_eq_some h
      have h2 := List.find?_some h
      rw [hl, Bool.and_eq_true, beq_iff_eq] at h2
      have h3 := hm m h1
      rw [h2.1] at h3
      have h4 : (castPackages_1.any fun p => m.packages.contains p) = true := List.any_eq_true.mpr ⟨_, hp, h2.2⟩
      rw [h4] at h3
      simpa using h3
  unfold Vm.home
  rw [hl]
  cases h : vm.moduleOf k with
  | none => exact (by decide +kernel : (("unnamed module" ++ " of loader " ++ "'bootstrap'" : String)).toList.length ≤ 38)
  | some m =>
    show ("module " ++ m.name ++ " of loader " ++ vm.loaderName none).toList.length ≤ 38
    rw [hk m h]
    exact (by decide +kernel : (("module " ++ "java.base" ++ " of loader " ++ "'bootstrap'" : String)).toList.length ≤ 38)
theorem cast_text {vm : Vm} {s t : Class} (hs : s.hidden = none) (ht : t.hidden = none) (ls : (dotted s.name).toList.length ≤ 30) (lt : (dotted t.name).toList.length ≤ 30) (h1 : (vm.home s).toList.length ≤ 38) (h2 : (vm.home t).toList.length ≤ 38) :
    (Op.checkcast.message vm s t == notModelled) = false ∧ (stringBytes (stringToUtf16 (Op.checkcast.message vm s t))).size ≤ 1000 := by
  have e1 : s.shown = dotted s.name := by unfold Class.shown; rw [hs]
  have e2 : t.shown = dotted t.name := by unfold Class.shown; rw [ht]
  have hh : (vm.homes s t).toList.length ≤ 155 := by
    unfold Vm.homes
    rw [e1, e2]
    split
    · show (toString (dotted s.name) ++ toString " and " ++ toString (dotted t.name) ++ toString " are in " ++ toString (vm.home s)).toList.length ≤ 155
      simp only [String.toList_append, List.length_append, toString]
      have a1 : (" and " : String).toList.length = 5 := by decide
      have a2 : (" are in " : String).toList.length = 8 := by decide
      omega
    · show (toString (dotted s.name) ++ toString " is in " ++ toString (vm.home s) ++ toString "; " ++ toString (dotted t.name) ++ toString " is in " ++ toString (vm.home t)).toList.length ≤ 155
      simp only [String.toList_append, List.length_append, toString]
      have a1 : (" is in " : String).toList.length = 7 := by decide
      have a2 : ("; " : String).toList.length = 2 := by decide
      omega
  have em : Op.checkcast.message vm s t = toString "class " ++ toString (dotted s.name) ++ toString " cannot be cast to class " ++ toString (dotted t.name) ++ toString " (" ++ toString (vm.homes s t) ++ toString ")" := by
    unfold Op.checkcast.message; rw [e1, e2]
  constructor
  · rw [beq_eq_false_iff_ne, em]
    intro h
    have h2 := congrArg String.toList h
    simp only [String.toList_append, toString] at h2
    have h4 : notModelled.toList = '\u0000' :: " a message that is not modelled".toList := by decide
    have h5 : ("class " : String).toList = 'c' :: "lass ".toList := by decide
    rw [h4, h5] at h2
    simp at h2
  · have hl : (Op.checkcast.message vm s t).toList.length ≤ 250 := by
      rw [em]
      simp only [String.toList_append, List.length_append, toString]
      have a1 : ("class " : String).toList.length = 6 := by decide
      have a2 : (" cannot be cast to class " : String).toList.length = 25 := by decide
      have a3 : (" (" : String).toList.length = 2 := by decide
      have a4 : (")" : String).toList.length = 1 := by decide
      omega
    have b1 := stringBytes_size_le (stringToUtf16 (Op.checkcast.message vm s t))
    have b2 := utf16_size_le (Op.checkcast.message vm s t)
    omega
theorem fc_spec {vm : Vm} {name : String} {c : ClassId} {k : Class} (h : vm.findClass name = some c) (hk : vm.classes[c]? = some k) : k.name = name ∧ k.hidden = none ∧ k.loader = none := by
  obtain ⟨hlt, hp, -⟩ := Array.findIdx?_eq_some_iff_getElem.mp h
  have e : vm.classes[c] = k := by
    have := Array.getElem?_eq_getElem hlt
    exact Option.some.inj (this.symm.trans hk)
  rw [e] at hp
  simp only [Bool.and_eq_true, beq_iff_eq, Option.isNone_iff_eq_none] at hp
  exact ⟨hp.1.1.1, hp.1.1.2, hp.2⟩
theorem XW.mods {s : State} (h : XW s) : ∀ m ∈ s.vm.modules, (m.loader.isSome || m.name == "java.base" || !(castPackages_1.any fun p => m.packages.contains p)) = true := by
  obtain ⟨U0, a0, -, -, hm, hw⟩ := h
  have e : s.vm.modules = U0.vm.modules := by rw [hw.alike.1]
  rw [e]
  unfold modulesRight_1 at hm
  exact fun m hx => List.all_eq_true.mp hm m hx
theorem alike_text {s : State} {vm' : Vm} (hX : XW s) (hal : s.vm.Alike vm') {C nm : String} {c t : ClassId} {ks kt : Class} (hc : s.vm.findClass C = some c) (ht : s.vm.findClass nm = some t) (hks : vm'.classes[c]? = some ks) (hkt : vm'.classes[t]? = some kt)
    (p1 : packageOf C ∈ castPackages_1) (p2 : packageOf nm ∈ castPackages_1) (l1 : (dotted C).toList.length ≤ 30) (l2 : (dotted nm).toList.length ≤ 30) :
    (Op.checkcast.message vm' ks kt == notModelled) = false ∧ (stringBytes (stringToUtf16 (Op.checkcast.message vm' ks kt))).size ≤ 1000 := by
  obtain ⟨k0, hk0, -⟩ := Vm.findClass_spec hc
  obtain ⟨t0, ht0, -⟩ := Vm.findClass_spec ht
  obtain ⟨a1, a2, a3⟩ := fc_spec hc hk0
  obtain ⟨b1, b2, b3⟩ := fc_spec ht ht0
  obtain ⟨k1, hk1, ek⟩ := hal.2.2 _ _ hk0
  obtain ⟨t1, ht1, et⟩ := hal.2.2 _ _ ht0
  cases hk1.symm.trans hks
  cases ht1.symm.trans hkt
  have n1 : ks.name = C := by rw [ek]; exact a1
  have n2 : ks.hidden = none := by rw [ek]; exact a2
  have n3 : ks.loader = none := by rw [ek]; exact a3
  have m1 : kt.name = nm := by rw [et]; exact b1
  have m2 : kt.hidden = none := by rw [et]; exact b2
  have m3 : kt.loader = none := by rw [et]; exact b3
  have hm : ∀ m ∈ vm'.modules, (m.loader.isSome || m.name == "java.base" || !(castPackages_1.any fun p => m.packages.contains p)) = true := by
    have e : vm'.modules = s.vm.modules := by rw [hal.1]
    rw [e]; exact hX.mods
  exact cast_text n2 m2 (by rw [n1]; exact l1) (by rw [m1]; exact l2) (home_len hm n3 (by rw [n1]; exact p1)) (home_len hm m3 (by rw [m1]; exact p2))
section CX
variable {p : Program} {l : Launch} {e : Env} {R : Room} {s : State} {m : MethodId} {args : Array Value} {below : List Frame} {meth : Method} {c : Code} {H : Heap} {locs : List Loc} {cells slots : Nat} {Q : State → Prop} {cc : ByteArray} {pc : Nat} {ls : Array Slot} {rest : List Value} {own C nm : String} {index a : Nat}
theorem r_castX0 {T : State} (X : Stand p l e R s m args below meth c T locs cells slots) (hexec : p.tables.exec = Jvm.exec) (hown : s.vm.findClass own = some m.cls) (hlink : (Cond.classLink own index nm).before args s = true)
    {cell : Cell} {cT : ClassId} {k0 : Class} (hcell : T.heap[a]? = some cell) (hobj : cell.vm.isStatics = false) (hk0 : s.vm.classes[cell.cls]? = some k0) (hcT : s.vm.findClass nm = some cT) (hasg : s.vm.assignable cell.cls cT = false)
    {g : JFrame} (hg : g.method = m) (hstack : g.stack = .ref a :: rest) (hdg : decode c.code g.pc = .ok (.checkcast index, 3)) :
    ∃ (vm' : Vm) (ks kt : Class), s.vm.Alike vm' ∧ vm'.classes[cell.cls]? = some ks ∧ vm'.classes[cT]? = some kt ∧ Stand p l e R s m args below meth c (T.setVm vm') locs cells slots ∧
      ∀ target, Steps p.tables e below (((T.setVm vm').setTop g).pushFrame (.throwNew "java/lang/ClassCastException" (some (Op.checkcast.message vm' ks kt)) none)) target → Steps p.tables e below (T.setTop g) target := by
  have hpl : e.platform.magicAccessors = ({} : Platform).magicAccessors := by rw [X.admits.platform]
  obtain ⟨c', hc', hcl⟩ := Cond.classLink_spec hown hlink e.platform hpl
  cases hcT.symm.trans hc'
  obtain ⟨dk, _, _, kt, hd, _, _, _, _, hkt, _, hopen⟩ := hcl.here
  have hcl₀ := X.warmed.classLinks hcl
  have hW' : s.WarmedH (T.vm.noted m.cls index (.cls cT)) := X.warmed.noted hd hopen (State.rightAt_cls hcl)
  obtain ⟨ks', hks', -⟩ := hW'.alike.2.2 _ _ hk0
  obtain ⟨kt', hkt', -⟩ := hW'.alike.2.2 _ _ hkt
  refine ⟨_, ks', kt', hW'.alike, hks', hkt', X.noted hW', fun target hrest => ?_⟩
  subst hg
  jvm_step X.here [hexec, hdg, Op.checkcast.wp_cold (e := e) (s := T) (f := g) X.here.top hstack (resolveClass_links e.toSetting hcl₀) hcl₀.ready,
    Op.checkcast.wp_ready (e := e) (s := T.setVm (T.vm.noted g.method.cls index (.cls cT))) (f := g) X.here.top hcl₀.ready hstack]
  refine ⟨cell, hcell, VmData.noStatics_of hobj, ks', hks', kt', hkt', ?_⟩
  have h1 : (T.vm.noted g.method.cls index (Resolved.cls cT)).assignable cell.cls cT = false := by rw [hW'.alike.assignable]; exact hasg
  simp only [State.vm_setVm, h1]
  exact hrest
theorem r_castX (hexec : p.tables.exec = Jvm.exec) (hb : c.code = cc) (hts : ∀ w ∈ lw_all, w.before args s = true) (hown : s.vm.findClass own = some m.cls) (hlink : Cond.classLink own index nm ∈ lw_all) (hX : XW s) (hc : iA C nm false s) (hr : isA s H a C) (p1 : packageOf C ∈ castPackages_1) (p2 : packageOf nm ∈ castPackages_1) (l1 : (dotted C).toList.length ≤ 30) (l2 : (dotted nm).toList.length ≤ 30)
    (hdg : decode cc pc = .ok (.checkcast index, 3)) (k : ∀ tx : String, (tx == notModelled) = false → (stringBytes (stringToUtf16 tx)).size ≤ 1000 → vx_Note p l e R s m args below meth c H locs cells slots Q (F0 m pc ls (.ref a :: rest)) "java/lang/ClassCastException" tx) : W p l e R s m args below meth c H locs cells slots Q (F0 m pc ls (.ref a :: rest)) := by
  obtain ⟨cell, h1, h2, h3⟩ := hr
  obtain ⟨c1, t1, g1, g2, g3⟩ := hc
  cases h3.symm.trans g1
  intro T hT X
  obtain ⟨k0, hk0, -⟩ := Vm.findClass_spec h3
  obtain ⟨vm', ks, kt, hal, hks, hkt, X', st⟩ := r_castX0 X hexec hown (hts _ hlink) (by rw [hT]; exact h1) h2 hk0 g2 g3 (g := F0 m pc ls (.ref a :: rest)) rfl rfl (by rw [hb]; exact hdg)
  obtain ⟨t1, t2⟩ := alike_text hX hal g1 g2 hks hkt p1 p2 l1 l2
  obtain ⟨t, a1, b1⟩ := k _ t1 t2 (T.setVm vm') hT X'
  exact ⟨t, st t a1, b1⟩
end CX
