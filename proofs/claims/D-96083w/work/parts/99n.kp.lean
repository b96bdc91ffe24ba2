theorem XW.priv {y : MethodName} {args : Array Value} {s : State} (h : XW s) (hw : Cond.privateMethod y ∈ lw_tbl) : (Cond.privateMethod y).before args s = true := by
  obtain ⟨U0, a0, h1, -, -, h3⟩ := h
  exact Cond.privateMethod_warm h3 (h1 _ (tbl_t hw (fun _ _ e => Cond.noConfusion e)))
theorem sel_priv {C : String} {y : MethodName} {args : Array Value} {s : State} {cC : ClassId} (hp : (Cond.privateMethod y).before args s = true) (hsm : (Cond.sameMethod y.cls y.cls y.name y.desc).before args s = true) (hin : (Cond.instanceMethod y).before args s = true) (hc : s.vm.findClass C = some cC) : (Cond.selects C y y).before args s = true := by
  obtain ⟨c, k, r, hcc, hk, hni, hf, hn⟩ := Cond.sameMethod_found hsm
  have hn2 : s.methodNamed? y = some r := hn
  obtain ⟨mk, methM, q1, q2, -⟩ := Cond.instanceMethod_spec hin
  cases hn2.symm.trans q1
  have p3 := Cond.privateMethod_at hp _ _ q1 q2
  obtain ⟨kc, hkc, hkn⟩ := className_of_methodNamed hn2
  have e : r.cls = c := Option.some.inj ((findClass_of_methodNamed hn2).symm.trans hcc)
  have hk2 : s.vm.classes[r.cls]? = some k := by rw [e]; exact hk
  simp [Cond.before, Cond.holds, Cond.value, hc, hf, hn2, selectMethod_private q2 p3, hk2, hni]
section KP
variable {p : Program} {l : Launch} {e : Env} {F1 mc1 ms1 : Nat} {s : State} {m : MethodId} {args : Array Value} {below : List Frame} {meth : Method} {c : Code} {H : Heap} {locs : List Loc} {cells slots : Nat} {Q : State → Prop} {cc bytes : ByteArray} {pc nL nL1 index n : Nat} {ls : Array Slot} {rest : List Value} {E : En} {A : Nat → Prop} {wc : va_W} {own C : String} {y : MethodName} {F mc ms : Nat} {As : List Value} {b : Nat} {S : Type}
theorem kPI {ret : FieldType} {post : Int32 → S → Prop} {ws1 : S → va_W} (f : va_W → va_W) (hexec : p.tables.exec = Jvm.exec) (hb : c.code = cc) (hml : c.maxLocals = nL1) (hts : ∀ w ∈ lw_all, w.before args s = true) (hown : s.vm.findClass own = some m.cls) (hK : KX E A s) (hA : ∀ q, s.heap.size ≤ q → A q) (hl : ls.size = nL1) (hf : isCtx f) (hI : wI E A s H locs (f wc))
    (hM : CtI l E y bytes nL ret F mc ms (.ref b :: As) wc post ws1) (hlk : Cond.methodLink own index y ∈ lw_all) (hsm : Cond.sameMethod y.cls y.cls y.name y.desc ∈ lw_all) (hpr : Cond.privateMethod y ∈ lw_tbl) (hin : Cond.instanceMethod y ∈ lw_all) (hini : Cond.initialized y.cls ∈ lw_all) (hcd : Cond.code y bytes nL (some ret) ∈ lw_all) (hd : y.cls ≠ "java/lang/invoke/MethodHandle" ∧ y.cls ≠ "java/lang/invoke/VarHandle" ∧ (parseMethodDescriptor y.desc).map (fun d => d.parameters.length) = some n) (q0 ci : Nat) {q : vw_C} {fs : List Value} (hc : CL[ci]? = some q) (hq : q.1 = C) (hrc : wc[q0]? = some (b, .inr (ci, fs))) (hn : As.length = n) (hF : F + 1 ≤ F1) (hL : nL ≤ 81) (hcs : cells + mc ≤ mc1 ∧ slots + ms ≤ ms1) (hroom : (rest.map fun v => v.category).sum ≤ 8) (hdg : decode cc pc = .ok (.invokevirtual index, 3))
    (kk : ∀ (r : Int32) (u : S) (H1 : Heap) (locs1 : List Loc), post r u → wI E A s H1 locs1 (f (ws1 u)) → H.size ≤ H1.size → W p l e (rmF F1 mc1 ms1) s m args below meth c H1 locs1 (cells + mc) (slots + ms) Q (F0 m (pc + 3) ls (.int r :: rest))) : W p l e (rmF F1 mc1 ms1) s m args below meth c H locs cells slots Q (F0 m pc ls (As.reverse ++ .ref b :: rest)) := by
  have hFc := cut_A hf hI.2.1 hI.2.2 hA
  have hrcv := va_recv hK.1 (cut_P hf hI.1) hc hrc
  rw [hq] at hrcv
  have hG : GoodIn lw_all (ws_ y bytes nL (some ret)) := lw_meth hcd
  have hlen : ∀ sig, parseMethodDescriptor y.desc = some sig → n = sig.parameters.length := fun sig h => by
    have h2 := hd.2.2
    rw [h] at h2
    exact (Option.some.inj h2).symm
  have cw : va_CU (rmF F1 mc1 ms1) s args own C y.cls index y y bytes nL (some ret) (ws_ y bytes nL (some ret)) (rmF F mc ms) mc ms n :=
    ⟨⟨rfl, rfl, hF, by show 8 + (nL + 11) + 100 * F ≤ 100 * F1; omega, pay_in hts hG, List.mem_cons_self⟩, hts _ hcd, hts _ hini, ⟨hd.1, hd.2.1⟩, hlen, hts _ hlk, hts _ hsm, va_Decl.of (hts _ hin) (hts _ hcd), (sel_priv (hK.xw.priv hpr) (hts _ hsm) (hts _ hin) hrcv.choose_spec.2.2), hts _ hin⟩
  refine va_calli (va_runU (As := As) (rest := rest) ⟨hexec, hb, hml, hown, hts⟩ (hM H.size) cw ⟨mPre_blind, hrcv, mPre_at hf hA hK hI⟩ rfl hn hl rfl (lv_room hroom) hdg hcs) hI.2.2 (fun q _ h => hFc q h) hFc (fun r u t H1 locs1 ht hvm hp hB hz hk hS => ?_)
  obtain ⟨hB1, hB2⟩ := hB
  rw [ht] at hB1
  obtain ⟨j1, j2⟩ := join_PD hf hI.1 hI.2.1 hFc hk hB1 hB2
  exact kk r u H1 locs1 hp ⟨j1, j2, hS⟩ hz
theorem kPV {post : S → Prop} {ws1 : S → va_W} (f : va_W → va_W) (hexec : p.tables.exec = Jvm.exec) (hb : c.code = cc) (hml : c.maxLocals = nL1) (hts : ∀ w ∈ lw_all, w.before args s = true) (hown : s.vm.findClass own = some m.cls) (hK : KX E A s) (hA : ∀ q, s.heap.size ≤ q → A q) (hl : ls.size = nL1) (hf : isCtx f) (hI : wI E A s H locs (f wc))
    (hM : CtV l E y bytes nL F mc ms (.ref b :: As) wc post ws1) (hlk : Cond.methodLink own index y ∈ lw_all) (hsm : Cond.sameMethod y.cls y.cls y.name y.desc ∈ lw_all) (hpr : Cond.privateMethod y ∈ lw_tbl) (hin : Cond.instanceMethod y ∈ lw_all) (hini : Cond.initialized y.cls ∈ lw_all) (hcd : Cond.code y bytes nL none ∈ lw_all) (hd : y.cls ≠ "java/lang/invoke/MethodHandle" ∧ y.cls ≠ "java/lang/invoke/VarHandle" ∧ (parseMethodDescriptor y.desc).map (fun d => d.parameters.length) = some n) (q0 ci : Nat) {q : vw_C} {fs : List Value} (hc : CL[ci]? = some q) (hq : q.1 = C) (hrc : wc[q0]? = some (b, .inr (ci, fs))) (hn : As.length = n) (hF : F + 1 ≤ F1) (hL : nL ≤ 81) (hcs : cells + mc ≤ mc1 ∧ slots + ms ≤ ms1) (hroom : (rest.map fun v => v.category).sum ≤ 8) (hdg : decode cc pc = .ok (.invokevirtual index, 3))
    (kk : ∀ (u : S) (H1 : Heap) (locs1 : List Loc), post u → wI E A s H1 locs1 (f (ws1 u)) → H.size ≤ H1.size → W p l e (rmF F1 mc1 ms1) s m args below meth c H1 locs1 (cells + mc) (slots + ms) Q (F0 m (pc + 3) ls rest)) : W p l e (rmF F1 mc1 ms1) s m args below meth c H locs cells slots Q (F0 m pc ls (As.reverse ++ .ref b :: rest)) := by
  have hFc := cut_A hf hI.2.1 hI.2.2 hA
  have hrcv := va_recv hK.1 (cut_P hf hI.1) hc hrc
  rw [hq] at hrcv
  have hG : GoodIn lw_all (ws_ y bytes nL none) := lw_meth hcd
  have hlen : ∀ sig, parseMethodDescriptor y.desc = some sig → n = sig.parameters.length := fun sig h => by
    have h2 := hd.2.2
    rw [h] at h2
    exact (Option.some.inj h2).symm
  have cw : va_CU (rmF F1 mc1 ms1) s args own C y.cls index y y bytes nL none (ws_ y bytes nL none) (rmF F mc ms) mc ms n :=
    ⟨⟨rfl, rfl, hF, by show 8 + (nL + 11) + 100 * F ≤ 100 * F1; omega, pay_in hts hG, List.mem_cons_self⟩, hts _ hcd, hts _ hini, ⟨hd.1, hd.2.1⟩, hlen, hts _ hlk, hts _ hsm, va_Decl.of (hts _ hin) (hts _ hcd), (sel_priv (hK.xw.priv hpr) (hts _ hsm) (hts _ hin) hrcv.choose_spec.2.2), hts _ hin⟩
  refine va_callv (va_runU (As := As) (rest := rest) ⟨hexec, hb, hml, hown, hts⟩ (hM H.size) cw ⟨mPre_blind, hrcv, mPre_at hf hA hK hI⟩ rfl hn hl rfl (lv_room hroom) hdg hcs) hI.2.2 (fun q _ h => hFc q h) hFc (fun u t H1 locs1 ht hvm hp hB hz hk hS => ?_)
  obtain ⟨hB1, hB2⟩ := hB
  rw [ht] at hB1
  obtain ⟨j1, j2⟩ := join_PD hf hI.1 hI.2.1 hFc hk hB1 hB2
  exact kk u H1 locs1 hp ⟨j1, j2, hS⟩ hz
theorem kQI {ret : FieldType} {post : Int32 → S → Prop} {ws1 : S → va_W} (f : va_W → va_W) (hexec : p.tables.exec = Jvm.exec) (hb : c.code = cc) (hml : c.maxLocals = nL1) (hts : ∀ w ∈ lw_all, w.before args s = true) (hown : s.vm.findClass own = some m.cls) (hK : KX E A s) (hA : ∀ q, s.heap.size ≤ q → A q) (hl : ls.size = nL1) (hf : isCtx f) (hI : wI E A s H locs (f wc))
    (hM : CtI l E y bytes nL ret F mc ms (.ref b :: As) wc post ws1) (hlk : Cond.methodLink own index y ∈ lw_all) (hsm : Cond.sameMethod y.cls y.cls y.name y.desc ∈ lw_all) (hse : Cond.selects C y y ∈ lw_all) (hin : Cond.instanceMethod y ∈ lw_all) (hini : Cond.initialized y.cls ∈ lw_all) (hcd : Cond.code y bytes nL (some ret) ∈ lw_all) (hd : y.cls ≠ "java/lang/invoke/MethodHandle" ∧ y.cls ≠ "java/lang/invoke/VarHandle" ∧ (parseMethodDescriptor y.desc).map (fun d => d.parameters.length) = some n) (q0 ci : Nat) {q : vw_C} {fs : List Value} (hc : CL[ci]? = some q) (hq : q.1 = C) (hrc : wc[q0]? = some (b, .inr (ci, fs))) (hn : As.length = n) (hF : F + 1 ≤ F1) (hL : nL ≤ 81) (hcs : cells + mc ≤ mc1 ∧ slots + ms ≤ ms1) (hroom : (rest.map fun v => v.category).sum ≤ 8) (hdg : decode cc pc = .ok (.invokevirtual index, 3))
    (kk : ∀ (r : Int32) (u : S) (H1 : Heap) (locs1 : List Loc), post r u → wI E A s H1 locs1 (f (ws1 u)) → H.size ≤ H1.size → W p l e (rmF F1 mc1 ms1) s m args below meth c H1 locs1 (cells + mc) (slots + ms) Q (F0 m (pc + 3) ls (.int r :: rest))) : W p l e (rmF F1 mc1 ms1) s m args below meth c H locs cells slots Q (F0 m pc ls (As.reverse ++ .ref b :: rest)) := by
  have hFc := cut_A hf hI.2.1 hI.2.2 hA
  have hrcv := va_recv hK.1 (cut_P hf hI.1) hc hrc
  rw [hq] at hrcv
  have hG : GoodIn lw_all (ws_ y bytes nL (some ret)) := lw_meth hcd
  have hlen : ∀ sig, parseMethodDescriptor y.desc = some sig → n = sig.parameters.length := fun sig h => by
    have h2 := hd.2.2
    rw [h] at h2
    exact (Option.some.inj h2).symm
  have cw : va_CU (rmF F1 mc1 ms1) s args own C y.cls index y y bytes nL (some ret) (ws_ y bytes nL (some ret)) (rmF F mc ms) mc ms n :=
    ⟨⟨rfl, rfl, hF, by show 8 + (nL + 11) + 100 * F ≤ 100 * F1; omega, pay_in hts hG, List.mem_cons_self⟩, hts _ hcd, hts _ hini, ⟨hd.1, hd.2.1⟩, hlen, hts _ hlk, hts _ hsm, va_Decl.of (hts _ hin) (hts _ hcd), (hts _ hse), hts _ hin⟩
  refine va_calli (va_runU (As := As) (rest := rest) ⟨hexec, hb, hml, hown, hts⟩ (hM H.size) cw ⟨mPre_blind, hrcv, mPre_at hf hA hK hI⟩ rfl hn hl rfl (lv_room hroom) hdg hcs) hI.2.2 (fun q _ h => hFc q h) hFc (fun r u t H1 locs1 ht hvm hp hB hz hk hS => ?_)
  obtain ⟨hB1, hB2⟩ := hB
  rw [ht] at hB1
  obtain ⟨j1, j2⟩ := join_PD hf hI.1 hI.2.1 hFc hk hB1 hB2
  exact kk r u H1 locs1 hp ⟨j1, j2, hS⟩ hz
end KP
