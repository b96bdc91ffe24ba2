/-! A CALL THROUGH THE INTERFACE Sends, and one that lands in its default method -/
theorem XW.leaf {w : Cond} {args : Array Value} {s : State} (h : XW s) (hk : (w.onTables && w.keeps) = true) (hw : w ∈ cLeaves narrow_1) : w.before args s = true := by
  obtain ⟨U0, a0, -, h2, -, h3⟩ := h
  exact word_at h3 (Or.inl hk) (cLeaves_ok _ h2 _ hw)
def sDf : Cond := .sameMethod "ThreeStrangers$Coachman" "ThreeStrangers$Sends" "sends" "(LThreeStrangers$Groups;I)I"
theorem XW.lands {C : String} {args : Array Value} {s : State} (h : XW s) (hw : Cond.landsInDefault C (⟨RX7, "sends", "(LThreeStrangers$Groups;I)I"⟩ : MethodName) yX16_sends ∈ cLeaves narrow_1) (hs : sDf ∈ cLeaves narrow_1) : (Cond.landsInDefault C (⟨RX7, "sends", "(LThreeStrangers$Groups;I)I"⟩ : MethodName) yX16_sends).before args s = true := by
  obtain ⟨U0, a0, -, h2, -, h3⟩ := h
  have hl := cLeaves_ok _ h2 _ hw
  have hs0 := cLeaves_ok _ h2 _ hs
  obtain ⟨c, k, r, hc, hk, hni, -, -⟩ := Cond.sameMethod_found hs0
  obtain ⟨k0, hk0, hname⟩ := Vm.findClass_spec hc
  cases hk.symm.trans hk0
  have hf := State.methodFound?_setVm_class h3.alike hc hk hni (signaturePolymorphic_of_name (by rw [hname]; exact ⟨by decide, by decide⟩)) "sends" "(LThreeStrangers$Groups;I)I"
  have e := (Cond.landsInDefault_setVm (args' := args) (args := a0) (cls := C) (x := (⟨RX7, "sends", "(LThreeStrangers$Groups;I)I"⟩ : MethodName)) (y := yX16_sends) h3.alike hf).trans hl
  exact e
theorem XW.face {C : String} {y : MethodName} {s : State} (h : XW s) (h3 : Cond.publicMethod y ∈ lw_tbl) (h4 : Cond.unhidden C "sends" "(LThreeStrangers$Groups;II)I" ∈ lw_tbl) (h5 : Cond.castable C RX16 ∈ lw_tbl) : va_Fw C (⟨RX16, "sends", "(LThreeStrangers$Groups;II)I"⟩ : MethodName) y s := by
  obtain ⟨U0, a0, h1, -, -, hw⟩ := h
  have t : ∀ {w : Cond}, w ∈ lw_tbl → (∀ C y, w ≠ .selects C y y) → w.before a0 U0 = true := fun hm hn => h1 _ (tbl_t hm hn)
  exact (va_Fw.of (t q683 (fun _ _ e => Cond.noConfusion e)) (t q682 (fun _ _ e => Cond.noConfusion e)) (t h3 (fun _ _ e => Cond.noConfusion e)) (t h4 (fun _ _ e => Cond.noConfusion e)) (t h5 (fun _ _ e => Cond.noConfusion e))).moved ⟨by decide, by decide⟩ hw.alike
theorem lw_F {own : String} {idx : Nat} {C : String} {x y : MethodName} {b : ByteArray} {L : Nat} {r : Option FieldType} (h1 : Cond.methodLink own idx x ∈ lw_all) (h2 : Cond.selects C x y ∈ lw_all) (h3 : Cond.instanceMethod y ∈ lw_all) (h4 : Cond.initialized y.cls ∈ lw_all) (h5 : Cond.code y b L r ∈ lw_all) : GoodIn lw_all (va_wsF own idx C x y (ws_ y b L r)) := by
  refine lw_app ?_ (lw_meth h5)
  intro w hw
  simp only [List.mem_cons, List.not_mem_nil, or_false] at hw
  rcases hw with e | e | e | e
  · rw [e]; exact h1
  · rw [e]; exact h2
  · rw [e]; exact h3
  · rw [e]; exact h4
section KFI
variable {p : Program} {l : Launch} {e : Env} {F1 mc1 ms1 : Nat} {s : State} {m : MethodId} {args : Array Value} {below : List Frame} {meth : Method} {c : Code} {H : Heap} {locs : List Loc} {cells slots : Nat} {Q : State → Prop} {cc bytes : ByteArray} {pc nL nL1 index n : Nat} {ls : Array Slot} {rest : List Value} {E : En} {A : Nat → Prop} {wc : va_W} {own C : String} {x y : MethodName} {F mc ms : Nat} {As : List Value} {b : Nat} {S : Type}
theorem kFI {count : Nat} {ret : FieldType} {post : Int32 → S → Prop} {ws1 : S → va_W} (f : va_W → va_W) (hexec : p.tables.exec = Jvm.exec) (hb : c.code = cc) (hml : c.maxLocals = nL1) (hts : ∀ w ∈ lw_all, w.before args s = true) (hown : s.vm.findClass own = some m.cls) (hK : KX E A s) (hA : ∀ q, s.heap.size ≤ q → A q) (hl : ls.size = nL1) (hf : isCtx f) (hI : wI E A s H locs (f wc))
    (hM : CtI l E y bytes nL ret F mc ms (.ref b :: As) wc post ws1) (hw : GoodIn lw_all (va_wsF own index C x y (ws_ y bytes nL (some ret)))) (hFw : va_Fw C x y s) (hd : x.cls ≠ "java/lang/invoke/MethodHandle" ∧ x.cls ≠ "java/lang/invoke/VarHandle" ∧ (parseMethodDescriptor x.desc).map (fun d => d.parameters.length) = some n) (q0 ci : Nat) {q : vw_C} {fs : List Value} (hc : CL[ci]? = some q) (hq : q.1 = C) (hrc : wc[q0]? = some (b, .inr (ci, fs))) (hn : As.length = n) (hF : F + 1 ≤ F1) (hL : nL ≤ 81) (hcs : cells + mc ≤ mc1 ∧ slots + ms ≤ ms1) (hroom : (rest.map fun v => v.category).sum ≤ 8) (hdg : decode cc pc = .ok (.invokeinterface index count, 5))
    (kk : ∀ (r : Int32) (u : S) (H1 : Heap) (locs1 : List Loc), post r u → wI E A s H1 locs1 (f (ws1 u)) → H.size ≤ H1.size → W p l e (rmF F1 mc1 ms1) s m args below meth c H1 locs1 (cells + mc) (slots + ms) Q (F0 m (pc + 5) ls (.int r :: rest))) : W p l e (rmF F1 mc1 ms1) s m args below meth c H locs cells slots Q (F0 m pc ls (As.reverse ++ .ref b :: rest)) := by
  have hFc := cut_A hf hI.2.1 hI.2.2 hA
  have hat := (hK.1.1 ci q hc).2
  rw [hq] at hat
  refine va_callFi (va_runF (As := As) (rest := rest) hat ⟨hexec, hb, hml, hown, hts⟩ (hM H.size) (va_cwF n hts hw rfl rfl rfl hFw hd ⟨hF, by show 8 + (nL + 11) + 100 * F ≤ 100 * F1; omega⟩) ⟨mPre_blind, by have h := va_recv hK.1 (cut_P hf hI.1) hc hrc; rw [hq] at h; exact h, mPre_at hf hA hK hI⟩ rfl hn hl rfl (lv_room hroom) hdg hcs) hI.2.2 (fun q _ h => hFc q h) hFc (fun r u t H1 locs1 ht hvm hp hB hz hk hS => ?_)
  obtain ⟨hB1, hB2⟩ := hB
  rw [ht] at hB1
  obtain ⟨j1, j2⟩ := join_PD hf hI.1 hI.2.1 hFc hk hB1 hB2
  exact kk r u H1 locs1 hp ⟨j1, j2, hS⟩ hz
/-- a call by the name of Coachman that lands in the default method of Sends -/
theorem kDI {post : Int32 → S → Prop} {ws1 : S → va_W} (f : va_W → va_W) (hexec : p.tables.exec = Jvm.exec) (hb : c.code = cc) (hml : c.maxLocals = nL1) (hts : ∀ w ∈ lw_all, w.before args s = true) (hown : s.vm.findClass RX0 = some m.cls) (hK : KX E A s) (hA : ∀ q, s.heap.size ≤ q → A q) (hl : ls.size = nL1) (hf : isCtx f) (hI : wI E A s H locs (f wc))
    (hM : CtI l E yX16_sends cX16_sends 3 .int F mc ms (.ref b :: As) wc post ws1) (hlk : Cond.methodLink RX0 158 (⟨RX7, "sends", "(LThreeStrangers$Groups;I)I"⟩ : MethodName) ∈ cLeaves narrow_1) (hsm : sDf ∈ cLeaves narrow_1) (hld : Cond.landsInDefault C (⟨RX7, "sends", "(LThreeStrangers$Groups;I)I"⟩ : MethodName) yX16_sends ∈ cLeaves narrow_1) (q0 ci : Nat) {q : vw_C} {fs : List Value} (hc : CL[ci]? = some q) (hq : q.1 = C) (hrc : wc[q0]? = some (b, .inr (ci, fs))) (hn : As.length = 2) (hF : F + 1 ≤ F1) (hcs : cells + mc ≤ mc1 ∧ slots + ms ≤ ms1) (hroom : (rest.map fun v => v.category).sum ≤ 8) (hdg : decode cc pc = .ok (.invokevirtual 158, 3))
    (kk : ∀ (r : Int32) (u : S) (H1 : Heap) (locs1 : List Loc), post r u → wI E A s H1 locs1 (f (ws1 u)) → H.size ≤ H1.size → W p l e (rmF F1 mc1 ms1) s m args below meth c H1 locs1 (cells + mc) (slots + ms) Q (F0 m (pc + 3) ls (.int r :: rest))) : W p l e (rmF F1 mc1 ms1) s m args below meth c H locs cells slots Q (F0 m pc ls (As.reverse ++ .ref b :: rest)) := by
  have hFc := cut_A hf hI.2.1 hI.2.2 hA
  have hrcv := va_recv hK.1 (cut_P hf hI.1) hc hrc
  rw [hq] at hrcv
  obtain ⟨cellB, r1, r2, r3⟩ := hrcv
  have hG : GoodIn lw_all (ws_ yX16_sends cX16_sends 3 (some .int)) := lw_meth q679
  have hBk : Back l (rmF F1 mc1 ms1) p e below s args yX16_sends 3 8 (PreOf (rmF F1 mc1 ms1) mc ms (va_Pc (.ref b :: As) (mPre E H.size wc))) (PostOf (va_Qi post (fun u t => wB E (va_A wc H.size) (ws1 u) t) (va_A wc H.size)) mc ms (va_A wc H.size)) :=
    back_of (bytes := cX16_sends) (maxL := 3) (ret := some .int) (hM H.size) mPre_blind rfl rfl hF (by show 8 + (3 + 11) + 100 * F ≤ 100 * F1; omega) (pay_in hts hG) List.mem_cons_self (fun a' U hW => word_at hW (Or.inl rfl) (hts _ q2064))
  refine va_calli (rest := rest) (free := va_A wc H.size) (mc := mc) (ms := ms) (a := (Value.ref b :: As).toArray) (post := post) (B := fun u t => wB E (va_A wc H.size) (ws1 u) t) (A1 := va_A wc H.size) ?_ hI.2.2 (fun q _ h => hFc q h) hFc (fun r u t H1 locs1 ht hvm hp hB hz hk hS => ?_)
  · intro T hT X
    obtain ⟨v, vm₁, ⟨U', l2, c2, s2⟩, hW₁, X', ⟨g', mk, t, L, e1, e2, hq9, h1, hL, h2, h3⟩, st⟩ := Stand.virtualBackUpD X hexec (own := RX0) (index := 158) (owner := RX16) (x := (⟨RX7, "sends", "(LThreeStrangers$Groups;I)I"⟩ : MethodName)) (y := yX16_sends) (C := C) hown (hK.xw.leaf rfl hlk) (hK.xw.leaf rfl hsm) (va_Nw.use rfl (hK.xw.decl q671)) ⟨by decide, by decide⟩ (hK.xw.lands hld hsm) (hts _ q677) hBk (b := b) (cB := cellB.cls) r3 ⟨cellB, by rw [hT]; exact r1, rfl, r2⟩
      (g := F0 m pc ls (As.reverse ++ .ref b :: rest)) rfl (hl.trans hml.symm) (Steps.refl _) (argsL := As) (rest := rest) (fun sig h => by rw [hn]; have h9 : parseMethodDescriptor "(LThreeStrangers$Groups;I)I" = some sig := h; have h8 : (parseMethodDescriptor "(LThreeStrangers$Groups;I)I").map (fun d => d.parameters.length) = some 2 := (by decide +kernel); rw [h9] at h8; exact (Option.some.inj h8).symm) rfl (lv_room hroom) (by rw [hb]; exact hdg)
      (fun vm₁ hW₁ => ⟨hcs.1, hcs.2, (mPre_at hf hA hK hI) (T.setVm vm₁) hT hW₁⟩)
    dsimp only [Pt.U, Pt.locs, Pt.cells, Pt.slots] at X' e1 e2 h1 h2 h3 st
    subst h1; subst h2; subst h3
    exact ⟨v, (T.setVm vm₁).calling g' mk (Value.ref b :: As).toArray, t, U', L, hT, X', hL, e1, e2, hq9, fun target h => st.trans h⟩
  obtain ⟨hB1, hB2⟩ := hB
  rw [ht] at hB1
  obtain ⟨j1, j2⟩ := join_PD hf hI.1 hI.2.1 hFc hk hB1 hB2
  exact kk r u H1 locs1 hp ⟨j1, j2, hS⟩ hz
end KFI
