section KQT
variable {p : Program} {l : Launch} {e : Env} {F1 mc1 ms1 : Nat} {s : State} {m : MethodId} {args : Array Value} {below : List Frame} {meth : Method} {c : Code} {H : Heap} {locs : List Loc} {cells slots : Nat} {Q : State → Prop} {cc bytes : ByteArray} {pc nL nL1 index n : Nat} {ls : Array Slot} {rest : List Value} {E : En} {A : Nat → Prop} {wc : va_W} {own C : String} {y : MethodName} {F mc ms : Nat} {As : List Value} {b : Nat} {S : Type}
theorem kQT {ret : FieldType} {post : S → Prop} {ws1 : S → va_W} {a0 : S → Nat} (f : va_W → va_W) (hexec : p.tables.exec = Jvm.exec) (hb : c.code = cc) (hml : c.maxLocals = nL1) (hts : ∀ w ∈ lw_all, w.before args s = true) (hown : s.vm.findClass own = some m.cls) (hK : KX E A s) (hA : ∀ q, s.heap.size ≤ q → A q) (hl : ls.size = nL1) (hf : isCtx f) (hI : wI E A s H locs (f wc))
    (hM : CtT l E y bytes nL ret F mc ms (.ref b :: As) wc post ws1 a0) (hlk : Cond.methodLink own index y ∈ lw_all) (hsm : Cond.sameMethod y.cls y.cls y.name y.desc ∈ lw_all) (hse : Cond.selects C y y ∈ lw_all) (hin : Cond.instanceMethod y ∈ lw_all) (hini : Cond.initialized y.cls ∈ lw_all) (hcd : Cond.code y bytes nL (some ret) ∈ lw_all) (hd : y.cls ≠ "java/lang/invoke/MethodHandle" ∧ y.cls ≠ "java/lang/invoke/VarHandle" ∧ (parseMethodDescriptor y.desc).map (fun d => d.parameters.length) = some n) (q0 ci : Nat) {q : vw_C} {fs : List Value} (hc : CL[ci]? = some q) (hq : q.1 = C) (hrc : wc[q0]? = some (b, .inr (ci, fs))) (hn : As.length = n) (hF : F + 1 ≤ F1) (hL : nL ≤ 81) (hcs : cells + mc ≤ mc1 ∧ slots + ms ≤ ms1) (hroom : (rest.map fun v => v.category).sum ≤ 8) (hdg : decode cc pc = .ok (.invokevirtual index, 3))
    (kk : ∀ (u : S) (H1 : Heap) (locs1 : List Loc), post u → wI E A s H1 locs1 (f (ws1 u)) → H.size ≤ H1.size → W p l e (rmF F1 mc1 ms1) s m args below meth c H1 locs1 (cells + mc) (slots + ms) Q (F0 m (pc + 3) ls (.ref (a0 u) :: rest))) : W p l e (rmF F1 mc1 ms1) s m args below meth c H locs cells slots Q (F0 m pc ls (As.reverse ++ .ref b :: rest)) := by
  have hFc := cut_A hf hI.2.1 hI.2.2 hA
  have hrcv := va_recv hK.1 (cut_P hf hI.1) hc hrc
  rw [hq] at hrcv
  have hG : GoodIn lw_all (ws_ y bytes nL (some ret)) := lw_meth hcd
  have hlen : ∀ sig, parseMethodDescriptor y.desc = some sig → n = sig.parameters.length := fun sig h => by
    have h2 := hd.2.2
    rw [h] at h2
    exact (Option.some.inj h2).symm
  have cw : va_CU (rmF F1 mc1 ms1) s args own C y.cls index y y bytes nL (some ret) (ws_ y bytes nL (some ret)) (rmF F mc ms) mc ms n :=
    ⟨⟨rfl, rfl, hF, by show 8 + (nL + 11) + 100 * F ≤ 100 * F1; omega, pay_in hts hG, List.mem_cons_self⟩, hts _ hcd, hts _ hini, ⟨hd.1, hd.2.1⟩, hlen, hts _ hlk, hts _ hsm, va_Decl.of (hts _ hin) (hts _ hcd), (hts _ hse), hts _ hin⟩
  refine va_callr (va_runU (As := As) (rest := rest) ⟨hexec, hb, hml, hown, hts⟩ (hM H.size) cw ⟨mPre_blind, hrcv, mPre_at hf hA hK hI⟩ rfl hn hl rfl (lv_room hroom) hdg hcs) hI.2.2 (fun q _ h => hFc q h) hFc (fun u r t H1 locs1 ht hvm hp hB hz hk hS => ?_)
  obtain ⟨rfl, hB1, hB2⟩ := hB
  rw [ht] at hB1
  obtain ⟨j1, j2⟩ := join_PD hf hI.1 hI.2.1 hFc hk hB1 hB2
  exact kk u H1 locs1 hp ⟨j1, j2, hS⟩ hz
end KQT

theorem c13_length (l : Launch) (E : En) (qb : Nat) (vb : Nat) (mb : Nat) (kb : Nat) (fb : Nat → Int32)   : CtI l E yJ13_length cJ13_length 1 .int 1 0 0 [.ref qb] (sbW E qb vb mb kb fb) (fun (r : Int32) (u : Unit) => r = nI kb) (fun (u : Unit) => sbW E qb vb mb kb fb) := by
  refine CtI.of (by decide +kernel) (Nat.le_of_ble_eq_true rfl) ?_
  intro pR eR sR mR aR bR tR cR AR ls QR hxR hbR hmlR hts hown hlk hnm hA hK hI hl hret
  have hl : lv_has ls 1 [(0, .ref qb)] := hl
  refine lv_aload_n hxR hbR dJ13_length_0 rfl (lv_at hl 0 rfl) ?_
  refine kSuI (n := 0) (As := []) (rest := []) (fun w => w) hxR hbR hmlR hts hown hK hA hl.1 isCtx.id hI (c12_length l E qb vb mb kb fb) (lw_SU q989 q985 q874 q984 q108 q990) ⟨by decide, by decide +kernel⟩ 0 16 rfl sbW_o rfl (Nat.le_of_ble_eq_true rfl) (Nat.le_of_ble_eq_true rfl) ⟨Nat.le_of_ble_eq_true rfl, Nat.le_of_ble_eq_true rfl⟩ (Nat.le_of_ble_eq_true rfl) dJ13_length_1 (fun r_1 u H locs hp hI hz => ?_)
  have hp : r_1 = nI kb := hp
  subst hp
  have hI : wI E AR sR H locs (sbW E qb vb mb kb fb) := hI
  exact hret () (nI kb) _ _ _ _ _ _ dJ13_length_4 hI (by show (nI kb) = nI kb; rfl) (Nat.le_of_ble_eq_true rfl) (Nat.le_of_ble_eq_true rfl) rfl
