section KSU
variable {p : Program} {l : Launch} {e : Env} {F1 mc1 ms1 : Nat} {s : State} {m : MethodId} {args : Array Value} {below : List Frame} {meth : Method} {c : Code} {H : Heap} {locs : List Loc} {cells slots : Nat} {Q : State → Prop} {cc bytes : ByteArray} {pc nL nL1 index n : Nat} {ls : Array Slot} {rest : List Value} {E : En} {A : Nat → Prop} {wc : va_W} {own C : String} {y : MethodName} {F mc ms : Nat} {As : List Value} {b : Nat} {S : Type}
theorem kSuT {ret : FieldType} {post : S → Prop} {ws1 : S → va_W} {a0 : S → Nat} (f : va_W → va_W) (hexec : p.tables.exec = Jvm.exec) (hb : c.code = cc) (hml : c.maxLocals = nL1) (hts : ∀ w ∈ lw_all, w.before args s = true) (hown : s.vm.findClass own = some m.cls) (hK : KX E A s) (hA : ∀ q, s.heap.size ≤ q → A q) (hl : ls.size = nL1) (hf : isCtx f) (hI : wI E A s H locs (f wc))
    (hM : CtT l E y bytes nL ret F mc ms (.ref b :: As) wc post ws1 a0) (hw : GoodIn lw_all (va_wsSU own index y (ws_ y bytes nL (some ret)))) (hd : y.name ≠ "<init>" ∧ (parseMethodDescriptor y.desc).map (fun d => d.parameters.length) = some n) (q0 ci : Nat) {q : vw_C} {fs : List Value} (hc : CL[ci]? = some q) (hrc : wc[q0]? = some (b, .inr (ci, fs))) (hn : As.length = n) (hF : F + 1 ≤ F1) (hL : nL ≤ 81) (hcs : cells + mc ≤ mc1 ∧ slots + ms ≤ ms1) (hroom : (rest.map fun v => v.category).sum ≤ 8) (hdg : decode cc pc = .ok (.invokespecial index, 3))
    (kk : ∀ (u : S) (H1 : Heap) (locs1 : List Loc), post u → wI E A s H1 locs1 (f (ws1 u)) → H.size ≤ H1.size → W p l e (rmF F1 mc1 ms1) s m args below meth c H1 locs1 (cells + mc) (slots + ms) Q (F0 m (pc + 3) ls (.ref (a0 u) :: rest))) : W p l e (rmF F1 mc1 ms1) s m args below meth c H locs cells slots Q (F0 m pc ls (As.reverse ++ .ref b :: rest)) := by
  have hFc := cut_A hf hI.2.1 hI.2.2 hA
  refine va_callr (va_runSU (As := As) (rest := rest) (hK.1.1 ci q hc).2 ⟨hexec, hb, hml, hown, hts⟩ (hM H.size) (va_cwSU n hts hw rfl rfl rfl hd ⟨hF, by show 8 + (nL + 11) + 100 * F ≤ 100 * F1; omega⟩) ⟨mPre_blind, va_recv hK.1 (cut_P hf hI.1) hc hrc, mPre_at hf hA hK hI⟩ rfl hn hl rfl (lv_room hroom) hdg hcs) hI.2.2 (fun q _ h => hFc q h) hFc (fun u r t H1 locs1 ht hvm hp hB hz hk hS => ?_)
  obtain ⟨rfl, hB1, hB2⟩ := hB
  rw [ht] at hB1
  obtain ⟨j1, j2⟩ := join_PD hf hI.1 hI.2.1 hFc hk hB1 hB2
  exact kk u H1 locs1 hp ⟨j1, j2, hS⟩ hz
end KSU

theorem j12_init (l : Launch) (E : En) (o : Nat)   : CtV l E yJ12_init cJ12_init 2 1 1 16 [.ref o, .int 16] ([(o, .inr (16, [.null, .int 0, .int 0, .int 0]))]) (fun (u : Nat) => True) (fun (u : Nat) => sbW E o u 16 0 (fun _ => 0)) := by
  refine CtV.of (by decide +kernel) (Nat.le_of_ble_eq_true rfl) ?_
  intro pR eR sR mR aR bR tR cR AR ls QR hxR hbR hmlR hts hown hlk hnm hA hK hI hl hret
  have hl : lv_has ls 2 [(0, .ref o), (1, .int 16)] := hl
  refine lv_aload_n hxR hbR dJ12_init_0 rfl (lv_at hl 0 rfl) ?_
  refine W.objInit hxR hbR hown (hts _ q847) (hts _ q123) (hts _ q124) rfl (by rw [hmlR]; exact hl.1) rfl dJ12_init_1 (Nat.le_of_ble_eq_true rfl) (Nat.le_of_ble_eq_true rfl) ?_
  refine W.eq (g2 := F0 mR 4 ls []) rfl ?_
  refine va_gets hxR hbR hK.2.2.2.2.1 hI.2.2 hown (hts _ q848) (fun _ h => h) dJ12_init_4 ?_
  refine lv_if_eq (tgt := 25) hxR hbR dJ12_init_7 (by decide) (fun c => absurd c (by decide)) (fun _ => ?_)
  refine lv_aload_n hxR hbR dJ12_init_10 rfl (lv_at hl 0 rfl) ?_
  refine lv_iload_n hxR hbR dJ12_init_11 rfl (lv_at hl 1 rfl) ?_
  refine r_newa (n := 16) (a0 := (16, .inl (fun _ => 0))) hxR hbR hts hA hK hI (atype := .byte) rfl q385 4 rfl (fun h => h) (fun _ => rfl) (by decide) (Nat.le_of_ble_eq_true rfl) (Nat.le_of_ble_eq_true rfl) (Nat.le_of_ble_eq_true rfl) dJ12_init_12 (fun q_12 H hI => ?_)
  have hI : wI E AR sR H _ ([(o, .inr (16, [.null, .int 0, .int 0, .int 0]))] ++ ([(q_12, .inl (E.2 4, 16, .inl (fun _ => 0)))])) := hI
  refine r_put (v := .ref q_12) (ws1 := [(o, .inr (16, [.ref q_12, .int 0, .int 0, .int 0]))] ++ ([(q_12, .inl (E.2 4, 16, .inl (fun _ => 0)))])) hxR hbR hts hown hK hI okJ13 (ci := 16) rfl 0 (he_l rfl) 0 (by decide) q862 rfl rfl rfl rfl (Nat.le_of_ble_eq_true rfl) (hw_l (Nat.le_of_ble_eq_true rfl) rfl) dJ12_init_14 (fun H locs hI => ?_)
  refine lv_aload_n hxR hbR dJ12_init_17 rfl (lv_at hl 0 rfl) ?_
  refine lv_iconst (v := 0) hxR hbR dJ12_init_18 (by decide) ?_
  refine r_put (v := .int 0) (ws1 := [(o, .inr (16, [.ref q_12, .int 0, .int 0, .int 0]))] ++ ([(q_12, .inl (E.2 4, 16, .inl (fun _ => 0)))])) hxR hbR hts hown hK hI okJ13 (ci := 16) rfl 0 (he_l rfl) 1 (by decide) q863 rfl rfl rfl rfl (Nat.le_of_ble_eq_true rfl) (hw_l (Nat.le_of_ble_eq_true rfl) rfl) dJ12_init_19 (fun H locs hI => ?_)
  refine lv_goto (tgt := 38) hxR hbR dJ12_init_22 (by decide) ?_
  have hI : wI E AR sR H locs (sbW E o q_12 16 0 (fun _ => 0)) := hI
  exact hret q_12 _ _ _ _ _ _ dJ12_init_38 hI trivial (Nat.le_of_ble_eq_true rfl) (Nat.le_of_ble_eq_true rfl)

theorem j13_init (l : Launch) (E : En) (o : Nat)   : CtV l E yJ13_init cJ13_init 1 2 1 16 [.ref o] ([(o, .inr (16, [.null, .int 0, .int 0, .int 0]))]) (fun (u : Nat) => True) (fun (u : Nat) => sbW E o u 16 0 (fun _ => 0)) := by
  refine CtV.of (by decide +kernel) (Nat.le_of_ble_eq_true rfl) ?_
  intro pR eR sR mR aR bR tR cR AR ls QR hxR hbR hmlR hts hown hlk hnm hA hK hI hl hret
  have hl : lv_has ls 1 [(0, .ref o)] := hl
  refine lv_aload_n hxR hbR dJ13_init_0 rfl (lv_at hl 0 rfl) ?_
  refine lv_bipush (v := 16) hxR hbR dJ13_init_1 (by decide) ?_
  refine kIV (n := 1) (As := [.int 16]) (rest := []) (fun w => w) hxR hbR hmlR hts hown hK hA hl.1 isCtx.id hI (j12_init l E o) q846 q108 q844 q845 rfl (by decide +kernel) rfl (Nat.le_of_ble_eq_true rfl) (Nat.le_of_ble_eq_true rfl) ⟨Nat.le_of_ble_eq_true rfl, Nat.le_of_ble_eq_true rfl⟩ (Nat.le_of_ble_eq_true rfl) dJ13_init_3 (fun u_3 H locs hp hI hz => ?_)
  have hI : wI E AR sR H locs (sbW E o u_3 16 0 (fun _ => 0)) := hI
  exact hret u_3 _ _ _ _ _ _ dJ13_init_6 hI trivial (Nat.le_of_ble_eq_true rfl) (Nat.le_of_ble_eq_true rfl)

theorem c13_append (l : Launch) (E : En) (qb : Nat) (vb : Nat) (mb : Nat) (kb : Nat) (fb : Nat → Int32) (x : Nat) (hx : x < 128) (hk : kb < 300 ∧ kb ≤ mb) (hm : mb ≤ 700) (hfb : fitB fb) : CtT l E yJ13_append cJ13_append 2 (Jvm.ClassFile.FieldType.object "java/lang/StringBuilder") 6 1 1000 [.ref qb, .int (nI x)] (sbW E qb vb mb kb fb) (fun (u : Nat × Nat × (Nat → Int32)) => (kb + 1 ≤ u.2.1 ∧ u.2.1 ≤ 700) ∧ (∀ j, j < kb → u.2.2 j = fb j) ∧ u.2.2 kb = nI x ∧ fitB u.2.2) (fun (u : Nat × Nat × (Nat → Int32)) => sbW E qb u.1 u.2.1 (kb + 1) u.2.2) (fun (u : Nat × Nat × (Nat → Int32)) => qb) := by
  refine CtT.of (by decide +kernel) (Nat.le_of_ble_eq_true rfl) (by first | exact Or.inl ⟨_, rfl⟩ | exact Or.inr ⟨_, rfl⟩) ?_
  intro pR eR sR mR aR bR tR cR AR ls QR hxR hbR hmlR hts hown hlk hnm hA hK hI hl hret
  have hl : lv_has ls 2 [(0, .ref qb), (1, .int (nI x))] := hl
  refine lv_aload_n hxR hbR dJ13_append_0 rfl (lv_at hl 0 rfl) ?_
  refine lv_iload_n hxR hbR dJ13_append_1 rfl (lv_at hl 1 rfl) ?_
  refine kSuT (n := 1) (As := [.int (nI x)]) (rest := []) (fun w => w) hxR hbR hmlR hts hown hK hA hl.1 isCtx.id hI (c12_append l E qb vb mb kb fb x hx hk hm hfb) (lw_SU q879 q2059 q874 q880 q108 q881) ⟨by decide, by decide +kernel⟩ 0 16 rfl sbW_o rfl (Nat.le_of_ble_eq_true rfl) (Nat.le_of_ble_eq_true rfl) ⟨Nat.le_of_ble_eq_true rfl, Nat.le_of_ble_eq_true rfl⟩ (Nat.le_of_ble_eq_true rfl) dJ13_append_2 (fun u H locs hp hI hz => ?_)
  obtain ⟨v2_2, m2_2, f2_2⟩ := u
  have hp : (kb + 1 ≤ m2_2 ∧ m2_2 ≤ 700) ∧ (∀ j, j < kb → f2_2 j = fb j) ∧ f2_2 kb = nI x ∧ fitB f2_2 := hp
  have hI : wI E AR sR H locs (sbW E qb v2_2 m2_2 (kb + 1) f2_2) := hI
  refine lv_pop hxR hbR dJ13_append_5 rfl ?_
  refine lv_aload_n hxR hbR dJ13_append_6 rfl (lv_at hl 0 rfl) ?_
  exact hret (v2_2, m2_2, f2_2) _ _ _ _ _ _ dJ13_append_7 hI hp (Nat.le_of_ble_eq_true rfl) (Nat.le_of_ble_eq_true rfl)
