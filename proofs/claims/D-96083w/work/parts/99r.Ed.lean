section CLB
variable {p : Program} {l : Launch} {e : Env} {F1 mc1 ms1 : Nat} {s : State} {m : MethodId} {args : Array Value} {below : List Frame} {meth : Method} {c : Code} {H : Heap} {locs : List Loc} {cells slots : Nat} {Q : State → Prop} {cc : ByteArray} {pc : Nat} {ls : Array Slot} {rest : List Value} {E : En} {A : Nat → Prop} {ws : va_W} {a : Nat}
theorem r_cloneB (hexec : p.tables.exec = Jvm.exec) (hb : c.code = cc) (hml : c.maxLocals = ls.size) {own : String} {index : Nat} (hts : ∀ w ∈ lw_all, w.before args s = true) (hown : s.vm.findClass own = some m.cls) (hA : ∀ q, s.heap.size ≤ q → A q) (hlink : Cond.methodLink own index ⟨"[B", "clone", "()Ljava/lang/Object;"⟩ ∈ lw_all)
    (hK : KX E A s) (hI : wI E A s H locs ws) (q0 : Nat) {n : Nat} {f : Nat → Int32} (ha : ws[q0]? = some (a, .inl (E.2 4, n, .inl f))) (hfit : fitB f) (hF : 1 ≤ F1) (hlocals : (rest.map fun v => v.category).sum + 14 ≤ 100 * F1) (hcells : cells + 1 ≤ mc1) (hslots : slots + n ≤ ms1) (hdg : decode cc pc = .ok (.invokevirtual index, 3))
    (kk : ∀ (q : Nat) (H1 : Heap), wI E A s H1 locs (ws ++ byW E q n f) → W p l e (rmF F1 mc1 ms1) s m args below meth c H1 locs (cells + 1) (slots + n) Q (F0 m (pc + 3) ls (.ref q :: rest))) : W p l e (rmF F1 mc1 ms1) s m args below meth c H locs cells slots Q (F0 m pc ls (.ref a :: rest)) := by
  refine va_clone (ad := "[B") (ty := .byte) hexec hb hml hown (hts _ hlink) (hts _ q903) (hts _ q904) (hts _ q905) (hts _ q906) (hK.xw.cast q907) hK.1 hI.1 hI.2.1 hI.2.2 hA q0 4 ha rfl (arr_nm hK (t0 := 4) rfl (fun h => h) rfl) (fun i v h => ?_) hF hlocals hcells hslots hdg (fun q H1 _ h2 h3 h4 => kk q H1 ⟨h2, h3, h4⟩)
  rw [vp_cell_i] at h
  have hi : i < n := by
    have := (Array.getElem?_eq_some_iff.mp h).1
    rw [arrV_size] at this
    exact this
  rw [arrV_read _ _ hi] at h
  cases h
  exact hfit i
end CLB

theorem c16_copyOfRange (l : Launch) (E : En) (qa : Nat) (na : Nat) (fa : Nat → Int32) (x : Nat) (hx : x ≤ na ∧ na ≤ 1000) (hfa : fitB fa) : CtR l E yJ16_copyOfRange cJ16_copyOfRange 3 (Jvm.ClassFile.FieldType.array Jvm.ClassFile.FieldType.byte) 3 1 1000 [.ref qa, .int 0, .int (nI x)] (byW E qa na fa) (fun (u : (Nat → Int32)) => (∀ j, j < x → u j = fa j) ∧ fitB u) (fun (u : (Nat → Int32)) (q : Nat) => byW E qa na fa ++ (byW E q x u)) := by
  refine CtR.of (by decide +kernel) (Nat.le_of_ble_eq_true rfl) (by first | exact Or.inl ⟨_, rfl⟩ | exact Or.inr ⟨_, rfl⟩) ?_
  intro pR eR sR mR aR bR tR cR AR ls QR hxR hbR hmlR hts hown hlk hnm hA hK hI hl hret
  have hl : lv_has ls 3 [(0, .ref qa), (1, .int 0), (2, .int (nI x))] := hl
  refine lv_iload_n hxR hbR dJ16_copyOfRange_0 rfl (lv_at hl 1 rfl) ?_
  refine lv_if_ne (tgt := 10) hxR hbR dJ16_copyOfRange_1 (by decide) (fun c => absurd c (by decide)) (fun _ => ?_)
  refine lv_iload_n hxR hbR dJ16_copyOfRange_4 rfl (lv_at hl 2 rfl) ?_
  refine lv_aload_n hxR hbR dJ16_copyOfRange_5 rfl (lv_at hl 0 rfl) ?_
  refine r_alen (v := nI na) hxR hbR hK hI 0 4 rfl rfl rfl dJ16_copyOfRange_6 ?_
  refine lv_icmp_eq (tgt := 17) hxR hbR dJ16_copyOfRange_7 (by decide) (fun c_7 => ?_) (fun c_7 => ?_)
  · skip
    have c_7 : x = na := (n_eq (a := x) (b := na) (by omega) (by omega)).mp c_7
    refine lv_aload_n hxR hbR dJ16_copyOfRange_17 rfl (lv_at hl 0 rfl) ?_
    refine r_cloneB hxR hbR (by rw [hmlR]; exact hl.1.symm) hts hown hA q902 hK hI 0 rfl hfa (Nat.le_of_ble_eq_true rfl) (Nat.le_of_ble_eq_true rfl) (Nat.le_of_ble_eq_true rfl) (by omega) dJ16_copyOfRange_18 (fun q_18 H hI => ?_)
    have hI : wI E AR sR H _ (byW E qa na fa ++ (byW E q_18 na fa)) := hI
    refine r_castT hxR hbR hts hown q908 (row_self hK (so := 0) (by decide)) (isA.arr hI (q0 := (1 + 0)) (he_r (Nat.le_of_ble_eq_true rfl) (Nat.le_of_ble_eq_true rfl) rfl) (arr_nm hK (t0 := 4) rfl (fun h => h) rfl)) dJ16_copyOfRange_21 ?_
    have hI := wI_w (ws' := byW E qa na fa ++ (byW E q_18 x fa)) (by rw [c_7]) hI
    exact hret fa q_18 _ _ _ _ _ _ dJ16_copyOfRange_24 hI (by show (∀ j, j < x → fa j = fa j) ∧ fitB fa; exact ⟨fun _ _ => rfl, hfa⟩) (Nat.le_of_ble_eq_true rfl) (by omega)
  · skip
    have c_7 : ¬ x = na := fun zz => c_7 ((n_eq (a := x) (b := na) (by omega) (by omega)).mpr zz)
    refine lv_aload_n hxR hbR dJ16_copyOfRange_10 rfl (lv_at hl 0 rfl) ?_
    refine lv_iload_n hxR hbR dJ16_copyOfRange_11 rfl (lv_at hl 1 rfl) ?_
    refine lv_iload_n hxR hbR dJ16_copyOfRange_12 rfl (lv_at hl 2 rfl) ?_
    refine kSR (n := 3) (As := [.ref qa, .int 0, .int (nI x)]) (rest := []) (fun w => w) hxR hbR hmlR hts hown hK hA hl.1 isCtx.id hI (c16_copyOfRangeByte l E qa na fa x hx hfa) (lw_S q995 q996 q112 q997) (by decide +kernel) rfl (Nat.le_of_ble_eq_true rfl) (Nat.le_of_ble_eq_true rfl) ⟨Nat.le_of_ble_eq_true rfl, Nat.le_of_ble_eq_true rfl⟩ (Nat.le_of_ble_eq_true rfl) dJ16_copyOfRange_13 (fun u r_13 H locs hp hI hz => ?_)
    obtain ⟨f2_13, rfl⟩ : ∃ z, z = u := ⟨_, rfl⟩
    have hI : wI E AR sR H locs (byW E qa na fa ++ (byW E r_13 x f2_13)) := hI
    have hp : (∀ j, j < x → f2_13 j = fa j) ∧ fitB f2_13 := hp
    obtain ⟨h2_13, h3_13⟩ := hp
    exact hret f2_13 r_13 _ _ _ _ _ _ dJ16_copyOfRange_16 hI (by show (∀ j, j < x → f2_13 j = fa j) ∧ fitB f2_13; exact ⟨h2_13, h3_13⟩) (Nat.le_of_ble_eq_true rfl) (Nat.le_of_ble_eq_true rfl)
