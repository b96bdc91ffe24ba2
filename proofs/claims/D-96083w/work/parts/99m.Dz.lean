/-- an array of bytes -/
def byW (E : En) (q n : Nat) (f : Nat → Int32) : va_W := [(q, .inl (E.2 4, n, .inl f))]
def fitB (f : Nat → Int32) : Prop := ∀ i, fits .byte (.int (f i)) = true
theorem cpy_in {f g : Nat → Int32} {N j : Nat} (h : j < N) : va_cpy f g 0 0 N j = f j := by
  unfold va_cpy
  rw [if_pos (by omega)]
  congr 1
  omega
theorem cpy_fit {f g : Nat → Int32} {N : Nat} (hf : fitB f) (hg : fitB g) : fitB (va_cpy f g 0 0 N) := by
  intro i
  unfold va_cpy
  split
  · exact hf _
  · exact hg i
section CB
variable {p : Program} {l : Launch} {e : Env} {F1 mc1 ms1 : Nat} {s : State} {m : MethodId} {args : Array Value} {below : List Frame} {meth : Method} {c : Code} {H : Heap} {locs : List Loc} {cells slots : Nat} {Q : State → Prop} {cc : ByteArray} {pc : Nat} {ls : Array Slot} {rest : List Value} {E : En} {A : Nat → Prop} {ws ws1 : va_W} {a : Nat}
theorem r_copyB (hexec : p.tables.exec = Jvm.exec) (hb : c.code = cc) (hml : c.maxLocals = ls.size) {own : String} {index : Nat} (hts : ∀ w ∈ lw_all, w.before args s = true) (hown : s.vm.findClass own = some m.cls) (hlink : Cond.methodLink own index arraycopyName ∈ lw_all) (hnat : Cond.native arraycopyName ∈ lw_all) (hstat : Cond.static arraycopyName ∈ lw_all) (hini : Cond.initialized "java/lang/System" ∈ lw_all)
    (hK : KX E A s) (hI : wI E A s H locs ws) (q0 q1 : Nat) {a0 n0 n1 N : Nat} {f g : Nat → Int32} (ha0 : ws[q0]? = some (a0, .inl (E.2 4, n0, .inl f))) (ha1 : ws[q1]? = some (a, .inl (E.2 4, n1, .inl g))) (h4 : N ≤ n0) (h5 : N ≤ n1) (hn : n0 < 2 ^ 31) (hfit : fitB f)
    (hF : 1 ≤ F1) (hlocals : (rest.map fun v => v.category).sum + (nativeFrameWords "java/lang/System" "arraycopy" 5 + 11) ≤ 100 * F1) (hw : ws.set q1 (a, .inl (E.2 4, n1, .inl (va_cpy f g 0 0 N))) = ws1) (hdg : decode cc pc = .ok (.invokestatic index, 3))
    (kk : ∀ (H1 : Heap) (locs1 : List Loc), wI E A s H1 locs1 ws1 → W p l e (rmF F1 mc1 ms1) s m args below meth c H1 locs1 cells slots Q (F0 m (pc + 3) ls rest)) : W p l e (rmF F1 mc1 ms1) s m args below meth c H locs cells slots Q (F0 m pc ls (.int (nI N) :: .int 0 :: .ref a :: .int 0 :: .ref a0 :: rest)) := by
  have hc : (nI N).toNatClampNeg = N := nI_clamp (by omega)
  have h0 : (0 : Int32).toNatClampNeg = 0 := rfl
  refine va_copyi hexec hb hml hown (hts _ hlink) (hts _ hnat) (hts _ hstat) (hts _ hini) hK.1 hI.1 hI.2.1 hI.2.2 q0 q1 4 4 ha0 ha1 rfl rfl rfl (by decide) (by decide) (nI_pos (by omega)) (by rw [hc, h0]; omega) (by rw [hc, h0]; omega) (fun i _ => hfit _) hF hlocals hdg (fun H1 locs1 h1 h2 h3 => kk H1 locs1 ?_)
  subst hw
  rw [hc, h0] at h1 h2
  exact ⟨h1, h2, h3⟩
end CB

theorem c16_copyOf (l : Launch) (E : En) (qa : Nat) (na : Nat) (fa : Nat → Int32) (x : Nat) (hx : na < x ∧ x ≤ 1000) (hfa : fitB fa) : CtR l E yJ16_copyOf cJ16_copyOf 3 (Jvm.ClassFile.FieldType.array Jvm.ClassFile.FieldType.byte) 2 1 1000 [.ref qa, .int (nI x)] (byW E qa na fa) (fun (u : (Nat → Int32)) => (∀ j, j < na → u j = fa j) ∧ fitB u) (fun (u : (Nat → Int32)) (q : Nat) => byW E qa na fa ++ (byW E q x u)) := by
  refine CtR.of (by decide +kernel) (Nat.le_of_ble_eq_true rfl) (by first | exact Or.inl ⟨_, rfl⟩ | exact Or.inr ⟨_, rfl⟩) ?_
  intro pR eR sR mR aR bR tR cR AR ls QR hxR hbR hmlR hts hown hlk hnm hA hK hI hl hret
  have hl : lv_has ls 3 [(0, .ref qa), (1, .int (nI x))] := hl
  refine lv_iload_n hxR hbR dJ16_copyOf_0 rfl (lv_at hl 1 rfl) ?_
  refine lv_aload_n hxR hbR dJ16_copyOf_1 rfl (lv_at hl 0 rfl) ?_
  refine r_alen (v := nI na) hxR hbR hK hI 0 4 rfl rfl rfl dJ16_copyOf_2 ?_
  refine lv_icmp_ne (tgt := 14) hxR hbR dJ16_copyOf_3 (by decide) (fun c_3 => ?_) (fun c_3 => ?_)
  · skip
    have c_3 : ¬ x = na := fun zz => c_3 ((n_eq (a := x) (b := na) (by omega) (by omega)).mpr zz)
    refine lv_iload_n hxR hbR dJ16_copyOf_14 rfl (lv_at hl 1 rfl) ?_
    refine r_newa (n := x) (a0 := (x, .inl (fun _ => 0))) hxR hbR hts hA hK hI (atype := .byte) rfl q385 4 rfl (fun h => h) (fun _ => rfl) (by omega) (by show x * 1 ≤ 536870912; omega) (Nat.le_of_ble_eq_true rfl) (by show 0 + x ≤ 1000; omega) dJ16_copyOf_15 (fun q_15 H hI => ?_)
    have hI : wI E AR sR H _ (byW E qa na fa ++ (byW E q_15 x (fun _ => 0))) := hI
    refine lv_astore_n (lv' := [(2, .ref q_15), (0, .ref qa), (1, .int (nI x))]) hxR hbR dJ16_copyOf_17 rfl hl (by decide) rfl (fun ls hl => ?_)
    refine lv_aload_n hxR hbR dJ16_copyOf_18 rfl (lv_at hl 1 rfl) ?_
    refine lv_iconst (v := 0) hxR hbR dJ16_copyOf_19 (by decide) ?_
    refine lv_aload_n hxR hbR dJ16_copyOf_20 rfl (lv_at hl 0 rfl) ?_
    refine lv_iconst (v := 0) hxR hbR dJ16_copyOf_21 (by decide) ?_
    refine lv_aload_n hxR hbR dJ16_copyOf_22 rfl (lv_at hl 1 rfl) ?_
    refine r_alen (v := nI na) hxR hbR hK hI 0 4 rfl (he_l rfl) rfl dJ16_copyOf_23 ?_
    refine lv_iload_n hxR hbR dJ16_copyOf_24 rfl (lv_at hl 2 rfl) ?_
    refine va_mmin hxR hbR (by rw [hmlR]; exact hl.1.symm) hown (hts _ q909) (hts _ q910) (hts _ q106) (hts _ q911) (Nat.le_of_ble_eq_true rfl) (Nat.le_of_ble_eq_true rfl) (Nat.le_of_ble_eq_true rfl) (by show 0 + x ≤ 1000; omega) dJ16_copyOf_25 ?_
    refine lv_as (y := nI (min na x)) (mn_n (by omega) (by omega)) ?_
    refine r_copyB (N := min na x) (ws1 := byW E qa na fa ++ (byW E q_15 x (va_cpy fa (fun _ => 0) 0 0 (min na x)))) hxR hbR (by rw [hmlR]; exact hl.1.symm) hts hown q912 q518 q517 q97 hK hI 0 (1 + 0) (he_l rfl) (he_r (Nat.le_of_ble_eq_true rfl) (Nat.le_of_ble_eq_true rfl) rfl) (by omega) (by omega) (by omega) hfa (Nat.le_of_ble_eq_true rfl) (Nat.le_of_ble_eq_true rfl) (hw_r (Nat.le_of_ble_eq_true rfl) (Nat.le_of_ble_eq_true rfl) rfl) dJ16_copyOf_28 (fun H locs hI => ?_)
    have e2 : ∀ j, j < na → (va_cpy fa (fun _ => 0) 0 0 (min na x)) j = fa j := fun j hj => cpy_in (by omega)
    have e3 : fitB (va_cpy fa (fun _ => 0) 0 0 (min na x)) := cpy_fit hfa (fun _ => rfl)
    generalize (va_cpy fa (fun _ => 0) 0 0 (min na x)) = zf at hI e2 e3
    refine lv_aload_n hxR hbR dJ16_copyOf_31 rfl (lv_at hl 0 rfl) ?_
    exact hret zf q_15 _ _ _ _ _ _ dJ16_copyOf_32 hI (by show (∀ j, j < na → zf j = fa j) ∧ fitB zf; exact ⟨e2, e3⟩) (Nat.le_of_ble_eq_true rfl) (by omega)
  · skip
    have c_3 : x = na := (n_eq (a := x) (b := na) (by omega) (by omega)).mp c_3
    exfalso
    omega
