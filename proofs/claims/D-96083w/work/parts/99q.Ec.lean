theorem c16_checkLength (l : Launch) (E : En)  (x y : Nat) (hx : x ≤ y ∧ y ≤ 1000) : CtV l E yJ16_checkLength cJ16_checkLength 2 0 0 0 [.int (nI x), .int (nI y)] (([] : va_W)) (fun (u : Unit) => True) (fun (u : Unit) => ([] : va_W)) := by
  refine CtV.of (by decide +kernel) (Nat.le_of_ble_eq_true rfl) ?_
  intro pR eR sR mR aR bR tR cR AR ls QR hxR hbR hmlR hts hown hlk hnm hA hK hI hl hret
  have hl : lv_has ls 2 [(0, .int (nI x)), (1, .int (nI y))] := hl
  refine lv_iload_n hxR hbR dJ16_checkLength_0 rfl (lv_at hl 1 rfl) ?_
  refine lv_iload_n hxR hbR dJ16_checkLength_1 rfl (lv_at hl 0 rfl) ?_
  refine lv_icmp_ge (tgt := 37) hxR hbR dJ16_checkLength_2 (by decide) (fun c_2 => ?_) (fun c_2 => ?_)
  · skip
    have c_2 : x ≤ y := (n_le (a := x) (b := y) (by omega) (by omega)).mp c_2
    exact hret () _ _ _ _ _ _ dJ16_checkLength_37 hI (by show True; trivial) (Nat.le_of_ble_eq_true rfl) (Nat.le_of_ble_eq_true rfl)
  · skip
    have c_2 : y < x := Nat.lt_of_not_le (fun zz => c_2 ((n_le (a := x) (b := y) (by omega) (by omega)).mpr zz))
    exfalso
    omega

theorem c16_copyOfRangeByte (l : Launch) (E : En) (qa : Nat) (na : Nat) (fa : Nat → Int32) (x : Nat) (hx : x ≤ na ∧ na ≤ 1000) (hfa : fitB fa) : CtR l E yJ16_copyOfRangeByte cJ16_copyOfRangeByte 5 (Jvm.ClassFile.FieldType.array Jvm.ClassFile.FieldType.byte) 2 1 1000 [.ref qa, .int 0, .int (nI x)] (byW E qa na fa) (fun (u : (Nat → Int32)) => (∀ j, j < x → u j = fa j) ∧ fitB u) (fun (u : (Nat → Int32)) (q : Nat) => byW E qa na fa ++ (byW E q x u)) := by
  refine CtR.of (by decide +kernel) (Nat.le_of_ble_eq_true rfl) (by first | exact Or.inl ⟨_, rfl⟩ | exact Or.inr ⟨_, rfl⟩) ?_
  intro pR eR sR mR aR bR tR cR AR ls QR hxR hbR hmlR hts hown hlk hnm hA hK hI hl hret
  have hl : lv_has ls 5 [(0, .ref qa), (1, .int 0), (2, .int (nI x))] := hl
  refine lv_iload_n hxR hbR dJ16_copyOfRangeByte_0 rfl (lv_at hl 1 rfl) ?_
  refine lv_iload_n hxR hbR dJ16_copyOfRangeByte_1 rfl (lv_at hl 2 rfl) ?_
  refine kSV (n := 2) (As := [.int 0, .int (nI x)]) (rest := []) (fun w => w ++ (byW E qa na fa)) hxR hbR hmlR hts hown hK hA hl.1 (isCtx.suf _) hI (c16_checkLength l E  0 x (by omega)) (lw_S q998 q999 q112 q1000) (by decide +kernel) rfl (Nat.le_of_ble_eq_true rfl) (Nat.le_of_ble_eq_true rfl) ⟨Nat.le_of_ble_eq_true rfl, Nat.le_of_ble_eq_true rfl⟩ (Nat.le_of_ble_eq_true rfl) dJ16_copyOfRangeByte_2 (fun u H locs hp hI hz => ?_)
  have hI : wI E AR sR H locs (byW E qa na fa) := hI
  refine lv_iload_n hxR hbR dJ16_copyOfRangeByte_5 rfl (lv_at hl 2 rfl) ?_
  refine lv_iload_n hxR hbR dJ16_copyOfRangeByte_6 rfl (lv_at hl 1 rfl) ?_
  refine lv_isub hxR hbR dJ16_copyOfRangeByte_7 ?_
  refine lv_as (y := nI (x - 0)) (pk_sub (a := x) (b := 0) (by omega)) ?_
  refine lv_as (y := nI x) rfl ?_
  refine lv_istore_n (lv' := [(3, .int (nI x)), (0, .ref qa), (1, .int 0), (2, .int (nI x))]) hxR hbR dJ16_copyOfRangeByte_8 rfl hl (by decide) rfl (fun ls hl => ?_)
  refine lv_iload_n hxR hbR dJ16_copyOfRangeByte_9 rfl (lv_at hl 0 rfl) ?_
  refine r_newa (n := x) (a0 := (x, .inl (fun _ => 0))) hxR hbR hts hA hK hI (atype := .byte) rfl q385 4 rfl (fun h => h) (fun _ => rfl) (by omega) (by show x * 1 ≤ 536870912; omega) (Nat.le_of_ble_eq_true rfl) (by show 0 + x ≤ 1000; omega) dJ16_copyOfRangeByte_10 (fun q_10 H hI => ?_)
  have hI : wI E AR sR H _ (byW E qa na fa ++ (byW E q_10 x (fun _ => 0))) := hI
  refine lv_astore (lv' := [(4, .ref q_10), (3, .int (nI x)), (0, .ref qa), (1, .int 0), (2, .int (nI x))]) hxR hbR dJ16_copyOfRangeByte_12 hl (by decide) rfl (fun ls hl => ?_)
  refine lv_aload_n hxR hbR dJ16_copyOfRangeByte_14 rfl (lv_at hl 2 rfl) ?_
  refine lv_iload_n hxR hbR dJ16_copyOfRangeByte_15 rfl (lv_at hl 3 rfl) ?_
  refine lv_aload hxR hbR dJ16_copyOfRangeByte_16 (lv_at hl 0 rfl) ?_
  refine lv_iconst (v := 0) hxR hbR dJ16_copyOfRangeByte_18 (by decide) ?_
  refine lv_aload_n hxR hbR dJ16_copyOfRangeByte_19 rfl (lv_at hl 2 rfl) ?_
  refine r_alen (v := nI na) hxR hbR hK hI 0 4 rfl (he_l rfl) rfl dJ16_copyOfRangeByte_20 ?_
  refine lv_iload_n hxR hbR dJ16_copyOfRangeByte_21 rfl (lv_at hl 3 rfl) ?_
  refine lv_isub hxR hbR dJ16_copyOfRangeByte_22 ?_
  refine lv_as (y := nI (na - 0)) (pk_sub (a := na) (b := 0) (by omega)) ?_
  refine lv_as (y := nI na) rfl ?_
  refine lv_iload_n hxR hbR dJ16_copyOfRangeByte_23 rfl (lv_at hl 1 rfl) ?_
  refine va_mmin hxR hbR (by rw [hmlR]; exact hl.1.symm) hown (hts _ q909) (hts _ q910) (hts _ q106) (hts _ q911) (Nat.le_of_ble_eq_true rfl) (Nat.le_of_ble_eq_true rfl) (Nat.le_of_ble_eq_true rfl) (by show 0 + x ≤ 1000; omega) dJ16_copyOfRangeByte_24 ?_
  refine lv_as (y := nI (min na x)) (mn_n (by omega) (by omega)) ?_
  refine r_copyB (N := min na x) (ws1 := byW E qa na fa ++ (byW E q_10 x (va_cpy fa (fun _ => 0) 0 0 (min na x)))) hxR hbR (by rw [hmlR]; exact hl.1.symm) hts hown q912 q518 q517 q97 hK hI 0 (1 + 0) (he_l rfl) (he_r (Nat.le_of_ble_eq_true rfl) (Nat.le_of_ble_eq_true rfl) rfl) (by omega) (by omega) (by omega) hfa (Nat.le_of_ble_eq_true rfl) (Nat.le_of_ble_eq_true rfl) (hw_r (Nat.le_of_ble_eq_true rfl) (Nat.le_of_ble_eq_true rfl) rfl) dJ16_copyOfRangeByte_27 (fun H locs hI => ?_)
  refine lv_aload hxR hbR dJ16_copyOfRangeByte_30 (lv_at hl 0 rfl) ?_
  have e2 : ∀ j, j < x → (va_cpy fa (fun _ => 0) 0 0 (min na x)) j = fa j := fun j hj => cpy_in (by omega)
  have e3 : fitB (va_cpy fa (fun _ => 0) 0 0 (min na x)) := cpy_fit hfa (fun _ => rfl)
  generalize (va_cpy fa (fun _ => 0) 0 0 (min na x)) = zf at hI e2 e3
  exact hret zf q_10 _ _ _ _ _ _ dJ16_copyOfRangeByte_32 hI (by show (∀ j, j < x → zf j = fa j) ∧ fitB zf; exact ⟨e2, e3⟩) (Nat.le_of_ble_eq_true rfl) (by omega)
