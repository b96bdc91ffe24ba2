/-- a StringBuilder of Latin-1 letters: its object, its bytes -/
def sbW (E : En) (q v m k : Nat) (f : Nat → Int32) : va_W := [(q, .inr (16, [.ref v, .int 0, .int 0, .int (nI k)])), (v, .inl (E.2 4, m, .inl f))]
theorem sbW_o {E : En} {q v m k : Nat} {f : Nat → Int32} : (sbW E q v m k f)[0]? = some (q, .inr (16, [.ref v, .int 0, .int 0, .int (nI k)])) := rfl
theorem shl_0 (x : Int32) : x <<< ((0 : Int32) &&& 31) = x := by
  rw [show ((0 : Int32) &&& 31) = 0 from by decide]
  exact Int32.shiftLeft_zero

theorem c12_isLatin1 (l : Launch) (E : En) (qb : Nat) (vb : Nat) (mb : Nat) (kb : Nat) (fb : Nat → Int32)   : CtI l E yJ12_isLatin1 cJ12_isLatin1 1 .boolean 0 0 0 [.ref qb] (sbW E qb vb mb kb fb) (fun (r : Int32) (u : Unit) => r = 1) (fun (u : Unit) => sbW E qb vb mb kb fb) := by
  refine CtI.of (by decide +kernel) (Nat.le_of_ble_eq_true rfl) ?_
  intro pR eR sR mR aR bR tR cR AR ls QR hxR hbR hmlR hts hown hlk hnm hA hK hI hl hret
  have hl : lv_has ls 1 [(0, .ref qb)] := hl
  refine va_gets hxR hbR hK.2.2.2.2.1 hI.2.2 hown (hts _ q848) (fun _ h => h) dJ12_isLatin1_0 ?_
  refine lv_if_eq (tgt := 17) hxR hbR dJ12_isLatin1_3 (by decide) (fun c => absurd c (by decide)) (fun _ => ?_)
  refine lv_aload_n hxR hbR dJ12_isLatin1_6 rfl (lv_at hl 0 rfl) ?_
  refine r_get hxR hbR hts hown hK hI okJ13 (ci := 16) rfl 0 sbW_o 1 (by decide) q863 rfl (v := .int 0) rfl dJ12_isLatin1_7 ?_
  refine lv_if_ne (tgt := 17) hxR hbR dJ12_isLatin1_10 (by decide) (fun c => absurd c (by decide)) (fun _ => ?_)
  refine lv_iconst (v := 1) hxR hbR dJ12_isLatin1_13 (by decide) ?_
  refine lv_goto (tgt := 18) hxR hbR dJ12_isLatin1_14 (by decide) ?_
  exact hret () 1 _ _ _ _ _ _ dJ12_isLatin1_18 hI (by show 1 = 1; rfl) (Nat.le_of_ble_eq_true rfl) (Nat.le_of_ble_eq_true rfl) rfl

theorem c12_length (l : Launch) (E : En) (qb : Nat) (vb : Nat) (mb : Nat) (kb : Nat) (fb : Nat → Int32)   : CtI l E yJ12_length cJ12_length 1 .int 0 0 0 [.ref qb] (sbW E qb vb mb kb fb) (fun (r : Int32) (u : Unit) => r = nI kb) (fun (u : Unit) => sbW E qb vb mb kb fb) := by
  refine CtI.of (by decide +kernel) (Nat.le_of_ble_eq_true rfl) ?_
  intro pR eR sR mR aR bR tR cR AR ls QR hxR hbR hmlR hts hown hlk hnm hA hK hI hl hret
  have hl : lv_has ls 1 [(0, .ref qb)] := hl
  refine lv_aload_n hxR hbR dJ12_length_0 rfl (lv_at hl 0 rfl) ?_
  refine r_get hxR hbR hts hown hK hI okJ13 (ci := 16) rfl 0 sbW_o 3 (by decide) q865 rfl (v := .int (nI kb)) rfl dJ12_length_1 ?_
  exact hret () (nI kb) _ _ _ _ _ _ dJ12_length_4 hI (by show (nI kb) = nI kb; rfl) (Nat.le_of_ble_eq_true rfl) (Nat.le_of_ble_eq_true rfl) rfl

theorem c12_getValue (l : Launch) (E : En) (qb : Nat) (vb : Nat) (mb : Nat) (kb : Nat) (fb : Nat → Int32)   : CtT l E yJ12_getValue cJ12_getValue 1 (Jvm.ClassFile.FieldType.array Jvm.ClassFile.FieldType.byte) 0 0 0 [.ref qb] (sbW E qb vb mb kb fb) (fun (u : Unit) => True) (fun (u : Unit) => sbW E qb vb mb kb fb) (fun (u : Unit) => vb) := by
  refine CtT.of (by decide +kernel) (Nat.le_of_ble_eq_true rfl) (by first | exact Or.inl ⟨_, rfl⟩ | exact Or.inr ⟨_, rfl⟩) ?_
  intro pR eR sR mR aR bR tR cR AR ls QR hxR hbR hmlR hts hown hlk hnm hA hK hI hl hret
  have hl : lv_has ls 1 [(0, .ref qb)] := hl
  refine lv_aload_n hxR hbR dJ12_getValue_0 rfl (lv_at hl 0 rfl) ?_
  refine r_get hxR hbR hts hown hK hI okJ13 (ci := 16) rfl 0 sbW_o 0 (by decide) q862 rfl (v := .ref vb) rfl dJ12_getValue_1 ?_
  exact hret () _ _ _ _ _ _ dJ12_getValue_4 hI trivial (Nat.le_of_ble_eq_true rfl) (Nat.le_of_ble_eq_true rfl)

theorem c17_canEncode (l : Launch) (E : En)  (x : Nat) (hx : x < 256) : CtI l E yJ17_canEncode cJ17_canEncode 1 .boolean 0 0 0 [.int (nI x)] (([] : va_W)) (fun (r : Int32) (u : Unit) => r = 1) (fun (u : Unit) => ([] : va_W)) := by
  refine CtI.of (by decide +kernel) (Nat.le_of_ble_eq_true rfl) ?_
  intro pR eR sR mR aR bR tR cR AR ls QR hxR hbR hmlR hts hown hlk hnm hA hK hI hl hret
  have hl : lv_has ls 1 [(0, .int (nI x))] := hl
  refine lv_iload_n hxR hbR dJ17_canEncode_0 rfl (lv_at hl 0 rfl) ?_
  refine lv_sipush (v := 255) hxR hbR dJ17_canEncode_1 (by decide) ?_
  refine lv_icmp_gt (tgt := 11) hxR hbR dJ17_canEncode_4 (by decide) (fun c_4 => ?_) (fun c_4 => ?_)
  · skip
    have c_4 : 255 < x := (n_lt (a := 255) (b := x) (by omega) (by omega)).mp c_4
    exfalso
    omega
  · skip
    have c_4 : x ≤ 255 := Nat.le_of_not_lt (fun zz => c_4 ((n_lt (a := 255) (b := x) (by omega) (by omega)).mpr zz))
    refine lv_iconst (v := 1) hxR hbR dJ17_canEncode_7 (by decide) ?_
    refine lv_goto (tgt := 12) hxR hbR dJ17_canEncode_8 (by decide) ?_
    exact hret () 1 _ _ _ _ _ _ dJ17_canEncode_12 hI (by show 1 = 1; rfl) (Nat.le_of_ble_eq_true rfl) (Nat.le_of_ble_eq_true rfl) rfl

theorem c15_newLength (l : Launch) (E : En)  (x y z : Nat) (hx : x ≤ 100000) (hy : y ≤ 100000) (hz : 1 ≤ z ∧ z ≤ 100000) : CtI l E yJ15_newLength cJ15_newLength 4 .int 2 0 0 [.int (nI x), .int (nI y), .int (nI z)] (([] : va_W)) (fun (r : Int32) (u : Unit) => r = nI (x + max y z)) (fun (u : Unit) => ([] : va_W)) := by
  refine CtI.of (by decide +kernel) (Nat.le_of_ble_eq_true rfl) ?_
  intro pR eR sR mR aR bR tR cR AR ls QR hxR hbR hmlR hts hown hlk hnm hA hK hI hl hret
  have hl : lv_has ls 4 [(0, .int (nI x)), (1, .int (nI y)), (2, .int (nI z))] := hl
  refine lv_iload_n hxR hbR dJ15_newLength_0 rfl (lv_at hl 0 rfl) ?_
  refine lv_iload_n hxR hbR dJ15_newLength_1 rfl (lv_at hl 1 rfl) ?_
  refine lv_iload_n hxR hbR dJ15_newLength_2 rfl (lv_at hl 2 rfl) ?_
  refine va_mmax hxR hbR (by rw [hmlR]; exact hl.1.symm) hown (hts _ q893) (hts _ q667) (hts _ q106) (hts _ q668) (Nat.le_of_ble_eq_true rfl) (Nat.le_of_ble_eq_true rfl) (by omega) (by omega) dJ15_newLength_3 ?_
  refine lv_as (y := nI (max y z)) (mx_n (by omega) (by omega)) ?_
  refine lv_iadd hxR hbR dJ15_newLength_6 ?_
  refine lv_as (y := nI (x + (max y z))) (nI_add x (max y z)) ?_
  refine lv_istore_n (lv' := [(3, .int (nI (x + (max y z)))), (0, .int (nI x)), (1, .int (nI y)), (2, .int (nI z))]) hxR hbR dJ15_newLength_7 rfl hl (by decide) rfl (fun ls hl => ?_)
  refine lv_iconst (v := 0) hxR hbR dJ15_newLength_8 (by decide) ?_
  refine lv_iload_n hxR hbR dJ15_newLength_9 rfl (lv_at hl 0 rfl) ?_
  refine lv_icmp_ge (tgt := 21) hxR hbR dJ15_newLength_10 (by decide) (fun c_10 => ?_) (fun c_10 => ?_)
  · skip
    have c_10 : (x + (max y z)) ≤ 0 := (n_le (a := (x + (max y z))) (b := 0) (by omega) (by omega)).mp c_10
    exfalso
    omega
  · skip
    have c_10 : 0 < (x + (max y z)) := Nat.lt_of_not_le (fun zz => c_10 ((n_le (a := (x + (max y z))) (b := 0) (by omega) (by omega)).mpr zz))
    refine lv_iload_n hxR hbR dJ15_newLength_13 rfl (lv_at hl 0 rfl) ?_
    refine lv_ldc (v := 2147483639) hxR hbR hown (hts _ q894) dJ15_newLength_14 ?_
    refine lv_icmp_gt (tgt := 21) hxR hbR dJ15_newLength_16 (by decide) (fun c_16 => ?_) (fun c_16 => ?_)
    · skip
      have c_16 : 2147483639 < (x + (max y z)) := (n_lt (a := 2147483639) (b := (x + (max y z))) (by omega) (by omega)).mp c_16
      exfalso
      omega
    · skip
      have c_16 : (x + (max y z)) ≤ 2147483639 := Nat.le_of_not_lt (fun zz => c_16 ((n_lt (a := 2147483639) (b := (x + (max y z))) (by omega) (by omega)).mpr zz))
      refine lv_iload_n hxR hbR dJ15_newLength_19 rfl (lv_at hl 0 rfl) ?_
      exact hret () (nI (x + (max y z))) _ _ _ _ _ _ dJ15_newLength_20 hI (by show (nI (x + (max y z))) = nI (x + max y z); rfl) (Nat.le_of_ble_eq_true rfl) (Nat.le_of_ble_eq_true rfl) rfl

theorem c12_newCapacity (l : Launch) (E : En) (qb : Nat) (vb : Nat) (mb : Nat) (kb : Nat) (fb : Nat → Int32) (x : Nat) (hx : mb < x ∧ x ≤ 1000) : CtI l E yJ12_newCapacity cJ12_newCapacity 6 .int 3 0 0 [.ref qb, .int (nI x)] (sbW E qb vb mb kb fb) (fun (r : Int32) (u : Unit) => r = nI (mb + max (x - mb) (mb + 2))) (fun (u : Unit) => sbW E qb vb mb kb fb) := by
  refine CtI.of (by decide +kernel) (Nat.le_of_ble_eq_true rfl) ?_
  intro pR eR sR mR aR bR tR cR AR ls QR hxR hbR hmlR hts hown hlk hnm hA hK hI hl hret
  have hl : lv_has ls 6 [(0, .ref qb), (1, .int (nI x))] := hl
  refine lv_aload_n hxR hbR dJ12_newCapacity_0 rfl (lv_at hl 0 rfl) ?_
  refine r_get hxR hbR hts hown hK hI okJ13 (ci := 16) rfl 0 sbW_o 0 (by decide) q862 rfl (v := .ref vb) rfl dJ12_newCapacity_1 ?_
  refine r_alen (v := nI mb) hxR hbR hK hI 1 4 rfl rfl rfl dJ12_newCapacity_4 ?_
  refine lv_istore_n (lv' := [(2, .int (nI mb)), (0, .ref qb), (1, .int (nI x))]) hxR hbR dJ12_newCapacity_5 rfl hl (by decide) rfl (fun ls hl => ?_)
  refine lv_iload_n hxR hbR dJ12_newCapacity_6 rfl (lv_at hl 2 rfl) ?_
  refine lv_aload_n hxR hbR dJ12_newCapacity_7 rfl (lv_at hl 1 rfl) ?_
  refine r_get hxR hbR hts hown hK hI okJ13 (ci := 16) rfl 0 sbW_o 1 (by decide) q863 rfl (v := .int 0) rfl dJ12_newCapacity_8 ?_
  refine lv_ishl hxR hbR dJ12_newCapacity_11 ?_
  refine lv_as (y := nI x) (shl_0 _) ?_
  refine lv_istore_n (lv' := [(3, .int (nI x)), (2, .int (nI mb)), (0, .ref qb), (1, .int (nI x))]) hxR hbR dJ12_newCapacity_12 rfl hl (by decide) rfl (fun ls hl => ?_)
  refine lv_iload_n hxR hbR dJ12_newCapacity_13 rfl (lv_at hl 0 rfl) ?_
  refine lv_iload_n hxR hbR dJ12_newCapacity_14 rfl (lv_at hl 1 rfl) ?_
  refine lv_isub hxR hbR dJ12_newCapacity_15 ?_
  refine lv_as (y := nI (x - mb)) (pk_sub (a := x) (b := mb) (by omega)) ?_
  refine lv_istore (lv' := [(4, .int (nI (x - mb))), (3, .int (nI x)), (2, .int (nI mb)), (0, .ref qb), (1, .int (nI x))]) hxR hbR dJ12_newCapacity_16 hl (by decide) rfl (fun ls hl => ?_)
  refine lv_iload_n hxR hbR dJ12_newCapacity_18 rfl (lv_at hl 2 rfl) ?_
  refine lv_iload hxR hbR dJ12_newCapacity_19 (lv_at hl 0 rfl) ?_
  refine lv_iload_n hxR hbR dJ12_newCapacity_21 rfl (lv_at hl 2 rfl) ?_
  refine lv_iconst (v := 2) hxR hbR dJ12_newCapacity_22 (by decide) ?_
  refine lv_aload_n hxR hbR dJ12_newCapacity_23 rfl (lv_at hl 3 rfl) ?_
  refine r_get hxR hbR hts hown hK hI okJ13 (ci := 16) rfl 0 sbW_o 1 (by decide) q863 rfl (v := .int 0) rfl dJ12_newCapacity_24 ?_
  refine lv_ishl hxR hbR dJ12_newCapacity_27 ?_
  refine lv_as (y := nI 2) (shl_0 _) ?_
  refine lv_iadd hxR hbR dJ12_newCapacity_28 ?_
  refine lv_as (y := nI (mb + 2)) (nI_add mb 2) ?_
  refine kSI (n := 3) (As := [.int (nI mb), .int (nI (x - mb)), .int (nI (mb + 2))]) (rest := []) (fun w => w ++ (sbW E qb vb mb kb fb)) hxR hbR hmlR hts hown hK hA hl.1 (isCtx.suf _) hI (c15_newLength l E  mb (x - mb) (mb + 2) (by first | omega | with_reducible assumption) (by first | omega | with_reducible assumption) (by first | omega | with_reducible assumption)) (lw_S q890 q891 q111 q892) (by decide +kernel) rfl (Nat.le_of_ble_eq_true rfl) (Nat.le_of_ble_eq_true rfl) ⟨Nat.le_of_ble_eq_true rfl, Nat.le_of_ble_eq_true rfl⟩ (Nat.le_of_ble_eq_true rfl) dJ12_newCapacity_29 (fun r_29 u H locs hp hI hz => ?_)
  have hI : wI E AR sR H locs (sbW E qb vb mb kb fb) := hI
  have hp : r_29 = nI (mb + max (x - mb) (mb + 2)) := hp
  have hr_29 := hp
  subst hr_29
  refine lv_istore (lv' := [(5, .int (nI (mb + max (x - mb) (mb + 2)))), (4, .int (nI (x - mb))), (3, .int (nI x)), (2, .int (nI mb)), (0, .ref qb), (1, .int (nI x))]) hxR hbR dJ12_newCapacity_32 hl (by decide) rfl (fun ls hl => ?_)
  refine lv_iload hxR hbR dJ12_newCapacity_34 (lv_at hl 0 rfl) ?_
  refine lv_ldc (v := 2147483647) hxR hbR hown (hts _ q898) dJ12_newCapacity_36 ?_
  refine lv_icmp_ne (tgt := 51) hxR hbR dJ12_newCapacity_38 (by decide) (fun c_38 => ?_) (fun c_38 => ?_)
  · skip
    have c_38 : ¬ (mb + max (x - mb) (mb + 2)) = 2147483647 := fun zz => c_38 ((n_eq (a := (mb + max (x - mb) (mb + 2))) (b := 2147483647) (by omega) (by decide)).mpr zz)
    refine lv_iload hxR hbR dJ12_newCapacity_51 (lv_at hl 0 rfl) ?_
    refine lv_aload_n hxR hbR dJ12_newCapacity_53 rfl (lv_at hl 4 rfl) ?_
    refine r_get hxR hbR hts hown hK hI okJ13 (ci := 16) rfl 0 sbW_o 1 (by decide) q863 rfl (v := .int 0) rfl dJ12_newCapacity_54 ?_
    refine lv_ishr hxR hbR dJ12_newCapacity_57 ?_
    refine lv_as (y := nI ((mb + max (x - mb) (mb + 2)) >>> 0)) (nb_shr (mb + max (x - mb) (mb + 2)) 0 (by omega) (by omega)) ?_
    refine lv_as (y := nI (mb + max (x - mb) (mb + 2))) rfl ?_
    exact hret () (nI (mb + max (x - mb) (mb + 2))) _ _ _ _ _ _ dJ12_newCapacity_58 hI (by show (nI (mb + max (x - mb) (mb + 2))) = nI (mb + max (x - mb) (mb + 2)); rfl) (Nat.le_of_ble_eq_true rfl) (Nat.le_of_ble_eq_true rfl) rfl
  · skip
    have c_38 : (mb + max (x - mb) (mb + 2)) = 2147483647 := (n_eq (a := (mb + max (x - mb) (mb + 2))) (b := 2147483647) (by omega) (by decide)).mp c_38
    exfalso
    omega
