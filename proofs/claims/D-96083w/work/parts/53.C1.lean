theorem c0_isIn (l : Launch) (E : En)  (v lo hi : Int32)  : CtI l E yX0_isIn cX0_isIn 3 .boolean 0 0 0 [.int v, .int lo, .int hi] (([] : va_W)) (fun (r : Int32) (u : Unit) => r = b2i (decide (Int32.toInt lo ≤ Int32.toInt v ∧ Int32.toInt v ≤ Int32.toInt hi))) (fun (u : Unit) => ([] : va_W)) := by
  refine CtI.of (by decide +kernel) (Nat.le_of_ble_eq_true rfl) ?_
  intro pR eR sR mR aR bR tR cR AR ls QR hxR hbR hmlR hts hown hlk hnm hA hK hI hl hret
  have hl : lv_has ls 3 [(0, .int v), (1, .int lo), (2, .int hi)] := hl
  refine lv_iload_n hxR hbR dX0_isIn_0 rfl (lv_at hl 0 rfl) ?_
  refine lv_iload_n hxR hbR dX0_isIn_1 rfl (lv_at hl 1 rfl) ?_
  refine lv_icmp_lt (tgt := 14) hxR hbR dX0_isIn_2 (by decide) (fun c_2 => ?_) (fun c_2 => ?_)
  · skip
    have i_2 : v.toInt < lo.toInt := by have zz := i_lt.mp c_2; exact zz
    refine lv_iconst (v := 0) hxR hbR dX0_isIn_14 (by decide) ?_
    exact hret () 0 _ _ _ _ _ _ dX0_isIn_15 hI (by show 0 = b2i (decide (Int32.toInt lo ≤ Int32.toInt v ∧ Int32.toInt v ≤ Int32.toInt hi)); first | rw [decide_eq_true (by omega)]; rfl | rw [decide_eq_false (by omega)]; rfl) (Nat.le_of_ble_eq_true rfl) (Nat.le_of_ble_eq_true rfl) rfl
  · skip
    have i_2 : ¬ (v.toInt < lo.toInt) := by have zz := mt i_lt.mpr c_2; exact zz
    refine lv_iload_n hxR hbR dX0_isIn_5 rfl (lv_at hl 0 rfl) ?_
    refine lv_iload_n hxR hbR dX0_isIn_6 rfl (lv_at hl 2 rfl) ?_
    refine lv_icmp_gt (tgt := 14) hxR hbR dX0_isIn_7 (by decide) (fun c_7 => ?_) (fun c_7 => ?_)
    · skip
      have i_7 : hi.toInt < v.toInt := by have zz := i_lt.mp c_7; exact zz
      refine lv_iconst (v := 0) hxR hbR dX0_isIn_14 (by decide) ?_
      exact hret () 0 _ _ _ _ _ _ dX0_isIn_15 hI (by show 0 = b2i (decide (Int32.toInt lo ≤ Int32.toInt v ∧ Int32.toInt v ≤ Int32.toInt hi)); first | rw [decide_eq_true (by omega)]; rfl | rw [decide_eq_false (by omega)]; rfl) (Nat.le_of_ble_eq_true rfl) (Nat.le_of_ble_eq_true rfl) rfl
    · skip
      have i_7 : ¬ (hi.toInt < v.toInt) := by have zz := mt i_lt.mpr c_7; exact zz
      refine lv_iconst (v := 1) hxR hbR dX0_isIn_10 (by decide) ?_
      refine lv_goto (tgt := 15) hxR hbR dX0_isIn_11 (by decide) ?_
      exact hret () 1 _ _ _ _ _ _ dX0_isIn_15 hI (by show 1 = b2i (decide (Int32.toInt lo ≤ Int32.toInt v ∧ Int32.toInt v ≤ Int32.toInt hi)); first | rw [decide_eq_true (by omega)]; rfl | rw [decide_eq_false (by omega)]; rfl) (Nat.le_of_ble_eq_true rfl) (Nat.le_of_ble_eq_true rfl) rfl

theorem c0_has (l : Launch) (E : En)  (S P : Nat) (hS : S < 2 ^ 31) (hP : P < 32) : CtI l E yX0_has cX0_has 2 .boolean 0 0 0 [.int (nI S), .int (nI P)] (([] : va_W)) (fun (r : Int32) (u : Unit) => r = b2i (S.testBit P)) (fun (u : Unit) => ([] : va_W)) := by
  refine CtI.of (by decide +kernel) (Nat.le_of_ble_eq_true rfl) ?_
  intro pR eR sR mR aR bR tR cR AR ls QR hxR hbR hmlR hts hown hlk hnm hA hK hI hl hret
  have hl : lv_has ls 2 [(0, .int (nI S)), (1, .int (nI P))] := hl
  refine lv_iload_n hxR hbR dX0_has_0 rfl (lv_at hl 0 rfl) ?_
  refine lv_iload_n hxR hbR dX0_has_1 rfl (lv_at hl 1 rfl) ?_
  refine lv_ishr hxR hbR dX0_has_2 ?_
  refine lv_as (y := nI (S >>> P)) (nb_shr S P (by omega) (by omega)) ?_
  refine lv_iconst (v := 1) hxR hbR dX0_has_3 (by decide) ?_
  refine lv_iand hxR hbR dX0_has_4 ?_
  refine lv_as (y := nI ((S >>> P) &&& 1)) (nb_and (S >>> P) 1) ?_
  refine lv_iconst (v := 1) hxR hbR dX0_has_5 (by decide) ?_
  refine lv_icmp_ne (tgt := 13) hxR hbR dX0_has_6 (by decide) (fun c_6 => ?_) (fun c_6 => ?_)
  · skip
    have c_6 : ¬ ((S >>> P) &&& 1) = 1 := fun zz => c_6 ((n_eq (a := ((S >>> P) &&& 1)) (b := 1) (by rw [bit_mod]; split <;> decide) (by decide)).mpr zz)
    rw [bit_mod] at c_6
    refine lv_iconst (v := 0) hxR hbR dX0_has_13 (by decide) ?_
    exact hret () 0 _ _ _ _ _ _ dX0_has_14 hI (by show 0 = b2i (S.testBit P); cases hh : S.testBit P <;> simp [hh] at c_6 <;> rfl) (Nat.le_of_ble_eq_true rfl) (Nat.le_of_ble_eq_true rfl) rfl
  · skip
    have c_6 : ((S >>> P) &&& 1) = 1 := (n_eq (a := ((S >>> P) &&& 1)) (b := 1) (by rw [bit_mod]; split <;> decide) (by decide)).mp c_6
    rw [bit_mod] at c_6
    refine lv_iconst (v := 1) hxR hbR dX0_has_9 (by decide) ?_
    refine lv_goto (tgt := 14) hxR hbR dX0_has_10 (by decide) ?_
    exact hret () 1 _ _ _ _ _ _ dX0_has_14 hI (by show 1 = b2i (S.testBit P); cases hh : S.testBit P <;> simp [hh] at c_6 <;> rfl) (Nat.le_of_ble_eq_true rfl) (Nat.le_of_ble_eq_true rfl) rfl

theorem c10_bitCount (l : Launch) (E : En)  (S : Nat) (hS : S < 256) : CtI l E yJ10_bitCount cJ10_bitCount 1 .int 0 0 0 [.int (nI S)] (([] : va_W)) (fun (r : Int32) (u : Unit) => r = nI (bitsN S 8)) (fun (u : Unit) => ([] : va_W)) := by
  refine CtI.of (by decide +kernel) (Nat.le_of_ble_eq_true rfl) ?_
  intro pR eR sR mR aR bR tR cR AR ls QR hxR hbR hmlR hts hown hlk hnm hA hK hI hl hret
  have hl : lv_has ls 1 [(0, .int (nI S))] := hl
  refine lv_iload_n hxR hbR dJ10_bitCount_0 rfl (lv_at hl 0 rfl) ?_
  refine lv_iload_n hxR hbR dJ10_bitCount_1 rfl (lv_at hl 0 rfl) ?_
  refine lv_iconst (v := 1) hxR hbR dJ10_bitCount_2 (by decide) ?_
  refine lv_iushr (v := ((nI S).toUInt32 >>> ((1 : Int32).toUInt32 &&& Int32.toUInt32 31)).toInt32) hxR hbR dJ10_bitCount_3 rfl ?_
  refine lv_ldcw (v := 1431655765) hxR hbR hown (hts _ q653) dJ10_bitCount_4 ?_
  refine lv_iand hxR hbR dJ10_bitCount_7 ?_
  refine lv_isub hxR hbR dJ10_bitCount_8 ?_
  refine lv_istore_n (lv' := [(0, .int ((nI S) - ((((nI S).toUInt32 >>> ((1 : Int32).toUInt32 &&& Int32.toUInt32 31)).toInt32) &&& 1431655765)))]) hxR hbR dJ10_bitCount_9 rfl hl (by decide) rfl (fun ls hl => ?_)
  refine lv_iload_n hxR hbR dJ10_bitCount_10 rfl (lv_at hl 0 rfl) ?_
  refine lv_ldcw (v := 858993459) hxR hbR hown (hts _ q654) dJ10_bitCount_11 ?_
  refine lv_iand hxR hbR dJ10_bitCount_14 ?_
  refine lv_iload_n hxR hbR dJ10_bitCount_15 rfl (lv_at hl 0 rfl) ?_
  refine lv_iconst (v := 2) hxR hbR dJ10_bitCount_16 (by decide) ?_
  refine lv_iushr (v := (((nI S) - ((((nI S).toUInt32 >>> ((1 : Int32).toUInt32 &&& Int32.toUInt32 31)).toInt32) &&& 1431655765)).toUInt32 >>> ((2 : Int32).toUInt32 &&& Int32.toUInt32 31)).toInt32) hxR hbR dJ10_bitCount_17 rfl ?_
  refine lv_ldcw (v := 858993459) hxR hbR hown (hts _ q654) dJ10_bitCount_18 ?_
  refine lv_iand hxR hbR dJ10_bitCount_21 ?_
  refine lv_iadd hxR hbR dJ10_bitCount_22 ?_
  refine lv_istore_n (lv' := [(0, .int ((((nI S) - ((((nI S).toUInt32 >>> ((1 : Int32).toUInt32 &&& Int32.toUInt32 31)).toInt32) &&& 1431655765)) &&& 858993459) + (((((nI S) - ((((nI S).toUInt32 >>> ((1 : Int32).toUInt32 &&& Int32.toUInt32 31)).toInt32) &&& 1431655765)).toUInt32 >>> ((2 : Int32).toUInt32 &&& Int32.toUInt32 31)).toInt32) &&& 858993459)))]) hxR hbR dJ10_bitCount_23 rfl hl (by decide) rfl (fun ls hl => ?_)
  refine lv_iload_n hxR hbR dJ10_bitCount_24 rfl (lv_at hl 0 rfl) ?_
  refine lv_iload_n hxR hbR dJ10_bitCount_25 rfl (lv_at hl 0 rfl) ?_
  refine lv_iconst (v := 4) hxR hbR dJ10_bitCount_26 (by decide) ?_
  refine lv_iushr (v := (((((nI S) - ((((nI S).toUInt32 >>> ((1 : Int32).toUInt32 &&& Int32.toUInt32 31)).toInt32) &&& 1431655765)) &&& 858993459) + (((((nI S) - ((((nI S).toUInt32 >>> ((1 : Int32).toUInt32 &&& Int32.toUInt32 31)).toInt32) &&& 1431655765)).toUInt32 >>> ((2 : Int32).toUInt32 &&& Int32.toUInt32 31)).toInt32) &&& 858993459)).toUInt32 >>> ((4 : Int32).toUInt32 &&& Int32.toUInt32 31)).toInt32) hxR hbR dJ10_bitCount_27 rfl ?_
  refine lv_iadd hxR hbR dJ10_bitCount_28 ?_
  refine lv_ldcw (v := 252645135) hxR hbR hown (hts _ q655) dJ10_bitCount_29 ?_
  refine lv_iand hxR hbR dJ10_bitCount_32 ?_
  refine lv_istore_n (lv' := [(0, .int ((((((nI S) - ((((nI S).toUInt32 >>> ((1 : Int32).toUInt32 &&& Int32.toUInt32 31)).toInt32) &&& 1431655765)) &&& 858993459) + (((((nI S) - ((((nI S).toUInt32 >>> ((1 : Int32).toUInt32 &&& Int32.toUInt32 31)).toInt32) &&& 1431655765)).toUInt32 >>> ((2 : Int32).toUInt32 &&& Int32.toUInt32 31)).toInt32) &&& 858993459)) + ((((((nI S) - ((((nI S).toUInt32 >>> ((1 : Int32).toUInt32 &&& Int32.toUInt32 31)).toInt32) &&& 1431655765)) &&& 858993459) + (((((nI S) - ((((nI S).toUInt32 >>> ((1 : Int32).toUInt32 &&& Int32.toUInt32 31)).toInt32) &&& 1431655765)).toUInt32 >>> ((2 : Int32).toUInt32 &&& Int32.toUInt32 31)).toInt32) &&& 858993459)).toUInt32 >>> ((4 : Int32).toUInt32 &&& Int32.toUInt32 31)).toInt32)) &&& 252645135))]) hxR hbR dJ10_bitCount_33 rfl hl (by decide) rfl (fun ls hl => ?_)
  refine lv_iload_n hxR hbR dJ10_bitCount_34 rfl (lv_at hl 0 rfl) ?_
  refine lv_iload_n hxR hbR dJ10_bitCount_35 rfl (lv_at hl 0 rfl) ?_
  refine lv_bipush (v := 8) hxR hbR dJ10_bitCount_36 (by decide) ?_
  refine lv_iushr (v := (((((((nI S) - ((((nI S).toUInt32 >>> ((1 : Int32).toUInt32 &&& Int32.toUInt32 31)).toInt32) &&& 1431655765)) &&& 858993459) + (((((nI S) - ((((nI S).toUInt32 >>> ((1 : Int32).toUInt32 &&& Int32.toUInt32 31)).toInt32) &&& 1431655765)).toUInt32 >>> ((2 : Int32).toUInt32 &&& Int32.toUInt32 31)).toInt32) &&& 858993459)) + ((((((nI S) - ((((nI S).toUInt32 >>> ((1 : Int32).toUInt32 &&& Int32.toUInt32 31)).toInt32) &&& 1431655765)) &&& 858993459) + (((((nI S) - ((((nI S).toUInt32 >>> ((1 : Int32).toUInt32 &&& Int32.toUInt32 31)).toInt32) &&& 1431655765)).toUInt32 >>> ((2 : Int32).toUInt32 &&& Int32.toUInt32 31)).toInt32) &&& 858993459)).toUInt32 >>> ((4 : Int32).toUInt32 &&& Int32.toUInt32 31)).toInt32)) &&& 252645135).toUInt32 >>> ((8 : Int32).toUInt32 &&& Int32.toUInt32 31)).toInt32) hxR hbR dJ10_bitCount_38 rfl ?_
  refine lv_iadd hxR hbR dJ10_bitCount_39 ?_
  refine lv_istore_n (lv' := [(0, .int (((((((nI S) - ((((nI S).toUInt32 >>> ((1 : Int32).toUInt32 &&& Int32.toUInt32 31)).toInt32) &&& 1431655765)) &&& 858993459) + (((((nI S) - ((((nI S).toUInt32 >>> ((1 : Int32).toUInt32 &&& Int32.toUInt32 31)).toInt32) &&& 1431655765)).toUInt32 >>> ((2 : Int32).toUInt32 &&& Int32.toUInt32 31)).toInt32) &&& 858993459)) + ((((((nI S) - ((((nI S).toUInt32 >>> ((1 : Int32).toUInt32 &&& Int32.toUInt32 31)).toInt32) &&& 1431655765)) &&& 858993459) + (((((nI S) - ((((nI S).toUInt32 >>> ((1 : Int32).toUInt32 &&& Int32.toUInt32 31)).toInt32) &&& 1431655765)).toUInt32 >>> ((2 : Int32).toUInt32 &&& Int32.toUInt32 31)).toInt32) &&& 858993459)).toUInt32 >>> ((4 : Int32).toUInt32 &&& Int32.toUInt32 31)).toInt32)) &&& 252645135) + ((((((((nI S) - ((((nI S).toUInt32 >>> ((1 : Int32).toUInt32 &&& Int32.toUInt32 31)).toInt32) &&& 1431655765)) &&& 858993459) + (((((nI S) - ((((nI S).toUInt32 >>> ((1 : Int32).toUInt32 &&& Int32.toUInt32 31)).toInt32) &&& 1431655765)).toUInt32 >>> ((2 : Int32).toUInt32 &&& Int32.toUInt32 31)).toInt32) &&& 858993459)) + ((((((nI S) - ((((nI S).toUInt32 >>> ((1 : Int32).toUInt32 &&& Int32.toUInt32 31)).toInt32) &&& 1431655765)) &&& 858993459) + (((((nI S) - ((((nI S).toUInt32 >>> ((1 : Int32).toUInt32 &&& Int32.toUInt32 31)).toInt32) &&& 1431655765)).toUInt32 >>> ((2 : Int32).toUInt32 &&& Int32.toUInt32 31)).toInt32) &&& 858993459)).toUInt32 >>> ((4 : Int32).toUInt32 &&& Int32.toUInt32 31)).toInt32)) &&& 252645135).toUInt32 >>> ((8 : Int32).toUInt32 &&& Int32.toUInt32 31)).toInt32)))]) hxR hbR dJ10_bitCount_40 rfl hl (by decide) rfl (fun ls hl => ?_)
  refine lv_iload_n hxR hbR dJ10_bitCount_41 rfl (lv_at hl 0 rfl) ?_
  refine lv_iload_n hxR hbR dJ10_bitCount_42 rfl (lv_at hl 0 rfl) ?_
  refine lv_bipush (v := 16) hxR hbR dJ10_bitCount_43 (by decide) ?_
  refine lv_iushr (v := ((((((((nI S) - ((((nI S).toUInt32 >>> ((1 : Int32).toUInt32 &&& Int32.toUInt32 31)).toInt32) &&& 1431655765)) &&& 858993459) + (((((nI S) - ((((nI S).toUInt32 >>> ((1 : Int32).toUInt32 &&& Int32.toUInt32 31)).toInt32) &&& 1431655765)).toUInt32 >>> ((2 : Int32).toUInt32 &&& Int32.toUInt32 31)).toInt32) &&& 858993459)) + ((((((nI S) - ((((nI S).toUInt32 >>> ((1 : Int32).toUInt32 &&& Int32.toUInt32 31)).toInt32) &&& 1431655765)) &&& 858993459) + (((((nI S) - ((((nI S).toUInt32 >>> ((1 : Int32).toUInt32 &&& Int32.toUInt32 31)).toInt32) &&& 1431655765)).toUInt32 >>> ((2 : Int32).toUInt32 &&& Int32.toUInt32 31)).toInt32) &&& 858993459)).toUInt32 >>> ((4 : Int32).toUInt32 &&& Int32.toUInt32 31)).toInt32)) &&& 252645135) + ((((((((nI S) - ((((nI S).toUInt32 >>> ((1 : Int32).toUInt32 &&& Int32.toUInt32 31)).toInt32) &&& 1431655765)) &&& 858993459) + (((((nI S) - ((((nI S).toUInt32 >>> ((1 : Int32).toUInt32 &&& Int32.toUInt32 31)).toInt32) &&& 1431655765)).toUInt32 >>> ((2 : Int32).toUInt32 &&& Int32.toUInt32 31)).toInt32) &&& 858993459)) + ((((((nI S) - ((((nI S).toUInt32 >>> ((1 : Int32).toUInt32 &&& Int32.toUInt32 31)).toInt32) &&& 1431655765)) &&& 858993459) + (((((nI S) - ((((nI S).toUInt32 >>> ((1 : Int32).toUInt32 &&& Int32.toUInt32 31)).toInt32) &&& 1431655765)).toUInt32 >>> ((2 : Int32).toUInt32 &&& Int32.toUInt32 31)).toInt32) &&& 858993459)).toUInt32 >>> ((4 : Int32).toUInt32 &&& Int32.toUInt32 31)).toInt32)) &&& 252645135).toUInt32 >>> ((8 : Int32).toUInt32 &&& Int32.toUInt32 31)).toInt32)).toUInt32 >>> ((16 : Int32).toUInt32 &&& Int32.toUInt32 31)).toInt32) hxR hbR dJ10_bitCount_45 rfl ?_
  refine lv_iadd hxR hbR dJ10_bitCount_46 ?_
  refine lv_istore_n (lv' := [(0, .int ((((((((nI S) - ((((nI S).toUInt32 >>> ((1 : Int32).toUInt32 &&& Int32.toUInt32 31)).toInt32) &&& 1431655765)) &&& 858993459) + (((((nI S) - ((((nI S).toUInt32 >>> ((1 : Int32).toUInt32 &&& Int32.toUInt32 31)).toInt32) &&& 1431655765)).toUInt32 >>> ((2 : Int32).toUInt32 &&& Int32.toUInt32 31)).toInt32) &&& 858993459)) + ((((((nI S) - ((((nI S).toUInt32 >>> ((1 : Int32).toUInt32 &&& Int32.toUInt32 31)).toInt32) &&& 1431655765)) &&& 858993459) + (((((nI S) - ((((nI S).toUInt32 >>> ((1 : Int32).toUInt32 &&& Int32.toUInt32 31)).toInt32) &&& 1431655765)).toUInt32 >>> ((2 : Int32).toUInt32 &&& Int32.toUInt32 31)).toInt32) &&& 858993459)).toUInt32 >>> ((4 : Int32).toUInt32 &&& Int32.toUInt32 31)).toInt32)) &&& 252645135) + ((((((((nI S) - ((((nI S).toUInt32 >>> ((1 : Int32).toUInt32 &&& Int32.toUInt32 31)).toInt32) &&& 1431655765)) &&& 858993459) + (((((nI S) - ((((nI S).toUInt32 >>> ((1 : Int32).toUInt32 &&& Int32.toUInt32 31)).toInt32) &&& 1431655765)).toUInt32 >>> ((2 : Int32).toUInt32 &&& Int32.toUInt32 31)).toInt32) &&& 858993459)) + ((((((nI S) - ((((nI S).toUInt32 >>> ((1 : Int32).toUInt32 &&& Int32.toUInt32 31)).toInt32) &&& 1431655765)) &&& 858993459) + (((((nI S) - ((((nI S).toUInt32 >>> ((1 : Int32).toUInt32 &&& Int32.toUInt32 31)).toInt32) &&& 1431655765)).toUInt32 >>> ((2 : Int32).toUInt32 &&& Int32.toUInt32 31)).toInt32) &&& 858993459)).toUInt32 >>> ((4 : Int32).toUInt32 &&& Int32.toUInt32 31)).toInt32)) &&& 252645135).toUInt32 >>> ((8 : Int32).toUInt32 &&& Int32.toUInt32 31)).toInt32)) + (((((((((nI S) - ((((nI S).toUInt32 >>> ((1 : Int32).toUInt32 &&& Int32.toUInt32 31)).toInt32) &&& 1431655765)) &&& 858993459) + (((((nI S) - ((((nI S).toUInt32 >>> ((1 : Int32).toUInt32 &&& Int32.toUInt32 31)).toInt32) &&& 1431655765)).toUInt32 >>> ((2 : Int32).toUInt32 &&& Int32.toUInt32 31)).toInt32) &&& 858993459)) + ((((((nI S) - ((((nI S).toUInt32 >>> ((1 : Int32).toUInt32 &&& Int32.toUInt32 31)).toInt32) &&& 1431655765)) &&& 858993459) + (((((nI S) - ((((nI S).toUInt32 >>> ((1 : Int32).toUInt32 &&& Int32.toUInt32 31)).toInt32) &&& 1431655765)).toUInt32 >>> ((2 : Int32).toUInt32 &&& Int32.toUInt32 31)).toInt32) &&& 858993459)).toUInt32 >>> ((4 : Int32).toUInt32 &&& Int32.toUInt32 31)).toInt32)) &&& 252645135) + ((((((((nI S) - ((((nI S).toUInt32 >>> ((1 : Int32).toUInt32 &&& Int32.toUInt32 31)).toInt32) &&& 1431655765)) &&& 858993459) + (((((nI S) - ((((nI S).toUInt32 >>> ((1 : Int32).toUInt32 &&& Int32.toUInt32 31)).toInt32) &&& 1431655765)).toUInt32 >>> ((2 : Int32).toUInt32 &&& Int32.toUInt32 31)).toInt32) &&& 858993459)) + ((((((nI S) - ((((nI S).toUInt32 >>> ((1 : Int32).toUInt32 &&& Int32.toUInt32 31)).toInt32) &&& 1431655765)) &&& 858993459) + (((((nI S) - ((((nI S).toUInt32 >>> ((1 : Int32).toUInt32 &&& Int32.toUInt32 31)).toInt32) &&& 1431655765)).toUInt32 >>> ((2 : Int32).toUInt32 &&& Int32.toUInt32 31)).toInt32) &&& 858993459)).toUInt32 >>> ((4 : Int32).toUInt32 &&& Int32.toUInt32 31)).toInt32)) &&& 252645135).toUInt32 >>> ((8 : Int32).toUInt32 &&& Int32.toUInt32 31)).toInt32)).toUInt32 >>> ((16 : Int32).toUInt32 &&& Int32.toUInt32 31)).toInt32)))]) hxR hbR dJ10_bitCount_47 rfl hl (by decide) rfl (fun ls hl => ?_)
  refine lv_iload_n hxR hbR dJ10_bitCount_48 rfl (lv_at hl 0 rfl) ?_
  refine lv_bipush (v := 63) hxR hbR dJ10_bitCount_49 (by decide) ?_
  refine lv_iand hxR hbR dJ10_bitCount_51 ?_
  exact hret () (((((((((nI S) - ((((nI S).toUInt32 >>> ((1 : Int32).toUInt32 &&& Int32.toUInt32 31)).toInt32) &&& 1431655765)) &&& 858993459) + (((((nI S) - ((((nI S).toUInt32 >>> ((1 : Int32).toUInt32 &&& Int32.toUInt32 31)).toInt32) &&& 1431655765)).toUInt32 >>> ((2 : Int32).toUInt32 &&& Int32.toUInt32 31)).toInt32) &&& 858993459)) + ((((((nI S) - ((((nI S).toUInt32 >>> ((1 : Int32).toUInt32 &&& Int32.toUInt32 31)).toInt32) &&& 1431655765)) &&& 858993459) + (((((nI S) - ((((nI S).toUInt32 >>> ((1 : Int32).toUInt32 &&& Int32.toUInt32 31)).toInt32) &&& 1431655765)).toUInt32 >>> ((2 : Int32).toUInt32 &&& Int32.toUInt32 31)).toInt32) &&& 858993459)).toUInt32 >>> ((4 : Int32).toUInt32 &&& Int32.toUInt32 31)).toInt32)) &&& 252645135) + ((((((((nI S) - ((((nI S).toUInt32 >>> ((1 : Int32).toUInt32 &&& Int32.toUInt32 31)).toInt32) &&& 1431655765)) &&& 858993459) + (((((nI S) - ((((nI S).toUInt32 >>> ((1 : Int32).toUInt32 &&& Int32.toUInt32 31)).toInt32) &&& 1431655765)).toUInt32 >>> ((2 : Int32).toUInt32 &&& Int32.toUInt32 31)).toInt32) &&& 858993459)) + ((((((nI S) - ((((nI S).toUInt32 >>> ((1 : Int32).toUInt32 &&& Int32.toUInt32 31)).toInt32) &&& 1431655765)) &&& 858993459) + (((((nI S) - ((((nI S).toUInt32 >>> ((1 : Int32).toUInt32 &&& Int32.toUInt32 31)).toInt32) &&& 1431655765)).toUInt32 >>> ((2 : Int32).toUInt32 &&& Int32.toUInt32 31)).toInt32) &&& 858993459)).toUInt32 >>> ((4 : Int32).toUInt32 &&& Int32.toUInt32 31)).toInt32)) &&& 252645135).toUInt32 >>> ((8 : Int32).toUInt32 &&& Int32.toUInt32 31)).toInt32)) + (((((((((nI S) - ((((nI S).toUInt32 >>> ((1 : Int32).toUInt32 &&& Int32.toUInt32 31)).toInt32) &&& 1431655765)) &&& 858993459) + (((((nI S) - ((((nI S).toUInt32 >>> ((1 : Int32).toUInt32 &&& Int32.toUInt32 31)).toInt32) &&& 1431655765)).toUInt32 >>> ((2 : Int32).toUInt32 &&& Int32.toUInt32 31)).toInt32) &&& 858993459)) + ((((((nI S) - ((((nI S).toUInt32 >>> ((1 : Int32).toUInt32 &&& Int32.toUInt32 31)).toInt32) &&& 1431655765)) &&& 858993459) + (((((nI S) - ((((nI S).toUInt32 >>> ((1 : Int32).toUInt32 &&& Int32.toUInt32 31)).toInt32) &&& 1431655765)).toUInt32 >>> ((2 : Int32).toUInt32 &&& Int32.toUInt32 31)).toInt32) &&& 858993459)).toUInt32 >>> ((4 : Int32).toUInt32 &&& Int32.toUInt32 31)).toInt32)) &&& 252645135) + ((((((((nI S) - ((((nI S).toUInt32 >>> ((1 : Int32).toUInt32 &&& Int32.toUInt32 31)).toInt32) &&& 1431655765)) &&& 858993459) + (((((nI S) - ((((nI S).toUInt32 >>> ((1 : Int32).toUInt32 &&& Int32.toUInt32 31)).toInt32) &&& 1431655765)).toUInt32 >>> ((2 : Int32).toUInt32 &&& Int32.toUInt32 31)).toInt32) &&& 858993459)) + ((((((nI S) - ((((nI S).toUInt32 >>> ((1 : Int32).toUInt32 &&& Int32.toUInt32 31)).toInt32) &&& 1431655765)) &&& 858993459) + (((((nI S) - ((((nI S).toUInt32 >>> ((1 : Int32).toUInt32 &&& Int32.toUInt32 31)).toInt32) &&& 1431655765)).toUInt32 >>> ((2 : Int32).toUInt32 &&& Int32.toUInt32 31)).toInt32) &&& 858993459)).toUInt32 >>> ((4 : Int32).toUInt32 &&& Int32.toUInt32 31)).toInt32)) &&& 252645135).toUInt32 >>> ((8 : Int32).toUInt32 &&& Int32.toUInt32 31)).toInt32)).toUInt32 >>> ((16 : Int32).toUInt32 &&& Int32.toUInt32 31)).toInt32)) &&& 63) _ _ _ _ _ _ dJ10_bitCount_52 hI (by show (((((((((nI S) - ((((nI S).toUInt32 >>> ((1 : Int32).toUInt32 &&& Int32.toUInt32 31)).toInt32) &&& 1431655765)) &&& 858993459) + (((((nI S) - ((((nI S).toUInt32 >>> ((1 : Int32).toUInt32 &&& Int32.toUInt32 31)).toInt32) &&& 1431655765)).toUInt32 >>> ((2 : Int32).toUInt32 &&& Int32.toUInt32 31)).toInt32) &&& 858993459)) + ((((((nI S) - ((((nI S).toUInt32 >>> ((1 : Int32).toUInt32 &&& Int32.toUInt32 31)).toInt32) &&& 1431655765)) &&& 858993459) + (((((nI S) - ((((nI S).toUInt32 >>> ((1 : Int32).toUInt32 &&& Int32.toUInt32 31)).toInt32) &&& 1431655765)).toUInt32 >>> ((2 : Int32).toUInt32 &&& Int32.toUInt32 31)).toInt32) &&& 858993459)).toUInt32 >>> ((4 : Int32).toUInt32 &&& Int32.toUInt32 31)).toInt32)) &&& 252645135) + ((((((((nI S) - ((((nI S).toUInt32 >>> ((1 : Int32).toUInt32 &&& Int32.toUInt32 31)).toInt32) &&& 1431655765)) &&& 858993459) + (((((nI S) - ((((nI S).toUInt32 >>> ((1 : Int32).toUInt32 &&& Int32.toUInt32 31)).toInt32) &&& 1431655765)).toUInt32 >>> ((2 : Int32).toUInt32 &&& Int32.toUInt32 31)).toInt32) &&& 858993459)) + ((((((nI S) - ((((nI S).toUInt32 >>> ((1 : Int32).toUInt32 &&& Int32.toUInt32 31)).toInt32) &&& 1431655765)) &&& 858993459) + (((((nI S) - ((((nI S).toUInt32 >>> ((1 : Int32).toUInt32 &&& Int32.toUInt32 31)).toInt32) &&& 1431655765)).toUInt32 >>> ((2 : Int32).toUInt32 &&& Int32.toUInt32 31)).toInt32) &&& 858993459)).toUInt32 >>> ((4 : Int32).toUInt32 &&& Int32.toUInt32 31)).toInt32)) &&& 252645135).toUInt32 >>> ((8 : Int32).toUInt32 &&& Int32.toUInt32 31)).toInt32)) + (((((((((nI S) - ((((nI S).toUInt32 >>> ((1 : Int32).toUInt32 &&& Int32.toUInt32 31)).toInt32) &&& 1431655765)) &&& 858993459) + (((((nI S) - ((((nI S).toUInt32 >>> ((1 : Int32).toUInt32 &&& Int32.toUInt32 31)).toInt32) &&& 1431655765)).toUInt32 >>> ((2 : Int32).toUInt32 &&& Int32.toUInt32 31)).toInt32) &&& 858993459)) + ((((((nI S) - ((((nI S).toUInt32 >>> ((1 : Int32).toUInt32 &&& Int32.toUInt32 31)).toInt32) &&& 1431655765)) &&& 858993459) + (((((nI S) - ((((nI S).toUInt32 >>> ((1 : Int32).toUInt32 &&& Int32.toUInt32 31)).toInt32) &&& 1431655765)).toUInt32 >>> ((2 : Int32).toUInt32 &&& Int32.toUInt32 31)).toInt32) &&& 858993459)).toUInt32 >>> ((4 : Int32).toUInt32 &&& Int32.toUInt32 31)).toInt32)) &&& 252645135) + ((((((((nI S) - ((((nI S).toUInt32 >>> ((1 : Int32).toUInt32 &&& Int32.toUInt32 31)).toInt32) &&& 1431655765)) &&& 858993459) + (((((nI S) - ((((nI S).toUInt32 >>> ((1 : Int32).toUInt32 &&& Int32.toUInt32 31)).toInt32) &&& 1431655765)).toUInt32 >>> ((2 : Int32).toUInt32 &&& Int32.toUInt32 31)).toInt32) &&& 858993459)) + ((((((nI S) - ((((nI S).toUInt32 >>> ((1 : Int32).toUInt32 &&& Int32.toUInt32 31)).toInt32) &&& 1431655765)) &&& 858993459) + (((((nI S) - ((((nI S).toUInt32 >>> ((1 : Int32).toUInt32 &&& Int32.toUInt32 31)).toInt32) &&& 1431655765)).toUInt32 >>> ((2 : Int32).toUInt32 &&& Int32.toUInt32 31)).toInt32) &&& 858993459)).toUInt32 >>> ((4 : Int32).toUInt32 &&& Int32.toUInt32 31)).toInt32)) &&& 252645135).toUInt32 >>> ((8 : Int32).toUInt32 &&& Int32.toUInt32 31)).toInt32)).toUInt32 >>> ((16 : Int32).toUInt32 &&& Int32.toUInt32 31)).toInt32)) &&& 63) = nI (bitsN S 8); exact bcI_n S hS) (Nat.le_of_ble_eq_true rfl) (Nat.le_of_ble_eq_true rfl) rfl

theorem c1_all (l : Launch) (E : En) (ad : Nat → Nat) (iv : Nat → Int32) (hr : Nat → Int32) (cs : Nat → Int32) (K : Nat → Nat → Int32) (n : Nat) (hn : iv 3 = nI n) (hn8 : n ≤ 8) : CtI l E yX1_all cX1_all 1 .int 0 0 0 [.ref (ad 10)] (tW E ad iv hr cs (sK K)) (fun (r : Int32) (u : Unit) => r = nI (2 ^ n - 1)) (fun (u : Unit) => tW E ad iv hr cs (sK K)) := by
  refine CtI.of (by decide +kernel) (Nat.le_of_ble_eq_true rfl) ?_
  intro pR eR sR mR aR bR tR cR AR ls QR hxR hbR hmlR hts hown hlk hnm hA hK hI hl hret
  have hl : lv_has ls 1 [(0, .ref (ad 10))] := hl
  refine lv_iconst (v := 1) hxR hbR dX1_all_0 (by decide) ?_
  refine lv_aload_n hxR hbR dX1_all_1 rfl (lv_at hl 0 rfl) ?_
  refine r_get hxR hbR hts hown hK hI okX1 (ci := 1) rfl 0 tW_o 3 (by decide) q142 rfl (v := .int (nI n)) (al hn) dX1_all_2 ?_
  refine lv_ishl hxR hbR dX1_all_5 ?_
  refine lv_as (y := nI (2 ^ n)) (nb_shl n (by omega)) ?_
  refine lv_iconst (v := 1) hxR hbR dX1_all_6 (by decide) ?_
  refine lv_isub hxR hbR dX1_all_7 ?_
  refine lv_as (y := nI ((2 ^ n) - 1)) (pk_sub (a := 2 ^ n) (b := 1) (Nat.one_le_two_pow)) ?_
  exact hret () (nI ((2 ^ n) - 1)) _ _ _ _ _ _ dX1_all_8 hI (by first | rfl | trivial | assumption | simp_all) (Nat.le_of_ble_eq_true rfl) (Nat.le_of_ble_eq_true rfl) rfl

theorem c1_isOne (l : Launch) (E : En) (ad : Nat → Nat) (iv : Nat → Int32) (hr : Nat → Int32) (cs : Nat → Int32) (K : Nat → Nat → Int32) (n : Nat) (x : Int32) (hn : iv 3 = nI n) (hn8 : n ≤ 8) : CtI l E yX1_isOne cX1_isOne 2 .boolean 1 0 0 [.ref (ad 10), .int x] (tW E ad iv hr cs (sK K)) (fun (r : Int32) (u : Unit) => r = b2i (decide (0 ≤ x.toInt ∧ x.toInt < (n : Int)))) (fun (u : Unit) => tW E ad iv hr cs (sK K)) := by
  refine CtI.of (by decide +kernel) (Nat.le_of_ble_eq_true rfl) ?_
  intro pR eR sR mR aR bR tR cR AR ls QR hxR hbR hmlR hts hown hlk hnm hA hK hI hl hret
  have hl : lv_has ls 2 [(0, .ref (ad 10)), (1, .int x)] := hl
  refine lv_iload_n hxR hbR dX1_isOne_0 rfl (lv_at hl 1 rfl) ?_
  refine lv_iconst (v := 0) hxR hbR dX1_isOne_1 (by decide) ?_
  refine lv_aload_n hxR hbR dX1_isOne_2 rfl (lv_at hl 0 rfl) ?_
  refine r_get hxR hbR hts hown hK hI okX1 (ci := 1) rfl 0 tW_o 3 (by decide) q142 rfl (v := .int (nI n)) (al hn) dX1_isOne_3 ?_
  refine lv_iconst (v := 1) hxR hbR dX1_isOne_6 (by decide) ?_
  refine lv_isub hxR hbR dX1_isOne_7 ?_
  refine kSNI (n := 3) (As := [.int x, .int 0, .int ((nI n) - 1)]) (rest := []) (fun w => w ++ (tW E ad iv hr cs (sK K))) hxR hbR hmlR hts hown hK hA hl.1 (isCtx.suf _) hI (c0_isIn l E  x 0 ((nI n) - 1) ) (host := RX0) q395 q81 (by decide) q394 (by decide +kernel) rfl (Nat.le_of_ble_eq_true rfl) (Nat.le_of_ble_eq_true rfl) ⟨Nat.le_of_ble_eq_true rfl, Nat.le_of_ble_eq_true rfl⟩ (Nat.le_of_ble_eq_true rfl) dX1_isOne_8 (fun r_8 u H locs hp hI hz => ?_)
  have hI : wI E AR sR H locs (tW E ad iv hr cs (sK K)) := hI
  have hp : r_8 = b2i (decide (Int32.toInt 0 ≤ Int32.toInt x ∧ Int32.toInt x ≤ Int32.toInt ((nI n) - 1))) := hp
  have hr_8 := hp
  subst hr_8
  exact hret () (b2i (decide (Int32.toInt 0 ≤ Int32.toInt x ∧ Int32.toInt x ≤ Int32.toInt ((nI n) - 1)))) _ _ _ _ _ _ dX1_isOne_11 hI (by show (b2i (decide (Int32.toInt 0 ≤ Int32.toInt x ∧ Int32.toInt x ≤ Int32.toInt ((nI n) - 1)))) = b2i (decide (0 ≤ x.toInt ∧ x.toInt < (n : Int))); congr 1; rw [nI_m1 (by omega)]; exact decide_eq_decide.mpr ⟨fun h => ⟨h.1, by omega⟩, fun h => ⟨h.1, by omega⟩⟩) (Nat.le_of_ble_eq_true rfl) (Nat.le_of_ble_eq_true rfl) (b2i_nar _)

theorem c1_isSet (l : Launch) (E : En) (ad : Nat → Nat) (iv : Nat → Int32) (hr : Nat → Int32) (cs : Nat → Int32) (K : Nat → Nat → Int32) (n : Nat) (x : Int32) (hn : iv 3 = nI n) (hn8 : n ≤ 8) : CtI l E yX1_isSet cX1_isSet 2 .boolean 1 0 0 [.ref (ad 10), .int x] (tW E ad iv hr cs (sK K)) (fun (r : Int32) (u : Unit) => r = b2i (decide (0 ≤ x.toInt ∧ x.toInt < ((2 ^ n : Nat) : Int)))) (fun (u : Unit) => tW E ad iv hr cs (sK K)) := by
  refine CtI.of (by decide +kernel) (Nat.le_of_ble_eq_true rfl) ?_
  intro pR eR sR mR aR bR tR cR AR ls QR hxR hbR hmlR hts hown hlk hnm hA hK hI hl hret
  have hl : lv_has ls 2 [(0, .ref (ad 10)), (1, .int x)] := hl
  refine lv_iload_n hxR hbR dX1_isSet_0 rfl (lv_at hl 1 rfl) ?_
  refine lv_iconst (v := 0) hxR hbR dX1_isSet_1 (by decide) ?_
  refine lv_aload_n hxR hbR dX1_isSet_2 rfl (lv_at hl 0 rfl) ?_
  refine kVI (n := 0) (As := []) (rest := [.int 0, .int x]) (fun w => w) hxR hbR hmlR hts hown hK hA hl.1 isCtx.id hI (c1_all l E ad iv hr cs K n hn (by first | omega | with_reducible assumption)) (lw_V q1172 q643 q644 q82 q645) ⟨rfl, by decide +kernel⟩ 0 1 rfl rfl tW_o rfl (Nat.le_of_ble_eq_true rfl) (Nat.le_of_ble_eq_true rfl) ⟨Nat.le_of_ble_eq_true rfl, Nat.le_of_ble_eq_true rfl⟩ (Nat.le_of_ble_eq_true rfl) dX1_isSet_3 (fun r_3 u H locs hp hI hz => ?_)
  have hI : wI E AR sR H locs (tW E ad iv hr cs (sK K)) := hI
  have hp : r_3 = nI (2 ^ n - 1) := hp
  have hr_3 := hp
  subst hr_3
  refine kSNI (n := 3) (As := [.int x, .int 0, .int (nI (2 ^ n - 1))]) (rest := []) (fun w => w ++ (tW E ad iv hr cs (sK K))) hxR hbR hmlR hts hown hK hA hl.1 (isCtx.suf _) hI (c0_isIn l E  x 0 (nI (2 ^ n - 1)) ) (host := RX0) q395 q81 (by decide) q394 (by decide +kernel) rfl (Nat.le_of_ble_eq_true rfl) (Nat.le_of_ble_eq_true rfl) ⟨Nat.le_of_ble_eq_true rfl, Nat.le_of_ble_eq_true rfl⟩ (Nat.le_of_ble_eq_true rfl) dX1_isSet_6 (fun r_6 u H locs hp hI hz => ?_)
  have hI : wI E AR sR H locs (tW E ad iv hr cs (sK K)) := hI
  have hp : r_6 = b2i (decide (Int32.toInt 0 ≤ Int32.toInt x ∧ Int32.toInt x ≤ Int32.toInt (nI (2 ^ n - 1)))) := hp
  have hr_6 := hp
  subst hr_6
  exact hret () (b2i (decide (Int32.toInt 0 ≤ Int32.toInt x ∧ Int32.toInt x ≤ Int32.toInt (nI (2 ^ n - 1))))) _ _ _ _ _ _ dX1_isSet_9 hI (by show (b2i (decide (Int32.toInt 0 ≤ Int32.toInt x ∧ Int32.toInt x ≤ Int32.toInt (nI (2 ^ n - 1))))) = b2i (decide (0 ≤ x.toInt ∧ x.toInt < ((2 ^ n : Nat) : Int))); congr 1; have h8 : 2 ^ n ≤ 2 ^ 8 := Nat.pow_le_pow_right (by decide) hn8; have h1 : 1 ≤ 2 ^ n := Nat.one_le_two_pow; rw [nI_toInt (by omega)]; exact decide_eq_decide.mpr ⟨fun h => ⟨h.1, by omega⟩, fun h => ⟨h.1, by omega⟩⟩) (Nat.le_of_ble_eq_true rfl) (Nat.le_of_ble_eq_true rfl) (b2i_nar _)

theorem c1_since (l : Launch) (E : En) (ad : Nat → Nat) (iv : Nat → Int32) (hr : Nat → Int32) (cs : Nat → Int32) (K : Nat → Nat → Int32) (P Qq : Nat) (hP : P < 7) (hQ : Qq < 7) : CtI l E yX1_since cX1_since 3 .int 0 0 0 [.ref (ad 10), .int (nI P), .int (nI Qq)] (tW E ad iv hr cs (sK K)) (fun (r : Int32) (u : Unit) => r = K P Qq) (fun (u : Unit) => tW E ad iv hr cs (sK K)) := by
  refine CtI.of (by decide +kernel) (Nat.le_of_ble_eq_true rfl) ?_
  intro pR eR sR mR aR bR tR cR AR ls QR hxR hbR hmlR hts hown hlk hnm hA hK hI hl hret
  have hl : lv_has ls 3 [(0, .ref (ad 10)), (1, .int (nI P)), (2, .int (nI Qq))] := hl
  refine lv_aload_n hxR hbR dX1_since_0 rfl (lv_at hl 0 rfl) ?_
  refine r_get hxR hbR hts hown hK hI okX1 (ci := 1) rfl 0 tW_o 2 (by decide) q138 rfl (v := .ref (ad 2)) rfl dX1_since_1 ?_
  refine lv_bipush (v := 7) hxR hbR dX1_since_4 (by decide) ?_
  refine lv_iload_n hxR hbR dX1_since_6 rfl (lv_at hl 1 rfl) ?_
  refine lv_imul hxR hbR dX1_since_7 ?_
  refine lv_as (y := nI (7 * P)) (pk_mul 7 P) ?_
  refine lv_iload_n hxR hbR dX1_since_8 rfl (lv_at hl 2 rfl) ?_
  refine lv_iadd hxR hbR dX1_since_9 ?_
  refine lv_as (y := nI ((7 * P) + Qq)) (nI_add (7 * P) Qq) ?_
  refine r_iald hxR hbR hK hI 3 (n := 49) (J := (7 * P) + Qq) (f := sK K) (v := K P Qq) (tW_g2 rfl) (by omega) (by decide) (sK_at hQ) dX1_since_10 ?_
  exact hret () (K P Qq) _ _ _ _ _ _ dX1_since_11 hI (by show (K P Qq) = K P Qq; rfl) (Nat.le_of_ble_eq_true rfl) (Nat.le_of_ble_eq_true rfl) rfl

theorem c1_knows (l : Launch) (E : En) (ad : Nat → Nat) (iv : Nat → Int32) (hr : Nat → Int32) (cs : Nat → Int32) (K : Nat → Nat → Int32) (P Qq : Nat) (v : Int32) (hP : P < 7) (hQ : Qq < 7) : CtV l E yX1_knows cX1_knows 4 0 0 0 [.ref (ad 10), .int (nI P), .int (nI Qq), .int v] (tW E ad iv hr cs (sK K)) (fun (u : Unit) => True) (fun (u : Unit) => tW E ad iv hr cs (sK (knF K P Qq v))) := by
  refine CtV.of (by decide +kernel) (Nat.le_of_ble_eq_true rfl) ?_
  intro pR eR sR mR aR bR tR cR AR ls QR hxR hbR hmlR hts hown hlk hnm hA hK hI hl hret
  have hl : lv_has ls 4 [(0, .ref (ad 10)), (1, .int (nI P)), (2, .int (nI Qq)), (3, .int v)] := hl
  refine lv_aload_n hxR hbR dX1_knows_0 rfl (lv_at hl 0 rfl) ?_
  refine r_get hxR hbR hts hown hK hI okX1 (ci := 1) rfl 0 tW_o 2 (by decide) q138 rfl (v := .ref (ad 2)) rfl dX1_knows_1 ?_
  refine lv_bipush (v := 7) hxR hbR dX1_knows_4 (by decide) ?_
  refine lv_iload_n hxR hbR dX1_knows_6 rfl (lv_at hl 1 rfl) ?_
  refine lv_imul hxR hbR dX1_knows_7 ?_
  refine lv_as (y := nI (7 * P)) (pk_mul 7 P) ?_
  refine lv_iload_n hxR hbR dX1_knows_8 rfl (lv_at hl 2 rfl) ?_
  refine lv_iadd hxR hbR dX1_knows_9 ?_
  refine lv_as (y := nI ((7 * P) + Qq)) (nI_add (7 * P) Qq) ?_
  refine lv_iload_n hxR hbR dX1_knows_10 rfl (lv_at hl 3 rfl) ?_
  refine r_iast (ws1 := tW E ad iv hr cs (va_up (sK K) ((7 * P) + Qq) v)) hxR hbR hK hI 3 (n := 49) (J := (7 * P) + Qq) (f := sK K) (tW_g2 rfl) (by omega) (by decide) tW_a2 dX1_knows_11 (fun H locs hI => ?_)
  refine lv_aload_n hxR hbR dX1_knows_12 rfl (lv_at hl 0 rfl) ?_
  refine r_get hxR hbR hts hown hK hI okX1 (ci := 1) rfl 0 tW_o 2 (by decide) q138 rfl (v := .ref (ad 2)) rfl dX1_knows_13 ?_
  refine lv_bipush (v := 7) hxR hbR dX1_knows_16 (by decide) ?_
  refine lv_iload_n hxR hbR dX1_knows_18 rfl (lv_at hl 2 rfl) ?_
  refine lv_imul hxR hbR dX1_knows_19 ?_
  refine lv_as (y := nI (7 * Qq)) (pk_mul 7 Qq) ?_
  refine lv_iload_n hxR hbR dX1_knows_20 rfl (lv_at hl 1 rfl) ?_
  refine lv_iadd hxR hbR dX1_knows_21 ?_
  refine lv_as (y := nI ((7 * Qq) + P)) (nI_add (7 * Qq) P) ?_
  refine lv_iload_n hxR hbR dX1_knows_22 rfl (lv_at hl 3 rfl) ?_
  refine r_iast (ws1 := tW E ad iv hr cs (va_up (va_up (sK K) ((7 * P) + Qq) v) ((7 * Qq) + P) v)) hxR hbR hK hI 3 (n := 49) (J := (7 * Qq) + P) (f := va_up (sK K) ((7 * P) + Qq) v) (tW_g2 rfl) (by omega) (by decide) tW_a2 dX1_knows_23 (fun H locs hI => ?_)
  have hI : wI E AR sR H locs (tW E ad iv hr cs (sK (knF K P Qq v))) := by rw [← sK_kn hP hQ]; exact hI
  exact hret () _ _ _ _ _ _ dX1_knows_24 hI (by show True; trivial) (Nat.le_of_ble_eq_true rfl) (Nat.le_of_ble_eq_true rfl)

theorem c1_adds (l : Launch) (E : En) (ad : Nat → Nat) (iv : Nat → Int32) (hr : Nat → Int32) (cs : Nat → Int32) (K : Nat → Nat → Int32) (n : Nat) (x y : Int32) (hn : iv 3 = nI n) (hn7 : n < 7) : CtI l E yX1_adds cX1_adds 4 .int 2 0 0 [.ref (ad 10), .int x, .int y] (tW E ad iv hr cs (sK K)) (fun (r : Int32) (u : Unit) => r = nI n) (fun (u : Unit) => tW E ad (va_up iv 3 (nI (n + 1))) (va_up hr n x) (va_up cs n y) (sK (newK K n n))) := by
  refine CtI.of (by decide +kernel) (Nat.le_of_ble_eq_true rfl) ?_
  intro pR eR sR mR aR bR tR cR AR ls QR hxR hbR hmlR hts hown hlk hnm hA hK hI hl hret
  have hl : lv_has ls 4 [(0, .ref (ad 10)), (1, .int x), (2, .int y)] := hl
  refine lv_iconst (v := 0) hxR hbR dX1_adds_0 (by decide) ?_
  refine lv_istore_n (lv' := [(3, .int 0), (0, .ref (ad 10)), (1, .int x), (2, .int y)]) hxR hbR dX1_adds_1 rfl hl (by decide) rfl (fun ls hl => ?_)
  have lp_2 : ∀ (fu : Nat) (i : Nat) (Sx : Nat → Int32), (i ≤ n) → (Sx = sK (newK K n i)) → n - i < fu → ∀ (H : Heap) (locs : List Loc), wI E AR sR H locs (tW E ad iv hr cs Sx) → ∀ ls : Array Slot, lv_has ls 4 [(0, .ref (ad 10)), (1, .int x), (2, .int y), (3, .int (nI i))] → W pR l eR (rmF 2 0 0) sR mR aR bR tR cR H locs 0 0 QR (F0 mR 2 ls []) := by
    intro fu
    induction fu with
    | zero =>
      intro i Sx hi hSx hfu
      exact absurd hfu (Nat.not_lt_zero _)
    | succ fu ih_2 =>
      intro i Sx hi hSx hfu H locs hI ls hl
      subst hSx
      refine lv_iload_n hxR hbR dX1_adds_2 rfl (lv_at hl 3 rfl) ?_
      refine lv_aload_n hxR hbR dX1_adds_3 rfl (lv_at hl 0 rfl) ?_
      refine r_get hxR hbR hts hown hK hI okX1 (ci := 1) rfl 0 tW_o 3 (by decide) q142 rfl (v := .int (nI n)) (al hn) dX1_adds_4 ?_
      refine lv_icmp_ge (tgt := 26) hxR hbR dX1_adds_7 (by decide) (fun c_7 => ?_) (fun c_7 => ?_)
      · skip
        have c_7 : n ≤ i := (n_le (a := n) (b := i) (by omega) (by omega)).mp c_7
        refine lv_aload_n hxR hbR dX1_adds_26 rfl (lv_at hl 0 rfl) ?_
        refine r_get hxR hbR hts hown hK hI okX1 (ci := 1) rfl 0 tW_o 0 (by decide) q131 rfl (v := .ref (ad 0)) rfl dX1_adds_27 ?_
        refine lv_aload_n hxR hbR dX1_adds_30 rfl (lv_at hl 0 rfl) ?_
        refine r_get hxR hbR hts hown hK hI okX1 (ci := 1) rfl 0 tW_o 3 (by decide) q142 rfl (v := .int (nI n)) (al hn) dX1_adds_31 ?_
        refine lv_iload_n hxR hbR dX1_adds_34 rfl (lv_at hl 1 rfl) ?_
        refine r_iast (ws1 := tW E ad iv (va_up hr n x) cs (sK (newK K n i))) hxR hbR hK hI 1 (n := 7) (J := n) (f := hr) (tW_g0 rfl) (by omega) (by decide) tW_a0 dX1_adds_35 (fun H locs hI => ?_)
        refine lv_aload_n hxR hbR dX1_adds_36 rfl (lv_at hl 0 rfl) ?_
        refine r_get hxR hbR hts hown hK hI okX1 (ci := 1) rfl 0 tW_o 1 (by decide) q134 rfl (v := .ref (ad 1)) rfl dX1_adds_37 ?_
        refine lv_aload_n hxR hbR dX1_adds_40 rfl (lv_at hl 0 rfl) ?_
        refine r_get hxR hbR hts hown hK hI okX1 (ci := 1) rfl 0 tW_o 3 (by decide) q142 rfl (v := .int (nI n)) (al hn) dX1_adds_41 ?_
        refine lv_iload_n hxR hbR dX1_adds_44 rfl (lv_at hl 2 rfl) ?_
        refine r_iast (ws1 := tW E ad iv (va_up hr n x) (va_up cs n y) (sK (newK K n i))) hxR hbR hK hI 2 (n := 7) (J := n) (f := cs) (tW_g1 rfl) (by omega) (by decide) tW_a1 dX1_adds_45 (fun H locs hI => ?_)
        refine lv_aload_n hxR hbR dX1_adds_46 rfl (lv_at hl 0 rfl) ?_
        refine lv_dup hxR hbR dX1_adds_47 rfl ?_
        refine r_get hxR hbR hts hown hK hI okX1 (ci := 1) rfl 0 tW_o 3 (by decide) q142 rfl (v := .int (nI n)) (al hn) dX1_adds_48 ?_
        refine lv_iconst (v := 1) hxR hbR dX1_adds_51 (by decide) ?_
        refine lv_iadd hxR hbR dX1_adds_52 ?_
        refine lv_as (y := nI (n + 1)) (nI_add n 1) ?_
        refine r_put (v := .int (nI (n + 1))) (ws1 := tW E ad (va_up iv 3 (nI (n + 1))) (va_up hr n x) (va_up cs n y) (sK (newK K n i))) hxR hbR hts hown hK hI okX1 (ci := 1) rfl 0 tW_o 3 (by decide) q142 rfl rfl rfl rfl (Nat.le_of_ble_eq_true rfl) tW_i3 dX1_adds_53 (fun H locs hI => ?_)
        refine lv_aload_n hxR hbR dX1_adds_56 rfl (lv_at hl 0 rfl) ?_
        refine r_get hxR hbR hts hown hK hI okX1 (ci := 1) rfl 0 tW_o 3 (by decide) q142 rfl (v := .int (nI (n + 1))) (al va_up_s) dX1_adds_57 ?_
        refine lv_iconst (v := 1) hxR hbR dX1_adds_60 (by decide) ?_
        refine lv_isub hxR hbR dX1_adds_61 ?_
        refine lv_as (y := nI n) (nI_sub1 n) ?_
        have hI : wI E AR sR H locs (tW E ad (va_up iv 3 (nI (n + 1))) (va_up hr n x) (va_up cs n y) (sK (newK K n n))) := by rw [show i = n by omega] at hI; exact hI
        exact hret () (nI n) _ _ _ _ _ _ dX1_adds_62 hI (by show (nI n) = nI n; rfl) (Nat.le_of_ble_eq_true rfl) (Nat.le_of_ble_eq_true rfl) rfl
      · skip
        have c_7 : i < n := Nat.lt_of_not_le (fun zz => c_7 ((n_le (a := n) (b := i) (by omega) (by omega)).mpr zz))
        refine lv_aload_n hxR hbR dX1_adds_10 rfl (lv_at hl 0 rfl) ?_
        refine lv_iload_n hxR hbR dX1_adds_11 rfl (lv_at hl 3 rfl) ?_
        refine lv_aload_n hxR hbR dX1_adds_12 rfl (lv_at hl 0 rfl) ?_
        refine r_get hxR hbR hts hown hK hI okX1 (ci := 1) rfl 0 tW_o 3 (by decide) q142 rfl (v := .int (nI n)) (al hn) dX1_adds_13 ?_
        refine lv_iconst (v := (-1)) hxR hbR dX1_adds_16 (by decide) ?_
        refine kVV (n := 3) (As := [.int (nI i), .int (nI n), .int (-1)]) (rest := []) (fun w => w) hxR hbR hmlR hts hown hK hA hl.1 isCtx.id hI (c1_knows l E ad iv hr cs (newK K n i) i n (-1) (by first | omega | with_reducible assumption) (by first | omega | with_reducible assumption)) (lw_V q747 q748 q749 q82 q750) ⟨rfl, by decide +kernel⟩ 0 1 rfl rfl tW_o rfl (Nat.le_of_ble_eq_true rfl) (Nat.le_of_ble_eq_true rfl) ⟨Nat.le_of_ble_eq_true rfl, Nat.le_of_ble_eq_true rfl⟩ (Nat.le_of_ble_eq_true rfl) dX1_adds_17 (fun u H locs hp hI hz => ?_)
        have hI : wI E AR sR H locs (tW E ad iv hr cs (sK (knF (newK K n i) i n (-1)))) := hI
        refine lv_iinc (v := nI (i + 1)) (lv' := [(3, .int (nI (i + 1))), (0, .ref (ad 10)), (1, .int x), (2, .int y)]) hxR hbR dX1_adds_20 hl (k := 3) rfl (show nI i + 1 = nI (i + 1) from nI_add _ 1) (by decide) rfl (fun ls hl => ?_)
        refine lv_goto (tgt := 2) hxR hbR dX1_adds_23 (by decide) ?_
        exact ih_2 (i + 1) (sK (knF (newK K n i) i n (-1))) (by first | omega | with_reducible assumption) (by rw [knF_comm, newK_s]) (by omega) _ _ hI _ (lv_sub hl [1, 2, 3, 0] rfl)
  exact lp_2 _ 0 (sK K) (by first | omega | with_reducible assumption) (by rw [newK_0]) (Nat.lt_succ_self _) _ _ hI _ (lv_sub hl [1, 2, 3, 0] rfl)

theorem c1_meets (l : Launch) (E : En) (ad : Nat → Nat) (iv : Nat → Int32) (hr : Nat → Int32) (cs : Nat → Int32) (K : Nat → Nat → Int32) (n S : Nat) (hn : iv 3 = nI n) (hn7 : n ≤ 7) (hS : S < 2 ^ 31) : CtI l E yX1_meets cX1_meets 5 .int 2 0 0 [.ref (ad 10), .int (nI S)] (tW E ad iv hr cs (sK K)) (fun (r : Int32) (u : Unit) => r = nI (mC K S n)) (fun (u : Unit) => tW E ad iv hr cs (sK (meetK K S n))) := by
  refine CtI.of (by decide +kernel) (Nat.le_of_ble_eq_true rfl) ?_
  intro pR eR sR mR aR bR tR cR AR ls QR hxR hbR hmlR hts hown hlk hnm hA hK hI hl hret
  have hl : lv_has ls 5 [(0, .ref (ad 10)), (1, .int (nI S))] := hl
  refine lv_iconst (v := 0) hxR hbR dX1_meets_0 (by decide) ?_
  refine lv_istore_n (lv' := [(2, .int 0), (0, .ref (ad 10)), (1, .int (nI S))]) hxR hbR dX1_meets_1 rfl hl (by decide) rfl (fun ls hl => ?_)
  refine lv_iconst (v := 0) hxR hbR dX1_meets_2 (by decide) ?_
  refine lv_istore_n (lv' := [(3, .int 0), (2, .int 0), (0, .ref (ad 10)), (1, .int (nI S))]) hxR hbR dX1_meets_3 rfl hl (by decide) rfl (fun ls hl => ?_)
  have lp_4 : ∀ (fu : Nat) (a : Nat) (i : Nat) (Sx : Nat → Int32), (i ≤ n) → (a = mC K S i) → (Sx = sK (upS K (meetG S) i 0)) → n - i < fu → ∀ (H : Heap) (locs : List Loc), wI E AR sR H locs (tW E ad iv hr cs Sx) → ∀ ls : Array Slot, lv_has ls 5 [(0, .ref (ad 10)), (1, .int (nI S)), (2, .int (nI a)), (3, .int (nI i))] → W pR l eR (rmF 2 0 0) sR mR aR bR tR cR H locs 0 0 QR (F0 mR 4 ls []) := by
    intro fu
    induction fu with
    | zero =>
      intro a i Sx hi ha hSx hfu
      exact absurd hfu (Nat.not_lt_zero _)
    | succ fu ih_4 =>
      intro a i Sx hi ha hSx hfu H locs hI ls hl
      subst hSx
      refine lv_iload_n hxR hbR dX1_meets_4 rfl (lv_at hl 3 rfl) ?_
      refine lv_aload_n hxR hbR dX1_meets_5 rfl (lv_at hl 0 rfl) ?_
      refine r_get hxR hbR hts hown hK hI okX1 (ci := 1) rfl 0 tW_o 3 (by decide) q142 rfl (v := .int (nI n)) (al hn) dX1_meets_6 ?_
      refine lv_icmp_ge (tgt := 77) hxR hbR dX1_meets_9 (by decide) (fun c_9 => ?_) (fun c_9 => ?_)
      · skip
        have c_9 : n ≤ i := (n_le (a := n) (b := i) (by omega) (by omega)).mp c_9
        refine lv_iload_n hxR hbR dX1_meets_77 rfl (lv_at hl 2 rfl) ?_
        have hin : i = n := by omega
        rw [hin] at hI ha
        have hI : wI E AR sR H locs (tW E ad iv hr cs (sK (meetK K S n))) := by exact hI
        exact hret () (nI a) _ _ _ _ _ _ dX1_meets_78 hI (by show (nI a) = nI (mC K S n); rw [ha]) (Nat.le_of_ble_eq_true rfl) (Nat.le_of_ble_eq_true rfl) rfl
      · skip
        have c_9 : i < n := Nat.lt_of_not_le (fun zz => c_9 ((n_le (a := n) (b := i) (by omega) (by omega)).mpr zz))
        refine lv_iconst (v := 0) hxR hbR dX1_meets_12 (by decide) ?_
        refine lv_istore (lv' := [(4, .int 0), (0, .ref (ad 10)), (1, .int (nI S)), (2, .int (nI a)), (3, .int (nI i))]) hxR hbR dX1_meets_13 hl (by decide) rfl (fun ls hl => ?_)
        have lp_15 : ∀ (fu : Nat) (b : Nat) (j : Nat) (Sy : Nat → Int32), (j ≤ i) → (b = mC K S i + mC1 K S i j) → (Sy = sK (upS K (meetG S) i j)) → i - j < fu → ∀ (H : Heap) (locs : List Loc), wI E AR sR H locs (tW E ad iv hr cs Sy) → ∀ ls : Array Slot, lv_has ls 5 [(0, .ref (ad 10)), (1, .int (nI S)), (2, .int (nI b)), (3, .int (nI i)), (4, .int (nI j))] → W pR l eR (rmF 2 0 0) sR mR aR bR tR cR H locs 0 0 QR (F0 mR 15 ls []) := by
          intro fu
          induction fu with
          | zero =>
            intro b j Sy hj ha2 hSy hfu
            exact absurd hfu (Nat.not_lt_zero _)
          | succ fu ih_15 =>
            intro b j Sy hj ha2 hSy hfu H locs hI ls hl
            subst hSy
            refine lv_iload hxR hbR dX1_meets_15 (lv_at hl 4 rfl) ?_
            refine lv_iload_n hxR hbR dX1_meets_17 rfl (lv_at hl 3 rfl) ?_
            refine lv_icmp_ge (tgt := 71) hxR hbR dX1_meets_18 (by decide) (fun c_18 => ?_) (fun c_18 => ?_)
            · skip
              have c_18 : i ≤ j := (n_le (a := i) (b := j) (by omega) (by omega)).mp c_18
              refine lv_iinc (v := nI (i + 1)) (lv' := [(3, .int (nI (i + 1))), (0, .ref (ad 10)), (1, .int (nI S)), (2, .int (nI b)), (4, .int (nI j))]) hxR hbR dX1_meets_71 hl (k := 3) rfl (show nI i + 1 = nI (i + 1) from nI_add _ 1) (by decide) rfl (fun ls hl => ?_)
              refine lv_goto (tgt := 4) hxR hbR dX1_meets_74 (by decide) ?_
              exact ih_4 b (i + 1) (sK (upS K (meetG S) i j)) (by first | omega | with_reducible assumption) (by rw [ha2, show j = i by omega]; rfl) (by rw [show j = i by omega, upS_row]) (by omega) _ _ hI _ (lv_sub hl [1, 2, 3, 0] rfl)
            · skip
              have c_18 : j < i := Nat.lt_of_not_le (fun zz => c_18 ((n_le (a := i) (b := j) (by omega) (by omega)).mpr zz))
              refine lv_iload_n hxR hbR dX1_meets_21 rfl (lv_at hl 1 rfl) ?_
              refine lv_iload_n hxR hbR dX1_meets_22 rfl (lv_at hl 3 rfl) ?_
              refine kSNI (n := 2) (As := [.int (nI S), .int (nI i)]) (rest := []) (fun w => w ++ (tW E ad iv hr cs (sK (upS K (meetG S) i j)))) hxR hbR hmlR hts hown hK hA hl.1 (isCtx.suf _) hI (c0_has l E  S i (by first | omega | with_reducible assumption) (by first | omega | with_reducible assumption)) (host := RX0) q661 q81 (by decide) q660 (by decide +kernel) rfl (Nat.le_of_ble_eq_true rfl) (Nat.le_of_ble_eq_true rfl) ⟨Nat.le_of_ble_eq_true rfl, Nat.le_of_ble_eq_true rfl⟩ (Nat.le_of_ble_eq_true rfl) dX1_meets_23 (fun r_23 u H locs hp hI hz => ?_)
              have hI : wI E AR sR H locs (tW E ad iv hr cs (sK (upS K (meetG S) i j))) := hI
              have hp : r_23 = b2i (S.testBit i) := hp
              have hr_23 := hp
              rcases b2i_cases hr_23 with ⟨c_23, rfl⟩ | ⟨c_23, rfl⟩
              · skip
                have c_23 : S.testBit i = true := c_23
                refine lv_if_eq (tgt := 65) hxR hbR dX1_meets_26 (by decide) (fun c => absurd c (by decide)) (fun _ => ?_)
                refine lv_iload_n hxR hbR dX1_meets_29 rfl (lv_at hl 1 rfl) ?_
                refine lv_iload hxR hbR dX1_meets_30 (lv_at hl 4 rfl) ?_
                refine kSNI (n := 2) (As := [.int (nI S), .int (nI j)]) (rest := []) (fun w => w ++ (tW E ad iv hr cs (sK (upS K (meetG S) i j)))) hxR hbR hmlR hts hown hK hA hl.1 (isCtx.suf _) hI (c0_has l E  S j (by first | omega | with_reducible assumption) (by first | omega | with_reducible assumption)) (host := RX0) q661 q81 (by decide) q660 (by decide +kernel) rfl (Nat.le_of_ble_eq_true rfl) (Nat.le_of_ble_eq_true rfl) ⟨Nat.le_of_ble_eq_true rfl, Nat.le_of_ble_eq_true rfl⟩ (Nat.le_of_ble_eq_true rfl) dX1_meets_32 (fun r_32 u H locs hp hI hz => ?_)
                have hI : wI E AR sR H locs (tW E ad iv hr cs (sK (upS K (meetG S) i j))) := hI
                have hp : r_32 = b2i (S.testBit j) := hp
                have hr_32 := hp
                rcases b2i_cases hr_32 with ⟨c_32, rfl⟩ | ⟨c_32, rfl⟩
                · skip
                  have c_32 : S.testBit j = true := c_32
                  refine lv_if_eq (tgt := 65) hxR hbR dX1_meets_35 (by decide) (fun c => absurd c (by decide)) (fun _ => ?_)
                  refine lv_iload_n hxR hbR dX1_meets_38 rfl (lv_at hl 2 rfl) ?_
                  refine lv_aload_n hxR hbR dX1_meets_39 rfl (lv_at hl 0 rfl) ?_
                  refine lv_iload_n hxR hbR dX1_meets_40 rfl (lv_at hl 3 rfl) ?_
                  refine lv_iload hxR hbR dX1_meets_41 (lv_at hl 4 rfl) ?_
                  refine kVI (n := 2) (As := [.int (nI i), .int (nI j)]) (rest := [.int (nI b)]) (fun w => w) hxR hbR hmlR hts hown hK hA hl.1 isCtx.id hI (c1_since l E ad iv hr cs (upS K (meetG S) i j) i j (by first | omega | with_reducible assumption) (by first | omega | with_reducible assumption)) (lw_V q638 q639 q640 q82 q641) ⟨rfl, by decide +kernel⟩ 0 1 rfl rfl tW_o rfl (Nat.le_of_ble_eq_true rfl) (Nat.le_of_ble_eq_true rfl) ⟨Nat.le_of_ble_eq_true rfl, Nat.le_of_ble_eq_true rfl⟩ (Nat.le_of_ble_eq_true rfl) dX1_meets_43 (fun r_43 u H locs hp hI hz => ?_)
                  have hI : wI E AR sR H locs (tW E ad iv hr cs (sK (upS K (meetG S) i j))) := hI
                  have hp : r_43 = (upS K (meetG S) i j) i j := hp
                  have hr_43 := hp
                  subst hr_43
                  refine lv_as (y := K i j) (upS_at c_18) ?_
                  refine lv_iconst (v := (-1)) hxR hbR dX1_meets_46 (by decide) ?_
                  refine lv_icmp_ne (tgt := 54) hxR hbR dX1_meets_47 (by decide) (fun c_47 => ?_) (fun c_47 => ?_)
                  · skip
                    have i_47 : ¬ ((K i j).toInt = (-1)) := by have zz := mt i_eq.mpr c_47; exact zz
                    have hv : ¬ K i j = -1 := c_47
                    refine lv_iconst (v := 0) hxR hbR dX1_meets_54 (by decide) ?_
                    refine lv_iadd hxR hbR dX1_meets_55 ?_
                    refine lv_as (y := nI b) (nI_add b 0) ?_
                    refine lv_istore_n (lv' := [(2, .int (nI b)), (0, .ref (ad 10)), (1, .int (nI S)), (3, .int (nI i)), (4, .int (nI j))]) hxR hbR dX1_meets_56 rfl hl (by decide) rfl (fun ls hl => ?_)
                    refine lv_aload_n hxR hbR dX1_meets_57 rfl (lv_at hl 1 rfl) ?_
                    refine lv_iload_n hxR hbR dX1_meets_58 rfl (lv_at hl 3 rfl) ?_
                    refine lv_iload hxR hbR dX1_meets_59 (lv_at hl 4 rfl) ?_
                    refine lv_iconst (v := 0) hxR hbR dX1_meets_61 (by decide) ?_
                    refine kVV (n := 3) (As := [.int (nI i), .int (nI j), .int 0]) (rest := []) (fun w => w) hxR hbR hmlR hts hown hK hA hl.1 isCtx.id hI (c1_knows l E ad iv hr cs (upS K (meetG S) i j) i j 0 (by first | omega | with_reducible assumption) (by first | omega | with_reducible assumption)) (lw_V q747 q748 q749 q82 q750) ⟨rfl, by decide +kernel⟩ 0 1 rfl rfl tW_o rfl (Nat.le_of_ble_eq_true rfl) (Nat.le_of_ble_eq_true rfl) ⟨Nat.le_of_ble_eq_true rfl, Nat.le_of_ble_eq_true rfl⟩ (Nat.le_of_ble_eq_true rfl) dX1_meets_62 (fun u H locs hp hI hz => ?_)
                    have hI : wI E AR sR H locs (tW E ad iv hr cs (sK (knF (upS K (meetG S) i j) i j 0))) := hI
                    refine lv_iinc (v := nI (j + 1)) (lv' := [(4, .int (nI (j + 1))), (2, .int (nI b)), (0, .ref (ad 10)), (1, .int (nI S)), (3, .int (nI i))]) hxR hbR dX1_meets_65 hl (k := 4) rfl (show nI j + 1 = nI (j + 1) from nI_add _ 1) (by decide) rfl (fun ls hl => ?_)
                    refine lv_goto (tgt := 15) hxR hbR dX1_meets_68 (by decide) ?_
                    exact ih_15 b (j + 1) (sK (knF (upS K (meetG S) i j) i j 0)) (by first | omega | with_reducible assumption) (by rw [ha2]; first | rw [mC1_y c_23 c_32 hv]; rfl | rw [mC1_n3 hv] | rw [mC1_n1 c_23] | rw [mC1_n2 c_32]) (by first | rw [upS_some c_18 (meetG_y c_23 c_32)] | rw [upS_none (meetG_n1 c_23)] | rw [upS_none (meetG_n2 c_32)]) (by omega) _ _ hI _ (lv_sub hl [2, 3, 1, 4, 0] rfl)
                  · skip
                    have i_47 : (K i j).toInt = (-1) := by have zz := i_eq.mp c_47; exact zz
                    have hv : K i j = -1 := c_47
                    refine lv_iconst (v := 1) hxR hbR dX1_meets_50 (by decide) ?_
                    refine lv_goto (tgt := 55) hxR hbR dX1_meets_51 (by decide) ?_
                    refine lv_iadd hxR hbR dX1_meets_55 ?_
                    refine lv_as (y := nI (b + 1)) (nI_add b 1) ?_
                    refine lv_istore_n (lv' := [(2, .int (nI (b + 1))), (0, .ref (ad 10)), (1, .int (nI S)), (3, .int (nI i)), (4, .int (nI j))]) hxR hbR dX1_meets_56 rfl hl (by decide) rfl (fun ls hl => ?_)
                    refine lv_aload_n hxR hbR dX1_meets_57 rfl (lv_at hl 1 rfl) ?_
                    refine lv_iload_n hxR hbR dX1_meets_58 rfl (lv_at hl 3 rfl) ?_
                    refine lv_iload hxR hbR dX1_meets_59 (lv_at hl 4 rfl) ?_
                    refine lv_iconst (v := 0) hxR hbR dX1_meets_61 (by decide) ?_
                    refine kVV (n := 3) (As := [.int (nI i), .int (nI j), .int 0]) (rest := []) (fun w => w) hxR hbR hmlR hts hown hK hA hl.1 isCtx.id hI (c1_knows l E ad iv hr cs (upS K (meetG S) i j) i j 0 (by first | omega | with_reducible assumption) (by first | omega | with_reducible assumption)) (lw_V q747 q748 q749 q82 q750) ⟨rfl, by decide +kernel⟩ 0 1 rfl rfl tW_o rfl (Nat.le_of_ble_eq_true rfl) (Nat.le_of_ble_eq_true rfl) ⟨Nat.le_of_ble_eq_true rfl, Nat.le_of_ble_eq_true rfl⟩ (Nat.le_of_ble_eq_true rfl) dX1_meets_62 (fun u H locs hp hI hz => ?_)
                    have hI : wI E AR sR H locs (tW E ad iv hr cs (sK (knF (upS K (meetG S) i j) i j 0))) := hI
                    refine lv_iinc (v := nI (j + 1)) (lv' := [(4, .int (nI (j + 1))), (2, .int (nI (b + 1))), (0, .ref (ad 10)), (1, .int (nI S)), (3, .int (nI i))]) hxR hbR dX1_meets_65 hl (k := 4) rfl (show nI j + 1 = nI (j + 1) from nI_add _ 1) (by decide) rfl (fun ls hl => ?_)
                    refine lv_goto (tgt := 15) hxR hbR dX1_meets_68 (by decide) ?_
                    exact ih_15 (b + 1) (j + 1) (sK (knF (upS K (meetG S) i j) i j 0)) (by first | omega | with_reducible assumption) (by rw [ha2]; first | rw [mC1_y c_23 c_32 hv]; rfl | rw [mC1_n3 hv] | rw [mC1_n1 c_23] | rw [mC1_n2 c_32]) (by first | rw [upS_some c_18 (meetG_y c_23 c_32)] | rw [upS_none (meetG_n1 c_23)] | rw [upS_none (meetG_n2 c_32)]) (by omega) _ _ hI _ (lv_sub hl [2, 3, 1, 4, 0] rfl)
                · skip
                  have c_32 : S.testBit j = false := c_32
                  refine lv_if_eq (tgt := 65) hxR hbR dX1_meets_35 (by decide) (fun _ => ?_) (fun c => absurd c (by decide))
                  refine lv_iinc (v := nI (j + 1)) (lv' := [(4, .int (nI (j + 1))), (0, .ref (ad 10)), (1, .int (nI S)), (2, .int (nI b)), (3, .int (nI i))]) hxR hbR dX1_meets_65 hl (k := 4) rfl (show nI j + 1 = nI (j + 1) from nI_add _ 1) (by decide) rfl (fun ls hl => ?_)
                  refine lv_goto (tgt := 15) hxR hbR dX1_meets_68 (by decide) ?_
                  exact ih_15 b (j + 1) (sK (upS K (meetG S) i j)) (by first | omega | with_reducible assumption) (by rw [ha2]; first | rw [mC1_y c_23 c_32 hv]; rfl | rw [mC1_n3 hv] | rw [mC1_n1 c_23] | rw [mC1_n2 c_32]) (by first | rw [upS_some c_18 (meetG_y c_23 c_32)] | rw [upS_none (meetG_n1 c_23)] | rw [upS_none (meetG_n2 c_32)]) (by omega) _ _ hI _ (lv_sub hl [1, 2, 3, 4, 0] rfl)
              · skip
                have c_23 : S.testBit i = false := c_23
                refine lv_if_eq (tgt := 65) hxR hbR dX1_meets_26 (by decide) (fun _ => ?_) (fun c => absurd c (by decide))
                refine lv_iinc (v := nI (j + 1)) (lv' := [(4, .int (nI (j + 1))), (0, .ref (ad 10)), (1, .int (nI S)), (2, .int (nI b)), (3, .int (nI i))]) hxR hbR dX1_meets_65 hl (k := 4) rfl (show nI j + 1 = nI (j + 1) from nI_add _ 1) (by decide) rfl (fun ls hl => ?_)
                refine lv_goto (tgt := 15) hxR hbR dX1_meets_68 (by decide) ?_
                exact ih_15 b (j + 1) (sK (upS K (meetG S) i j)) (by first | omega | with_reducible assumption) (by rw [ha2]; first | rw [mC1_y c_23 c_32 hv]; rfl | rw [mC1_n3 hv] | rw [mC1_n1 c_23] | rw [mC1_n2 c_32]) (by first | rw [upS_some c_18 (meetG_y c_23 c_32)] | rw [upS_none (meetG_n1 c_23)] | rw [upS_none (meetG_n2 c_32)]) (by omega) _ _ hI _ (lv_sub hl [1, 2, 3, 4, 0] rfl)
        exact lp_15 _ a 0 (sK (upS K (meetG S) i 0)) (by first | omega | with_reducible assumption) (by rw [ha]; rfl) rfl (Nat.lt_succ_self _) _ _ hI _ (lv_sub hl [1, 2, 3, 4, 0] rfl)
  exact lp_4 _ 0 0 (sK K) (by first | omega | with_reducible assumption) rfl (by rw [upS_0]) (Nat.lt_succ_self _) _ _ hI _ (lv_sub hl [2, 3, 1, 0] rfl)

theorem c1_strangers (l : Launch) (E : En) (ad : Nat → Nat) (iv : Nat → Int32) (hr : Nat → Int32) (cs : Nat → Int32) (K : Nat → Nat → Int32) (n P : Nat) (hn : iv 3 = nI n) (hn7 : n ≤ 7) (hP : P < 7) : CtI l E yX1_strangers cX1_strangers 4 .int 1 0 0 [.ref (ad 10), .int (nI P)] (tW E ad iv hr cs (sK K)) (fun (r : Int32) (u : Unit) => r = nI (strS K P n)) (fun (u : Unit) => tW E ad iv hr cs (sK K)) := by
  refine CtI.of (by decide +kernel) (Nat.le_of_ble_eq_true rfl) ?_
  intro pR eR sR mR aR bR tR cR AR ls QR hxR hbR hmlR hts hown hlk hnm hA hK hI hl hret
  have hl : lv_has ls 4 [(0, .ref (ad 10)), (1, .int (nI P))] := hl
  refine lv_iconst (v := 0) hxR hbR dX1_strangers_0 (by decide) ?_
  refine lv_istore_n (lv' := [(2, .int 0), (0, .ref (ad 10)), (1, .int (nI P))]) hxR hbR dX1_strangers_1 rfl hl (by decide) rfl (fun ls hl => ?_)
  refine lv_iconst (v := 0) hxR hbR dX1_strangers_2 (by decide) ?_
  refine lv_istore_n (lv' := [(3, .int 0), (2, .int 0), (0, .ref (ad 10)), (1, .int (nI P))]) hxR hbR dX1_strangers_3 rfl hl (by decide) rfl (fun ls hl => ?_)
  have lp_4 : ∀ (fu : Nat) (a : Nat) (i : Nat), (i ≤ n) → (a = strS K P i) → n - i < fu → ∀ (H : Heap) (locs : List Loc), wI E AR sR H locs (tW E ad iv hr cs (sK K)) → ∀ ls : Array Slot, lv_has ls 4 [(0, .ref (ad 10)), (1, .int (nI P)), (2, .int (nI a)), (3, .int (nI i))] → W pR l eR (rmF 1 0 0) sR mR aR bR tR cR H locs 0 0 QR (F0 mR 4 ls []) := by
    intro fu
    induction fu with
    | zero =>
      intro a i hi ha hfu
      exact absurd hfu (Nat.not_lt_zero _)
    | succ fu ih_4 =>
      intro a i hi ha hfu H locs hI ls hl
      refine lv_iload_n hxR hbR dX1_strangers_4 rfl (lv_at hl 3 rfl) ?_
      refine lv_aload_n hxR hbR dX1_strangers_5 rfl (lv_at hl 0 rfl) ?_
      refine r_get hxR hbR hts hown hK hI okX1 (ci := 1) rfl 0 tW_o 3 (by decide) q142 rfl (v := .int (nI n)) (al hn) dX1_strangers_6 ?_
      refine lv_icmp_ge (tgt := 43) hxR hbR dX1_strangers_9 (by decide) (fun c_9 => ?_) (fun c_9 => ?_)
      · skip
        have c_9 : n ≤ i := (n_le (a := n) (b := i) (by omega) (by omega)).mp c_9
        refine lv_iload_n hxR hbR dX1_strangers_43 rfl (lv_at hl 2 rfl) ?_
        exact hret () (nI a) _ _ _ _ _ _ dX1_strangers_44 hI (by show (nI a) = nI (strS K P n); rw [ha, show i = n by omega]) (Nat.le_of_ble_eq_true rfl) (Nat.le_of_ble_eq_true rfl) rfl
      · skip
        have c_9 : i < n := Nat.lt_of_not_le (fun zz => c_9 ((n_le (a := n) (b := i) (by omega) (by omega)).mpr zz))
        refine lv_iload_n hxR hbR dX1_strangers_12 rfl (lv_at hl 2 rfl) ?_
        refine lv_iload_n hxR hbR dX1_strangers_13 rfl (lv_at hl 3 rfl) ?_
        refine lv_iload_n hxR hbR dX1_strangers_14 rfl (lv_at hl 1 rfl) ?_
        refine lv_icmp_eq (tgt := 34) hxR hbR dX1_strangers_15 (by decide) (fun c_15 => ?_) (fun c_15 => ?_)
        · skip
          have c_15 : i = P := (n_eq (a := i) (b := P) (by omega) (by omega)).mp c_15
          refine lv_iconst (v := 0) hxR hbR dX1_strangers_34 (by decide) ?_
          refine lv_ior hxR hbR dX1_strangers_35 ?_
          refine lv_as (y := nI (a ||| 0)) (nb_or a 0) ?_
          refine lv_istore_n (lv' := [(2, .int (nI (a ||| 0))), (0, .ref (ad 10)), (1, .int (nI P)), (3, .int (nI i))]) hxR hbR dX1_strangers_36 rfl hl (by decide) rfl (fun ls hl => ?_)
          refine lv_iinc (v := nI (i + 1)) (lv' := [(3, .int (nI (i + 1))), (2, .int (nI (a ||| 0))), (0, .ref (ad 10)), (1, .int (nI P))]) hxR hbR dX1_strangers_37 hl (k := 3) rfl (show nI i + 1 = nI (i + 1) from nI_add _ 1) (by decide) rfl (fun ls hl => ?_)
          refine lv_goto (tgt := 4) hxR hbR dX1_strangers_40 (by decide) ?_
          exact ih_4 (a ||| 0) (i + 1) (by first | omega | with_reducible assumption) (by rw [ha]; first | exact (strS_y c_15 c_25).symm | exact (strS_n1 c_15).symm | exact (strS_n2 c_25).symm) (by omega) _ _ hI _ (lv_sub hl [2, 3, 1, 0] rfl)
        · skip
          have c_15 : ¬ i = P := fun zz => c_15 ((n_eq (a := i) (b := P) (by omega) (by omega)).mpr zz)
          refine lv_aload_n hxR hbR dX1_strangers_18 rfl (lv_at hl 0 rfl) ?_
          refine lv_iload_n hxR hbR dX1_strangers_19 rfl (lv_at hl 1 rfl) ?_
          refine lv_iload_n hxR hbR dX1_strangers_20 rfl (lv_at hl 3 rfl) ?_
          refine kVI (n := 2) (As := [.int (nI P), .int (nI i)]) (rest := [.int (nI a)]) (fun w => w) hxR hbR hmlR hts hown hK hA hl.1 isCtx.id hI (c1_since l E ad iv hr cs K P i (by first | omega | with_reducible assumption) (by first | omega | with_reducible assumption)) (lw_V q638 q639 q640 q82 q641) ⟨rfl, by decide +kernel⟩ 0 1 rfl rfl tW_o rfl (Nat.le_of_ble_eq_true rfl) (Nat.le_of_ble_eq_true rfl) ⟨Nat.le_of_ble_eq_true rfl, Nat.le_of_ble_eq_true rfl⟩ (Nat.le_of_ble_eq_true rfl) dX1_strangers_21 (fun r_21 u H locs hp hI hz => ?_)
          have hI : wI E AR sR H locs (tW E ad iv hr cs (sK K)) := hI
          have hp : r_21 = K P i := hp
          have hr_21 := hp
          subst hr_21
          refine lv_iconst (v := (-1)) hxR hbR dX1_strangers_24 (by decide) ?_
          refine lv_icmp_ne (tgt := 34) hxR hbR dX1_strangers_25 (by decide) (fun c_25 => ?_) (fun c_25 => ?_)
          · skip
            have i_25 : ¬ ((K P i).toInt = (-1)) := by have zz := mt i_eq.mpr c_25; exact zz
            refine lv_iconst (v := 0) hxR hbR dX1_strangers_34 (by decide) ?_
            refine lv_ior hxR hbR dX1_strangers_35 ?_
            refine lv_as (y := nI (a ||| 0)) (nb_or a 0) ?_
            refine lv_istore_n (lv' := [(2, .int (nI (a ||| 0))), (0, .ref (ad 10)), (1, .int (nI P)), (3, .int (nI i))]) hxR hbR dX1_strangers_36 rfl hl (by decide) rfl (fun ls hl => ?_)
            refine lv_iinc (v := nI (i + 1)) (lv' := [(3, .int (nI (i + 1))), (2, .int (nI (a ||| 0))), (0, .ref (ad 10)), (1, .int (nI P))]) hxR hbR dX1_strangers_37 hl (k := 3) rfl (show nI i + 1 = nI (i + 1) from nI_add _ 1) (by decide) rfl (fun ls hl => ?_)
            refine lv_goto (tgt := 4) hxR hbR dX1_strangers_40 (by decide) ?_
            exact ih_4 (a ||| 0) (i + 1) (by first | omega | with_reducible assumption) (by rw [ha]; first | exact (strS_y c_15 c_25).symm | exact (strS_n1 c_15).symm | exact (strS_n2 c_25).symm) (by omega) _ _ hI _ (lv_sub hl [2, 3, 1, 0] rfl)
          · skip
            have i_25 : (K P i).toInt = (-1) := by have zz := i_eq.mp c_25; exact zz
            refine lv_iconst (v := 1) hxR hbR dX1_strangers_28 (by decide) ?_
            refine lv_iload_n hxR hbR dX1_strangers_29 rfl (lv_at hl 3 rfl) ?_
            refine lv_ishl hxR hbR dX1_strangers_30 ?_
            refine lv_as (y := nI (2 ^ i)) (nb_shl i (by omega)) ?_
            refine lv_goto (tgt := 35) hxR hbR dX1_strangers_31 (by decide) ?_
            refine lv_ior hxR hbR dX1_strangers_35 ?_
            refine lv_as (y := nI (a ||| (2 ^ i))) (nb_or a (2 ^ i)) ?_
            refine lv_istore_n (lv' := [(2, .int (nI (a ||| (2 ^ i)))), (0, .ref (ad 10)), (1, .int (nI P)), (3, .int (nI i))]) hxR hbR dX1_strangers_36 rfl hl (by decide) rfl (fun ls hl => ?_)
            refine lv_iinc (v := nI (i + 1)) (lv' := [(3, .int (nI (i + 1))), (2, .int (nI (a ||| (2 ^ i)))), (0, .ref (ad 10)), (1, .int (nI P))]) hxR hbR dX1_strangers_37 hl (k := 3) rfl (show nI i + 1 = nI (i + 1) from nI_add _ 1) (by decide) rfl (fun ls hl => ?_)
            refine lv_goto (tgt := 4) hxR hbR dX1_strangers_40 (by decide) ?_
            exact ih_4 (a ||| (2 ^ i)) (i + 1) (by first | omega | with_reducible assumption) (by rw [ha]; first | exact (strS_y c_15 c_25).symm | exact (strS_n1 c_15).symm | exact (strS_n2 c_25).symm) (by omega) _ _ hI _ (lv_sub hl [2, 3, 1, 0] rfl)
  exact lp_4 _ 0 0 (by first | omega | with_reducible assumption) rfl (Nat.lt_succ_self _) _ _ hI _ (lv_sub hl [2, 3, 1, 0] rfl)

theorem c1_strange (l : Launch) (E : En) (ad : Nat → Nat) (iv : Nat → Int32) (hr : Nat → Int32) (cs : Nat → Int32) (K : Nat → Nat → Int32) (n : Nat) (hn : iv 3 = nI n) (hn7 : n ≤ 7) : CtI l E yX1_strange cX1_strange 3 .int 2 0 0 [.ref (ad 10)] (tW E ad iv hr cs (sK K)) (fun (r : Int32) (u : Unit) => r = nI (stN K n n / 2)) (fun (u : Unit) => tW E ad iv hr cs (sK K)) := by
  refine CtI.of (by decide +kernel) (Nat.le_of_ble_eq_true rfl) ?_
  intro pR eR sR mR aR bR tR cR AR ls QR hxR hbR hmlR hts hown hlk hnm hA hK hI hl hret
  have hl : lv_has ls 3 [(0, .ref (ad 10))] := hl
  refine lv_iconst (v := 0) hxR hbR dX1_strange_0 (by decide) ?_
  refine lv_istore_n (lv' := [(1, .int 0), (0, .ref (ad 10))]) hxR hbR dX1_strange_1 rfl hl (by decide) rfl (fun ls hl => ?_)
  refine lv_iconst (v := 0) hxR hbR dX1_strange_2 (by decide) ?_
  refine lv_istore_n (lv' := [(2, .int 0), (1, .int 0), (0, .ref (ad 10))]) hxR hbR dX1_strange_3 rfl hl (by decide) rfl (fun ls hl => ?_)
  have lp_4 : ∀ (fu : Nat) (a : Nat) (i : Nat), (i ≤ n) → (a = stN K n i) → n - i < fu → ∀ (H : Heap) (locs : List Loc), wI E AR sR H locs (tW E ad iv hr cs (sK K)) → ∀ ls : Array Slot, lv_has ls 3 [(0, .ref (ad 10)), (1, .int (nI a)), (2, .int (nI i))] → W pR l eR (rmF 2 0 0) sR mR aR bR tR cR H locs 0 0 QR (F0 mR 4 ls []) := by
    intro fu
    induction fu with
    | zero =>
      intro a i hi ha hfu
      exact absurd hfu (Nat.not_lt_zero _)
    | succ fu ih_4 =>
      intro a i hi ha hfu H locs hI ls hl
      refine lv_iload_n hxR hbR dX1_strange_4 rfl (lv_at hl 2 rfl) ?_
      refine lv_aload_n hxR hbR dX1_strange_5 rfl (lv_at hl 0 rfl) ?_
      refine r_get hxR hbR hts hown hK hI okX1 (ci := 1) rfl 0 tW_o 3 (by decide) q142 rfl (v := .int (nI n)) (al hn) dX1_strange_6 ?_
      refine lv_icmp_ge (tgt := 29) hxR hbR dX1_strange_9 (by decide) (fun c_9 => ?_) (fun c_9 => ?_)
      · skip
        have c_9 : n ≤ i := (n_le (a := n) (b := i) (by omega) (by omega)).mp c_9
        refine lv_iload_n hxR hbR dX1_strange_29 rfl (lv_at hl 1 rfl) ?_
        refine lv_iconst (v := 2) hxR hbR dX1_strange_30 (by decide) ?_
        refine lv_idiv hxR hbR dX1_strange_31 (by decide) ?_
        have hsl := stN_le K n i
        exact hret () ((nI a) / 2) _ _ _ _ _ _ dX1_strange_32 hI (by show ((nI a) / 2) = nI (stN K n n / 2); rw [ha, show i = n by omega]; exact pk_div (d := 2) (by rw [show i = n by omega] at hsl; omega) (by decide) (by decide)) (Nat.le_of_ble_eq_true rfl) (Nat.le_of_ble_eq_true rfl) rfl
      · skip
        have c_9 : i < n := Nat.lt_of_not_le (fun zz => c_9 ((n_le (a := n) (b := i) (by omega) (by omega)).mpr zz))
        refine lv_iload_n hxR hbR dX1_strange_12 rfl (lv_at hl 1 rfl) ?_
        refine lv_aload_n hxR hbR dX1_strange_13 rfl (lv_at hl 0 rfl) ?_
        refine lv_iload_n hxR hbR dX1_strange_14 rfl (lv_at hl 2 rfl) ?_
        refine kVI (n := 1) (As := [.int (nI i)]) (rest := [.int (nI a)]) (fun w => w) hxR hbR hmlR hts hown hK hA hl.1 isCtx.id hI (c1_strangers l E ad iv hr cs K n i hn (by first | omega | with_reducible assumption) (by first | omega | with_reducible assumption)) (lw_V q1462 q635 q636 q82 q637) ⟨rfl, by decide +kernel⟩ 0 1 rfl rfl tW_o rfl (Nat.le_of_ble_eq_true rfl) (Nat.le_of_ble_eq_true rfl) ⟨Nat.le_of_ble_eq_true rfl, Nat.le_of_ble_eq_true rfl⟩ (Nat.le_of_ble_eq_true rfl) dX1_strange_15 (fun r_15 u H locs hp hI hz => ?_)
        have hI : wI E AR sR H locs (tW E ad iv hr cs (sK K)) := hI
        have hp : r_15 = nI (strS K i n) := hp
        have hr_15 := hp
        subst hr_15
        have hst9 : strS K i n < 2 ^ 8 := Nat.lt_of_lt_of_le (strS_lt K i n) (Nat.pow_le_pow_right (by decide) (by omega))
        refine kSI (n := 1) (As := [.int (nI (strS K i n))]) (rest := [.int (nI a)]) (fun w => w ++ (tW E ad iv hr cs (sK K))) hxR hbR hmlR hts hown hK hA hl.1 (isCtx.suf _) hI (c10_bitCount l E  (strS K i n) (by first | omega | with_reducible assumption)) (lw_S q1463 q651 q105 q652) (by decide +kernel) rfl (Nat.le_of_ble_eq_true rfl) (Nat.le_of_ble_eq_true rfl) ⟨Nat.le_of_ble_eq_true rfl, Nat.le_of_ble_eq_true rfl⟩ (Nat.le_of_ble_eq_true rfl) dX1_strange_18 (fun r_18 u H locs hp hI hz => ?_)
        have hI : wI E AR sR H locs (tW E ad iv hr cs (sK K)) := hI
        have hp : r_18 = nI (bitsN (strS K i n) 8) := hp
        have hr_18 := hp
        subst hr_18
        refine lv_iadd hxR hbR dX1_strange_21 ?_
        refine lv_as (y := nI (a + (bitsN (strS K i n) 8))) (nI_add a (bitsN (strS K i n) 8)) ?_
        refine lv_istore_n (lv' := [(1, .int (nI (a + (bitsN (strS K i n) 8)))), (0, .ref (ad 10)), (2, .int (nI i))]) hxR hbR dX1_strange_22 rfl hl (by decide) rfl (fun ls hl => ?_)
        refine lv_iinc (v := nI (i + 1)) (lv' := [(2, .int (nI (i + 1))), (1, .int (nI (a + (bitsN (strS K i n) 8)))), (0, .ref (ad 10))]) hxR hbR dX1_strange_23 hl (k := 2) rfl (show nI i + 1 = nI (i + 1) from nI_add _ 1) (by decide) rfl (fun ls hl => ?_)
        refine lv_goto (tgt := 4) hxR hbR dX1_strange_26 (by decide) ?_
        exact ih_4 (a + (bitsN (strS K i n) 8)) (i + 1) (by first | omega | with_reducible assumption) (by rw [ha]; rfl) (by omega) _ _ hI _ (lv_sub hl [2, 1, 0] rfl)
  exact lp_4 _ 0 0 (by first | omega | with_reducible assumption) rfl (Nat.lt_succ_self _) _ _ hI _ (lv_sub hl [2, 1, 0] rfl)

theorem c1_year (l : Launch) (E : En) (ad : Nat → Nat) (iv : Nat → Int32) (hr : Nat → Int32) (cs : Nat → Int32) (K : Nat → Nat → Int32) (n : Nat) (hn : iv 3 = nI n) (hn7 : n ≤ 7) (hm0 : 0 ≤ (iv 5).toInt) (hK9 : ∀ p q, p < n → q < p → K p q = -1 ∨ (0 ≤ (K p q).toInt ∧ (K p q).toInt ≤ 99)) : CtI l E yX1_year cX1_year 7 .int 2 0 0 [.ref (ad 10)] (tW E ad iv hr cs (sK K)) (fun (r : Int32) (u : Unit) => r = nI (yC K (iv 5) n)) (fun (u : Unit) => tW E ad (va_up iv 8 (iv 8 + 1)) hr cs (sK (yearK K (iv 5) n))) := by
  refine CtI.of (by decide +kernel) (Nat.le_of_ble_eq_true rfl) ?_
  intro pR eR sR mR aR bR tR cR AR ls QR hxR hbR hmlR hts hown hlk hnm hA hK hI hl hret
  have hl : lv_has ls 7 [(0, .ref (ad 10))] := hl
  refine lv_iconst (v := 0) hxR hbR dX1_year_0 (by decide) ?_
  refine lv_istore_n (lv' := [(1, .int 0), (0, .ref (ad 10))]) hxR hbR dX1_year_1 rfl hl (by decide) rfl (fun ls hl => ?_)
  refine lv_iconst (v := 0) hxR hbR dX1_year_2 (by decide) ?_
  refine lv_istore_n (lv' := [(2, .int 0), (1, .int 0), (0, .ref (ad 10))]) hxR hbR dX1_year_3 rfl hl (by decide) rfl (fun ls hl => ?_)
  have lp_4 : ∀ (fu : Nat) (a : Nat) (i : Nat) (Sx : Nat → Int32), (i ≤ n) → (a = yC K (iv 5) i) → (Sx = sK (upS K (yearG K (iv 5)) i 0)) → n - i < fu → ∀ (H : Heap) (locs : List Loc), wI E AR sR H locs (tW E ad iv hr cs Sx) → ∀ ls : Array Slot, lv_has ls 7 [(0, .ref (ad 10)), (1, .int (nI a)), (2, .int (nI i))] → W pR l eR (rmF 2 0 0) sR mR aR bR tR cR H locs 0 0 QR (F0 mR 4 ls []) := by
    intro fu
    induction fu with
    | zero =>
      intro a i Sx hi ha hSx hfu
      exact absurd hfu (Nat.not_lt_zero _)
    | succ fu ih_4 =>
      intro a i Sx hi ha hSx hfu H locs hI ls hl
      subst hSx
      refine lv_iload_n hxR hbR dX1_year_4 rfl (lv_at hl 2 rfl) ?_
      refine lv_aload_n hxR hbR dX1_year_5 rfl (lv_at hl 0 rfl) ?_
      refine r_get hxR hbR hts hown hK hI okX1 (ci := 1) rfl 0 tW_o 3 (by decide) q142 rfl (v := .int (nI n)) (al hn) dX1_year_6 ?_
      refine lv_icmp_ge (tgt := 112) hxR hbR dX1_year_9 (by decide) (fun c_9 => ?_) (fun c_9 => ?_)
      · skip
        have c_9 : n ≤ i := (n_le (a := n) (b := i) (by omega) (by omega)).mp c_9
        refine lv_aload_n hxR hbR dX1_year_112 rfl (lv_at hl 0 rfl) ?_
        refine lv_dup hxR hbR dX1_year_113 rfl ?_
        refine r_get hxR hbR hts hown hK hI okX1 (ci := 1) rfl 0 tW_o 8 (by decide) q156 rfl (v := .int (iv 8)) (al rfl) dX1_year_114 ?_
        refine lv_iconst (v := 1) hxR hbR dX1_year_117 (by decide) ?_
        refine lv_iadd hxR hbR dX1_year_118 ?_
        refine r_put (v := .int ((iv 8) + 1)) (ws1 := tW E ad (va_up iv 8 ((iv 8) + 1)) hr cs (sK (upS K (yearG K (iv 5)) i 0))) hxR hbR hts hown hK hI okX1 (ci := 1) rfl 0 tW_o 8 (by decide) q156 rfl rfl rfl rfl (Nat.le_of_ble_eq_true rfl) tW_i8 dX1_year_119 (fun H locs hI => ?_)
        refine lv_iload_n hxR hbR dX1_year_122 rfl (lv_at hl 1 rfl) ?_
        have hin : i = n := by omega
        rw [hin] at hI ha
        have hI : wI E AR sR H locs (tW E ad (va_up iv 8 (iv 8 + 1)) hr cs (sK (yearK K (iv 5) n))) := by exact hI
        exact hret () (nI a) _ _ _ _ _ _ dX1_year_123 hI (by show (nI a) = nI (yC K (iv 5) n); rw [ha]) (Nat.le_of_ble_eq_true rfl) (Nat.le_of_ble_eq_true rfl) rfl
      · skip
        have c_9 : i < n := Nat.lt_of_not_le (fun zz => c_9 ((n_le (a := n) (b := i) (by omega) (by omega)).mpr zz))
        refine lv_iconst (v := 0) hxR hbR dX1_year_12 (by decide) ?_
        refine lv_istore_n (lv' := [(3, .int 0), (0, .ref (ad 10)), (1, .int (nI a)), (2, .int (nI i))]) hxR hbR dX1_year_13 rfl hl (by decide) rfl (fun ls hl => ?_)
        have lp_14 : ∀ (fu : Nat) (b : Nat) (j : Nat) (Sy : Nat → Int32), (j ≤ i) → (b = yC K (iv 5) i + yC1 K (iv 5) i j) → (Sy = sK (upS K (yearG K (iv 5)) i j)) → i - j < fu → ∀ (H : Heap) (locs : List Loc), wI E AR sR H locs (tW E ad iv hr cs Sy) → ∀ ls : Array Slot, lv_has ls 7 [(0, .ref (ad 10)), (1, .int (nI b)), (2, .int (nI i)), (3, .int (nI j))] → W pR l eR (rmF 2 0 0) sR mR aR bR tR cR H locs 0 0 QR (F0 mR 14 ls []) := by
          intro fu
          induction fu with
          | zero =>
            intro b j Sy hj hb hSy hfu
            exact absurd hfu (Nat.not_lt_zero _)
          | succ fu ih_14 =>
            intro b j Sy hj hb hSy hfu H locs hI ls hl
            subst hSy
            refine lv_iload_n hxR hbR dX1_year_14 rfl (lv_at hl 3 rfl) ?_
            refine lv_iload_n hxR hbR dX1_year_15 rfl (lv_at hl 2 rfl) ?_
            refine lv_icmp_ge (tgt := 106) hxR hbR dX1_year_16 (by decide) (fun c_16 => ?_) (fun c_16 => ?_)
            · skip
              have c_16 : i ≤ j := (n_le (a := i) (b := j) (by omega) (by omega)).mp c_16
              refine lv_iinc (v := nI (i + 1)) (lv' := [(2, .int (nI (i + 1))), (0, .ref (ad 10)), (1, .int (nI b)), (3, .int (nI j))]) hxR hbR dX1_year_106 hl (k := 2) rfl (show nI i + 1 = nI (i + 1) from nI_add _ 1) (by decide) rfl (fun ls hl => ?_)
              refine lv_goto (tgt := 4) hxR hbR dX1_year_109 (by decide) ?_
              exact ih_4 b (i + 1) (sK (upS K (yearG K (iv 5)) i j)) (by first | omega | with_reducible assumption) (by rw [hb, show j = i by omega]; rfl) (by rw [show j = i by omega, upS_row]) (by omega) _ _ hI _ (lv_sub hl [1, 2, 0] rfl)
            · skip
              have c_16 : j < i := Nat.lt_of_not_le (fun zz => c_16 ((n_le (a := i) (b := j) (by omega) (by omega)).mpr zz))
              refine lv_aload_n hxR hbR dX1_year_19 rfl (lv_at hl 0 rfl) ?_
              refine lv_iload_n hxR hbR dX1_year_20 rfl (lv_at hl 2 rfl) ?_
              refine lv_iload_n hxR hbR dX1_year_21 rfl (lv_at hl 3 rfl) ?_
              refine kVI (n := 2) (As := [.int (nI i), .int (nI j)]) (rest := []) (fun w => w) hxR hbR hmlR hts hown hK hA hl.1 isCtx.id hI (c1_since l E ad iv hr cs (upS K (yearG K (iv 5)) i j) i j (by first | omega | with_reducible assumption) (by first | omega | with_reducible assumption)) (lw_V q638 q639 q640 q82 q641) ⟨rfl, by decide +kernel⟩ 0 1 rfl rfl tW_o rfl (Nat.le_of_ble_eq_true rfl) (Nat.le_of_ble_eq_true rfl) ⟨Nat.le_of_ble_eq_true rfl, Nat.le_of_ble_eq_true rfl⟩ (Nat.le_of_ble_eq_true rfl) dX1_year_22 (fun r_22 u H locs hp hI hz => ?_)
              have hI : wI E AR sR H locs (tW E ad iv hr cs (sK (upS K (yearG K (iv 5)) i j))) := hI
              have hp : r_22 = (upS K (yearG K (iv 5)) i j) i j := hp
              have hr_22 := hp
              subst hr_22
              refine lv_as (y := K i j) (upS_at c_16) ?_
              refine lv_istore (lv' := [(4, .int (K i j)), (0, .ref (ad 10)), (1, .int (nI b)), (2, .int (nI i)), (3, .int (nI j))]) hxR hbR dX1_year_25 hl (by decide) rfl (fun ls hl => ?_)
              refine lv_iload hxR hbR dX1_year_27 (lv_at hl 0 rfl) ?_
              refine lv_iconst (v := (-1)) hxR hbR dX1_year_29 (by decide) ?_
              refine lv_icmp_ne (tgt := 36) hxR hbR dX1_year_30 (by decide) (fun c_30 => ?_) (fun c_30 => ?_)
              · skip
                have i_30 : ¬ ((K i j).toInt = (-1)) := by have zz := mt i_eq.mpr c_30; exact zz
                refine lv_bipush (v := 99) hxR hbR dX1_year_36 (by decide) ?_
                refine lv_iload hxR hbR dX1_year_38 (lv_at hl 0 rfl) ?_
                refine lv_iconst (v := 1) hxR hbR dX1_year_40 (by decide) ?_
                refine lv_iadd hxR hbR dX1_year_41 ?_
                refine va_mmin hxR hbR (by rw [hmlR]; exact hl.1.symm) hown (hts _ q1432) (hts _ q910) (hts _ q106) (hts _ q911) (Nat.le_of_ble_eq_true rfl) (Nat.le_of_ble_eq_true rfl) (by omega) (by omega) dX1_year_42 ?_
                refine lv_as (y := yrV (K i j)) (yr_min ((hK9 i j (by omega) c_16).resolve_left c_30)) ?_
                refine lv_istore (lv' := [(5, .int (yrV (K i j))), (4, .int (K i j)), (0, .ref (ad 10)), (1, .int (nI b)), (2, .int (nI i)), (3, .int (nI j))]) hxR hbR dX1_year_45 hl (by decide) rfl (fun ls hl => ?_)
                refine lv_aload_n hxR hbR dX1_year_47 rfl (lv_at hl 2 rfl) ?_
                refine r_get hxR hbR hts hown hK hI okX1 (ci := 1) rfl 0 tW_o 5 (by decide) q149 rfl (v := .int (iv 5)) (al rfl) dX1_year_48 ?_
                refine lv_if_le (tgt := 67) hxR hbR dX1_year_51 (by decide) (fun c_51 => ?_) (fun c_51 => ?_)
                · skip
                  have i_51 : (iv 5).toInt ≤ 0 := by have zz := i_le.mp c_51; exact zz
                  have hg : yrG (iv 5) (K i j) = false := by first | exact decide_eq_false (fun z => z.1 (le0_eq hm0 c_51)) | exact decide_eq_false (fun z => absurd z.2 (Int32.not_lt.mpr c_60))
                  refine lv_iconst (v := 0) hxR hbR dX1_year_67 (by decide) ?_
                  refine lv_istore (lv' := [(6, .int 0), (5, .int (yrV (K i j))), (4, .int (K i j)), (0, .ref (ad 10)), (1, .int (nI b)), (2, .int (nI i)), (3, .int (nI j))]) hxR hbR dX1_year_68 hl (by decide) rfl (fun ls hl => ?_)
                  refine lv_aload_n hxR hbR dX1_year_70 rfl (lv_at hl 3 rfl) ?_
                  refine lv_iload_n hxR hbR dX1_year_71 rfl (lv_at hl 5 rfl) ?_
                  refine lv_iload_n hxR hbR dX1_year_72 rfl (lv_at hl 6 rfl) ?_
                  refine lv_iload hxR hbR dX1_year_73 (lv_at hl 0 rfl) ?_
                  refine lv_if_eq (tgt := 82) hxR hbR dX1_year_75 (by decide) (fun _ => ?_) (fun c => absurd c (by decide))
                  refine lv_iload hxR hbR dX1_year_82 (lv_at hl 1 rfl) ?_
                  refine kVV (n := 3) (As := [.int (nI i), .int (nI j), .int (yrV (K i j))]) (rest := []) (fun w => w) hxR hbR hmlR hts hown hK hA hl.1 isCtx.id hI (c1_knows l E ad iv hr cs (upS K (yearG K (iv 5)) i j) i j (yrV (K i j)) (by first | omega | with_reducible assumption) (by first | omega | with_reducible assumption)) (lw_V q747 q748 q749 q82 q750) ⟨rfl, by decide +kernel⟩ 0 1 rfl rfl tW_o rfl (Nat.le_of_ble_eq_true rfl) (Nat.le_of_ble_eq_true rfl) ⟨Nat.le_of_ble_eq_true rfl, Nat.le_of_ble_eq_true rfl⟩ (Nat.le_of_ble_eq_true rfl) dX1_year_84 (fun u H locs hp hI hz => ?_)
                  have hI : wI E AR sR H locs (tW E ad iv hr cs (sK (knF (upS K (yearG K (iv 5)) i j) i j (yrV (K i j))))) := hI
                  refine lv_iload_n hxR hbR dX1_year_87 rfl (lv_at hl 4 rfl) ?_
                  refine lv_iload hxR hbR dX1_year_88 (lv_at hl 0 rfl) ?_
                  refine lv_if_eq (tgt := 97) hxR hbR dX1_year_90 (by decide) (fun _ => ?_) (fun c => absurd c (by decide))
                  refine lv_iconst (v := 0) hxR hbR dX1_year_97 (by decide) ?_
                  refine lv_iadd hxR hbR dX1_year_98 ?_
                  refine lv_as (y := nI b) (nI_add b 0) ?_
                  refine lv_istore_n (lv' := [(1, .int (nI b)), (6, .int 0), (5, .int (yrV (K i j))), (4, .int (K i j)), (0, .ref (ad 10)), (2, .int (nI i)), (3, .int (nI j))]) hxR hbR dX1_year_99 rfl hl (by decide) rfl (fun ls hl => ?_)
                  refine lv_iinc (v := nI (j + 1)) (lv' := [(3, .int (nI (j + 1))), (1, .int (nI b)), (6, .int 0), (5, .int (yrV (K i j))), (4, .int (K i j)), (0, .ref (ad 10)), (2, .int (nI i))]) hxR hbR dX1_year_100 hl (k := 6) rfl (show nI j + 1 = nI (j + 1) from nI_add _ 1) (by decide) rfl (fun ls hl => ?_)
                  refine lv_goto (tgt := 14) hxR hbR dX1_year_103 (by decide) ?_
                  exact ih_14 b (j + 1) (sK (knF (upS K (yearG K (iv 5)) i j) i j (yrV (K i j)))) (by first | omega | with_reducible assumption) (by rw [hb]; first | rw [yC1_n1 c_30] | (rw [yC1_y c_30 hg]; try rfl) | (rw [yC1_n2 hg]; try rfl)) (by first | rw [upS_none (yearG_n c_30)] | rw [upS_some c_16 (yearG_y c_30 hg)] | rw [upS_some c_16 (yearG_y2 c_30 hg)]) (by omega) _ _ hI _ (lv_sub hl [5, 1, 6, 0] rfl)
                · skip
                  have i_51 : ¬ ((iv 5).toInt ≤ 0) := by have zz := mt i_le.mpr c_51; exact zz
                  refine lv_iload hxR hbR dX1_year_54 (lv_at hl 0 rfl) ?_
                  refine lv_aload_n hxR hbR dX1_year_56 rfl (lv_at hl 2 rfl) ?_
                  refine r_get hxR hbR hts hown hK hI okX1 (ci := 1) rfl 0 tW_o 5 (by decide) q149 rfl (v := .int (iv 5)) (al rfl) dX1_year_57 ?_
                  refine lv_icmp_le (tgt := 67) hxR hbR dX1_year_60 (by decide) (fun c_60 => ?_) (fun c_60 => ?_)
                  · skip
                    have i_60 : (yrV (K i j)).toInt ≤ (iv 5).toInt := by have zz := i_le.mp c_60; exact zz
                    have hg : yrG (iv 5) (K i j) = false := by first | exact decide_eq_false (fun z => z.1 (le0_eq hm0 c_51)) | exact decide_eq_false (fun z => absurd z.2 (Int32.not_lt.mpr c_60))
                    refine lv_iconst (v := 0) hxR hbR dX1_year_67 (by decide) ?_
                    refine lv_istore (lv' := [(6, .int 0), (5, .int (yrV (K i j))), (4, .int (K i j)), (0, .ref (ad 10)), (1, .int (nI b)), (2, .int (nI i)), (3, .int (nI j))]) hxR hbR dX1_year_68 hl (by decide) rfl (fun ls hl => ?_)
                    refine lv_aload_n hxR hbR dX1_year_70 rfl (lv_at hl 3 rfl) ?_
                    refine lv_iload_n hxR hbR dX1_year_71 rfl (lv_at hl 5 rfl) ?_
                    refine lv_iload_n hxR hbR dX1_year_72 rfl (lv_at hl 6 rfl) ?_
                    refine lv_iload hxR hbR dX1_year_73 (lv_at hl 0 rfl) ?_
                    refine lv_if_eq (tgt := 82) hxR hbR dX1_year_75 (by decide) (fun _ => ?_) (fun c => absurd c (by decide))
                    refine lv_iload hxR hbR dX1_year_82 (lv_at hl 1 rfl) ?_
                    refine kVV (n := 3) (As := [.int (nI i), .int (nI j), .int (yrV (K i j))]) (rest := []) (fun w => w) hxR hbR hmlR hts hown hK hA hl.1 isCtx.id hI (c1_knows l E ad iv hr cs (upS K (yearG K (iv 5)) i j) i j (yrV (K i j)) (by first | omega | with_reducible assumption) (by first | omega | with_reducible assumption)) (lw_V q747 q748 q749 q82 q750) ⟨rfl, by decide +kernel⟩ 0 1 rfl rfl tW_o rfl (Nat.le_of_ble_eq_true rfl) (Nat.le_of_ble_eq_true rfl) ⟨Nat.le_of_ble_eq_true rfl, Nat.le_of_ble_eq_true rfl⟩ (Nat.le_of_ble_eq_true rfl) dX1_year_84 (fun u H locs hp hI hz => ?_)
                    have hI : wI E AR sR H locs (tW E ad iv hr cs (sK (knF (upS K (yearG K (iv 5)) i j) i j (yrV (K i j))))) := hI
                    refine lv_iload_n hxR hbR dX1_year_87 rfl (lv_at hl 4 rfl) ?_
                    refine lv_iload hxR hbR dX1_year_88 (lv_at hl 0 rfl) ?_
                    refine lv_if_eq (tgt := 97) hxR hbR dX1_year_90 (by decide) (fun _ => ?_) (fun c => absurd c (by decide))
                    refine lv_iconst (v := 0) hxR hbR dX1_year_97 (by decide) ?_
                    refine lv_iadd hxR hbR dX1_year_98 ?_
                    refine lv_as (y := nI b) (nI_add b 0) ?_
                    refine lv_istore_n (lv' := [(1, .int (nI b)), (6, .int 0), (5, .int (yrV (K i j))), (4, .int (K i j)), (0, .ref (ad 10)), (2, .int (nI i)), (3, .int (nI j))]) hxR hbR dX1_year_99 rfl hl (by decide) rfl (fun ls hl => ?_)
                    refine lv_iinc (v := nI (j + 1)) (lv' := [(3, .int (nI (j + 1))), (1, .int (nI b)), (6, .int 0), (5, .int (yrV (K i j))), (4, .int (K i j)), (0, .ref (ad 10)), (2, .int (nI i))]) hxR hbR dX1_year_100 hl (k := 6) rfl (show nI j + 1 = nI (j + 1) from nI_add _ 1) (by decide) rfl (fun ls hl => ?_)
                    refine lv_goto (tgt := 14) hxR hbR dX1_year_103 (by decide) ?_
                    exact ih_14 b (j + 1) (sK (knF (upS K (yearG K (iv 5)) i j) i j (yrV (K i j)))) (by first | omega | with_reducible assumption) (by rw [hb]; first | rw [yC1_n1 c_30] | (rw [yC1_y c_30 hg]; try rfl) | (rw [yC1_n2 hg]; try rfl)) (by first | rw [upS_none (yearG_n c_30)] | rw [upS_some c_16 (yearG_y c_30 hg)] | rw [upS_some c_16 (yearG_y2 c_30 hg)]) (by omega) _ _ hI _ (lv_sub hl [5, 1, 6, 0] rfl)
                  · skip
                    have i_60 : ¬ ((yrV (K i j)).toInt ≤ (iv 5).toInt) := by have zz := mt i_le.mpr c_60; exact zz
                    have hg : yrG (iv 5) (K i j) = true := decide_eq_true ⟨by intro z; rw [z] at c_51; exact c_51 (by decide), Int32.not_le.mp c_60⟩
                    refine lv_iconst (v := 1) hxR hbR dX1_year_63 (by decide) ?_
                    refine lv_goto (tgt := 68) hxR hbR dX1_year_64 (by decide) ?_
                    refine lv_istore (lv' := [(6, .int 1), (5, .int (yrV (K i j))), (4, .int (K i j)), (0, .ref (ad 10)), (1, .int (nI b)), (2, .int (nI i)), (3, .int (nI j))]) hxR hbR dX1_year_68 hl (by decide) rfl (fun ls hl => ?_)
                    refine lv_aload_n hxR hbR dX1_year_70 rfl (lv_at hl 3 rfl) ?_
                    refine lv_iload_n hxR hbR dX1_year_71 rfl (lv_at hl 5 rfl) ?_
                    refine lv_iload_n hxR hbR dX1_year_72 rfl (lv_at hl 6 rfl) ?_
                    refine lv_iload hxR hbR dX1_year_73 (lv_at hl 0 rfl) ?_
                    refine lv_if_eq (tgt := 82) hxR hbR dX1_year_75 (by decide) (fun c => absurd c (by decide)) (fun _ => ?_)
                    refine lv_iconst (v := (-1)) hxR hbR dX1_year_78 (by decide) ?_
                    refine lv_goto (tgt := 84) hxR hbR dX1_year_79 (by decide) ?_
                    refine kVV (n := 3) (As := [.int (nI i), .int (nI j), .int (-1)]) (rest := []) (fun w => w) hxR hbR hmlR hts hown hK hA hl.1 isCtx.id hI (c1_knows l E ad iv hr cs (upS K (yearG K (iv 5)) i j) i j (-1) (by first | omega | with_reducible assumption) (by first | omega | with_reducible assumption)) (lw_V q747 q748 q749 q82 q750) ⟨rfl, by decide +kernel⟩ 0 1 rfl rfl tW_o rfl (Nat.le_of_ble_eq_true rfl) (Nat.le_of_ble_eq_true rfl) ⟨Nat.le_of_ble_eq_true rfl, Nat.le_of_ble_eq_true rfl⟩ (Nat.le_of_ble_eq_true rfl) dX1_year_84 (fun u H locs hp hI hz => ?_)
                    have hI : wI E AR sR H locs (tW E ad iv hr cs (sK (knF (upS K (yearG K (iv 5)) i j) i j (-1)))) := hI
                    refine lv_iload_n hxR hbR dX1_year_87 rfl (lv_at hl 4 rfl) ?_
                    refine lv_iload hxR hbR dX1_year_88 (lv_at hl 0 rfl) ?_
                    refine lv_if_eq (tgt := 97) hxR hbR dX1_year_90 (by decide) (fun c => absurd c (by decide)) (fun _ => ?_)
                    refine lv_iconst (v := 1) hxR hbR dX1_year_93 (by decide) ?_
                    refine lv_goto (tgt := 98) hxR hbR dX1_year_94 (by decide) ?_
                    refine lv_iadd hxR hbR dX1_year_98 ?_
                    refine lv_as (y := nI (b + 1)) (nI_add b 1) ?_
                    refine lv_istore_n (lv' := [(1, .int (nI (b + 1))), (6, .int 1), (5, .int (yrV (K i j))), (4, .int (K i j)), (0, .ref (ad 10)), (2, .int (nI i)), (3, .int (nI j))]) hxR hbR dX1_year_99 rfl hl (by decide) rfl (fun ls hl => ?_)
                    refine lv_iinc (v := nI (j + 1)) (lv' := [(3, .int (nI (j + 1))), (1, .int (nI (b + 1))), (6, .int 1), (5, .int (yrV (K i j))), (4, .int (K i j)), (0, .ref (ad 10)), (2, .int (nI i))]) hxR hbR dX1_year_100 hl (k := 6) rfl (show nI j + 1 = nI (j + 1) from nI_add _ 1) (by decide) rfl (fun ls hl => ?_)
                    refine lv_goto (tgt := 14) hxR hbR dX1_year_103 (by decide) ?_
                    exact ih_14 (b + 1) (j + 1) (sK (knF (upS K (yearG K (iv 5)) i j) i j (-1))) (by first | omega | with_reducible assumption) (by rw [hb]; first | rw [yC1_n1 c_30] | (rw [yC1_y c_30 hg]; try rfl) | (rw [yC1_n2 hg]; try rfl)) (by first | rw [upS_none (yearG_n c_30)] | rw [upS_some c_16 (yearG_y c_30 hg)] | rw [upS_some c_16 (yearG_y2 c_30 hg)]) (by omega) _ _ hI _ (lv_sub hl [5, 1, 6, 0] rfl)
              · skip
                have i_30 : (K i j).toInt = (-1) := by have zz := i_eq.mp c_30; exact zz
                refine lv_goto (tgt := 100) hxR hbR dX1_year_33 (by decide) ?_
                refine lv_iinc (v := nI (j + 1)) (lv' := [(3, .int (nI (j + 1))), (4, .int (K i j)), (0, .ref (ad 10)), (1, .int (nI b)), (2, .int (nI i))]) hxR hbR dX1_year_100 hl (k := 4) rfl (show nI j + 1 = nI (j + 1) from nI_add _ 1) (by decide) rfl (fun ls hl => ?_)
                refine lv_goto (tgt := 14) hxR hbR dX1_year_103 (by decide) ?_
                exact ih_14 b (j + 1) (sK (upS K (yearG K (iv 5)) i j)) (by first | omega | with_reducible assumption) (by rw [hb]; first | rw [yC1_n1 c_30] | (rw [yC1_y c_30 hg]; try rfl) | (rw [yC1_n2 hg]; try rfl)) (by first | rw [upS_none (yearG_n c_30)] | rw [upS_some c_16 (yearG_y c_30 hg)] | rw [upS_some c_16 (yearG_y2 c_30 hg)]) (by omega) _ _ hI _ (lv_sub hl [2, 3, 4, 0] rfl)
        exact lp_14 _ a 0 (sK (upS K (yearG K (iv 5)) i 0)) (by first | omega | with_reducible assumption) (by rw [ha]; rfl) rfl (Nat.lt_succ_self _) _ _ hI _ (lv_sub hl [1, 2, 3, 0] rfl)
  exact lp_4 _ 0 0 (sK K) (by first | omega | with_reducible assumption) rfl (by rw [upS_0]) (Nat.lt_succ_self _) _ _ hI _ (lv_sub hl [2, 1, 0] rfl)

theorem c1_draw (l : Launch) (E : En) (ad : Nat → Nat) (iv : Nat → Int32) (hr : Nat → Int32) (cs : Nat → Int32) (K : Nat → Nat → Int32) (kk : Int32) (hk0 : ¬ kk = 0) : CtI l E yX1_draw cX1_draw 2 .int 0 0 0 [.ref (ad 10), .int kk] (tW E ad iv hr cs (sK K)) (fun (r : Int32) (u : Unit) => r = drV (iv 9) kk) (fun (u : Unit) => tW E ad (va_up iv 9 (drS (iv 9))) hr cs (sK K)) := by
  refine CtI.of (by decide +kernel) (Nat.le_of_ble_eq_true rfl) ?_
  intro pR eR sR mR aR bR tR cR AR ls QR hxR hbR hmlR hts hown hlk hnm hA hK hI hl hret
  have hl : lv_has ls 2 [(0, .ref (ad 10)), (1, .int kk)] := hl
  refine lv_aload_n hxR hbR dX1_draw_0 rfl (lv_at hl 0 rfl) ?_
  refine lv_aload_n hxR hbR dX1_draw_1 rfl (lv_at hl 0 rfl) ?_
  refine r_get hxR hbR hts hown hK hI okX1 (ci := 1) rfl 0 tW_o 9 (by decide) q158 rfl (v := .int (iv 9)) (al rfl) dX1_draw_2 ?_
  refine lv_ldc (v := 1103515245) hxR hbR hown (hts _ q1441) dX1_draw_5 ?_
  refine lv_imul hxR hbR dX1_draw_7 ?_
  refine lv_sipush (v := 12345) hxR hbR dX1_draw_8 (by decide) ?_
  refine lv_iadd hxR hbR dX1_draw_11 ?_
  refine r_put (v := .int (((iv 9) * 1103515245) + 12345)) (ws1 := tW E ad (va_up iv 9 (((iv 9) * 1103515245) + 12345)) hr cs (sK K)) hxR hbR hts hown hK hI okX1 (ci := 1) rfl 0 tW_o 9 (by decide) q158 rfl rfl rfl rfl (Nat.le_of_ble_eq_true rfl) tW_i9 dX1_draw_12 (fun H locs hI => ?_)
  refine lv_aload_n hxR hbR dX1_draw_15 rfl (lv_at hl 0 rfl) ?_
  refine r_get hxR hbR hts hown hK hI okX1 (ci := 1) rfl 0 tW_o 9 (by decide) q158 rfl (v := .int (((iv 9) * 1103515245) + 12345)) (al va_up_s) dX1_draw_16 ?_
  refine lv_bipush (v := 16) hxR hbR dX1_draw_19 (by decide) ?_
  refine lv_iushr (v := ((((iv 9) * 1103515245) + 12345).toUInt32 >>> ((16 : Int32).toUInt32 &&& Int32.toUInt32 31)).toInt32) hxR hbR dX1_draw_21 rfl ?_
  refine lv_iload_n hxR hbR dX1_draw_22 rfl (lv_at hl 1 rfl) ?_
  refine lv_irem hxR hbR dX1_draw_23 hk0 ?_
  exact hret () ((((((iv 9) * 1103515245) + 12345).toUInt32 >>> ((16 : Int32).toUInt32 &&& Int32.toUInt32 31)).toInt32) - (((((iv 9) * 1103515245) + 12345).toUInt32 >>> ((16 : Int32).toUInt32 &&& Int32.toUInt32 31)).toInt32) / kk * kk) _ _ _ _ _ _ dX1_draw_24 hI (by show ((((((iv 9) * 1103515245) + 12345).toUInt32 >>> ((16 : Int32).toUInt32 &&& Int32.toUInt32 31)).toInt32) - (((((iv 9) * 1103515245) + 12345).toUInt32 >>> ((16 : Int32).toUInt32 &&& Int32.toUInt32 31)).toInt32) / kk * kk) = drV (iv 9) kk; rfl) (Nat.le_of_ble_eq_true rfl) (Nat.le_of_ble_eq_true rfl) rfl

theorem c1_becomes (l : Launch) (E : En) (ad : Nat → Nat) (iv : Nat → Int32) (hr : Nat → Int32) (cs : Nat → Int32) (S : Nat → Int32) (adb : Nat → Nat) (ivb : Nat → Int32) (hrb : Nat → Int32) (csb : Nat → Int32) (Sb : Nat → Int32)   : CtT l E yX1_becomes cX1_becomes 2 (Jvm.ClassFile.FieldType.object "ThreeStrangers$Town") 3 0 0 [.ref (ad 10), .ref (adb 10)] (tW E ad iv hr cs S ++ (tW E adb ivb hrb csb Sb)) (fun (u : Unit) => True) (fun (u : Unit) => tW E ad (va_up (va_up (va_up (va_up (va_up (va_up (va_up iv 3 (ivb 3)) 4 (ivb 4)) 5 (ivb 5)) 6 (ivb 6)) 7 (ivb 7)) 8 (ivb 8)) 9 (ivb 9)) hrb csb Sb ++ (tW E adb ivb hrb csb Sb)) (fun (u : Unit) => ad 10) := by
  refine CtT.of (by decide +kernel) (Nat.le_of_ble_eq_true rfl) (by first | exact Or.inl ⟨_, rfl⟩ | exact Or.inr ⟨_, rfl⟩) ?_
  intro pR eR sR mR aR bR tR cR AR ls QR hxR hbR hmlR hts hown hlk hnm hA hK hI hl hret
  have hl : lv_has ls 2 [(0, .ref (ad 10)), (1, .ref (adb 10))] := hl
  refine lv_aload_n hxR hbR dX1_becomes_0 rfl (lv_at hl 1 rfl) ?_
  refine r_get hxR hbR hts hown hK hI okX1 (ci := 1) rfl (4 + 0) (he_r (Nat.le_of_ble_eq_true rfl) (Nat.le_of_ble_eq_true rfl) tW_o) 0 (by decide) q131 rfl (v := .ref (adb 0)) rfl dX1_becomes_1 ?_
  refine lv_iconst (v := 0) hxR hbR dX1_becomes_4 (by decide) ?_
  refine lv_aload_n hxR hbR dX1_becomes_5 rfl (lv_at hl 0 rfl) ?_
  refine r_get hxR hbR hts hown hK hI okX1 (ci := 1) rfl 0 (he_l tW_o) 0 (by decide) q131 rfl (v := .ref (ad 0)) rfl dX1_becomes_6 ?_
  refine lv_iconst (v := 0) hxR hbR dX1_becomes_9 (by decide) ?_
  refine lv_bipush (v := 7) hxR hbR dX1_becomes_10 (by decide) ?_
  refine r_copyA (n := 7) (ws1 := tW E ad iv hrb cs S ++ (tW E adb ivb hrb csb Sb)) hxR hbR (by rw [hmlR]; exact hl.1.symm) hts hown q799 q518 q517 q97 hK hI (4 + 1) 1 (he_r (Nat.le_of_ble_eq_true rfl) (Nat.le_of_ble_eq_true rfl) (tW_g0 rfl)) (he_l (tW_g0 rfl)) (by decide) (Nat.le_of_ble_eq_true rfl) (Nat.le_of_ble_eq_true rfl) (hw_l (Nat.le_of_ble_eq_true rfl) tW_a0) dX1_becomes_12 (fun H locs hI => ?_)
  refine lv_aload_n hxR hbR dX1_becomes_15 rfl (lv_at hl 1 rfl) ?_
  refine r_get hxR hbR hts hown hK hI okX1 (ci := 1) rfl (4 + 0) (he_r (Nat.le_of_ble_eq_true rfl) (Nat.le_of_ble_eq_true rfl) tW_o) 1 (by decide) q134 rfl (v := .ref (adb 1)) rfl dX1_becomes_16 ?_
  refine lv_iconst (v := 0) hxR hbR dX1_becomes_19 (by decide) ?_
  refine lv_aload_n hxR hbR dX1_becomes_20 rfl (lv_at hl 0 rfl) ?_
  refine r_get hxR hbR hts hown hK hI okX1 (ci := 1) rfl 0 (he_l tW_o) 1 (by decide) q134 rfl (v := .ref (ad 1)) rfl dX1_becomes_21 ?_
  refine lv_iconst (v := 0) hxR hbR dX1_becomes_24 (by decide) ?_
  refine lv_bipush (v := 7) hxR hbR dX1_becomes_25 (by decide) ?_
  refine r_copyA (n := 7) (ws1 := tW E ad iv hrb csb S ++ (tW E adb ivb hrb csb Sb)) hxR hbR (by rw [hmlR]; exact hl.1.symm) hts hown q799 q518 q517 q97 hK hI (4 + 2) 2 (he_r (Nat.le_of_ble_eq_true rfl) (Nat.le_of_ble_eq_true rfl) (tW_g1 rfl)) (he_l (tW_g1 rfl)) (by decide) (Nat.le_of_ble_eq_true rfl) (Nat.le_of_ble_eq_true rfl) (hw_l (Nat.le_of_ble_eq_true rfl) tW_a1) dX1_becomes_27 (fun H locs hI => ?_)
  refine lv_aload_n hxR hbR dX1_becomes_30 rfl (lv_at hl 1 rfl) ?_
  refine r_get hxR hbR hts hown hK hI okX1 (ci := 1) rfl (4 + 0) (he_r (Nat.le_of_ble_eq_true rfl) (Nat.le_of_ble_eq_true rfl) tW_o) 2 (by decide) q138 rfl (v := .ref (adb 2)) rfl dX1_becomes_31 ?_
  refine lv_iconst (v := 0) hxR hbR dX1_becomes_34 (by decide) ?_
  refine lv_aload_n hxR hbR dX1_becomes_35 rfl (lv_at hl 0 rfl) ?_
  refine r_get hxR hbR hts hown hK hI okX1 (ci := 1) rfl 0 (he_l tW_o) 2 (by decide) q138 rfl (v := .ref (ad 2)) rfl dX1_becomes_36 ?_
  refine lv_iconst (v := 0) hxR hbR dX1_becomes_39 (by decide) ?_
  refine lv_bipush (v := 49) hxR hbR dX1_becomes_40 (by decide) ?_
  refine r_copyA (n := 49) (ws1 := tW E ad iv hrb csb Sb ++ (tW E adb ivb hrb csb Sb)) hxR hbR (by rw [hmlR]; exact hl.1.symm) hts hown q799 q518 q517 q97 hK hI (4 + 3) 3 (he_r (Nat.le_of_ble_eq_true rfl) (Nat.le_of_ble_eq_true rfl) (tW_g2 rfl)) (he_l (tW_g2 rfl)) (by decide) (Nat.le_of_ble_eq_true rfl) (Nat.le_of_ble_eq_true rfl) (hw_l (Nat.le_of_ble_eq_true rfl) tW_a2) dX1_becomes_42 (fun H locs hI => ?_)
  refine lv_aload_n hxR hbR dX1_becomes_45 rfl (lv_at hl 0 rfl) ?_
  refine lv_aload_n hxR hbR dX1_becomes_46 rfl (lv_at hl 1 rfl) ?_
  refine r_get hxR hbR hts hown hK hI okX1 (ci := 1) rfl (4 + 0) (he_r (Nat.le_of_ble_eq_true rfl) (Nat.le_of_ble_eq_true rfl) tW_o) 3 (by decide) q142 rfl (v := .int (ivb 3)) (al rfl) dX1_becomes_47 ?_
  refine r_put (v := .int (ivb 3)) (ws1 := tW E ad (va_up iv 3 (ivb 3)) hrb csb Sb ++ (tW E adb ivb hrb csb Sb)) hxR hbR hts hown hK hI okX1 (ci := 1) rfl 0 (he_l tW_o) 3 (by decide) q142 rfl rfl rfl rfl (Nat.le_of_ble_eq_true rfl) (hw_l (Nat.le_of_ble_eq_true rfl) tW_i3) dX1_becomes_50 (fun H locs hI => ?_)
  refine lv_aload_n hxR hbR dX1_becomes_53 rfl (lv_at hl 0 rfl) ?_
  refine lv_aload_n hxR hbR dX1_becomes_54 rfl (lv_at hl 1 rfl) ?_
  refine r_get hxR hbR hts hown hK hI okX1 (ci := 1) rfl (4 + 0) (he_r (Nat.le_of_ble_eq_true rfl) (Nat.le_of_ble_eq_true rfl) tW_o) 4 (by decide) q145 rfl (v := .int (ivb 4)) (al rfl) dX1_becomes_55 ?_
  refine r_put (v := .int (ivb 4)) (ws1 := tW E ad (va_up (va_up iv 3 (ivb 3)) 4 (ivb 4)) hrb csb Sb ++ (tW E adb ivb hrb csb Sb)) hxR hbR hts hown hK hI okX1 (ci := 1) rfl 0 (he_l tW_o) 4 (by decide) q145 rfl rfl rfl rfl (Nat.le_of_ble_eq_true rfl) (hw_l (Nat.le_of_ble_eq_true rfl) tW_i4) dX1_becomes_58 (fun H locs hI => ?_)
  refine lv_aload_n hxR hbR dX1_becomes_61 rfl (lv_at hl 0 rfl) ?_
  refine lv_aload_n hxR hbR dX1_becomes_62 rfl (lv_at hl 1 rfl) ?_
  refine r_get hxR hbR hts hown hK hI okX1 (ci := 1) rfl (4 + 0) (he_r (Nat.le_of_ble_eq_true rfl) (Nat.le_of_ble_eq_true rfl) tW_o) 5 (by decide) q149 rfl (v := .int (ivb 5)) (al rfl) dX1_becomes_63 ?_
  refine r_put (v := .int (ivb 5)) (ws1 := tW E ad (va_up (va_up (va_up iv 3 (ivb 3)) 4 (ivb 4)) 5 (ivb 5)) hrb csb Sb ++ (tW E adb ivb hrb csb Sb)) hxR hbR hts hown hK hI okX1 (ci := 1) rfl 0 (he_l tW_o) 5 (by decide) q149 rfl rfl rfl rfl (Nat.le_of_ble_eq_true rfl) (hw_l (Nat.le_of_ble_eq_true rfl) tW_i5) dX1_becomes_66 (fun H locs hI => ?_)
  refine lv_aload_n hxR hbR dX1_becomes_69 rfl (lv_at hl 0 rfl) ?_
  refine lv_aload_n hxR hbR dX1_becomes_70 rfl (lv_at hl 1 rfl) ?_
  refine r_get hxR hbR hts hown hK hI okX1 (ci := 1) rfl (4 + 0) (he_r (Nat.le_of_ble_eq_true rfl) (Nat.le_of_ble_eq_true rfl) tW_o) 6 (by decide) q152 rfl (v := .int (ivb 6)) (al rfl) dX1_becomes_71 ?_
  refine r_put (v := .int (ivb 6)) (ws1 := tW E ad (va_up (va_up (va_up (va_up iv 3 (ivb 3)) 4 (ivb 4)) 5 (ivb 5)) 6 (ivb 6)) hrb csb Sb ++ (tW E adb ivb hrb csb Sb)) hxR hbR hts hown hK hI okX1 (ci := 1) rfl 0 (he_l tW_o) 6 (by decide) q152 rfl rfl rfl rfl (Nat.le_of_ble_eq_true rfl) (hw_l (Nat.le_of_ble_eq_true rfl) tW_i6) dX1_becomes_74 (fun H locs hI => ?_)
  refine lv_aload_n hxR hbR dX1_becomes_77 rfl (lv_at hl 0 rfl) ?_
  refine lv_aload_n hxR hbR dX1_becomes_78 rfl (lv_at hl 1 rfl) ?_
  refine r_get hxR hbR hts hown hK hI okX1 (ci := 1) rfl (4 + 0) (he_r (Nat.le_of_ble_eq_true rfl) (Nat.le_of_ble_eq_true rfl) tW_o) 7 (by decide) q154 rfl (v := .int (ivb 7)) (al rfl) dX1_becomes_79 ?_
  refine r_put (v := .int (ivb 7)) (ws1 := tW E ad (va_up (va_up (va_up (va_up (va_up iv 3 (ivb 3)) 4 (ivb 4)) 5 (ivb 5)) 6 (ivb 6)) 7 (ivb 7)) hrb csb Sb ++ (tW E adb ivb hrb csb Sb)) hxR hbR hts hown hK hI okX1 (ci := 1) rfl 0 (he_l tW_o) 7 (by decide) q154 rfl rfl rfl rfl (Nat.le_of_ble_eq_true rfl) (hw_l (Nat.le_of_ble_eq_true rfl) tW_i7) dX1_becomes_82 (fun H locs hI => ?_)
  refine lv_aload_n hxR hbR dX1_becomes_85 rfl (lv_at hl 0 rfl) ?_
  refine lv_aload_n hxR hbR dX1_becomes_86 rfl (lv_at hl 1 rfl) ?_
  refine r_get hxR hbR hts hown hK hI okX1 (ci := 1) rfl (4 + 0) (he_r (Nat.le_of_ble_eq_true rfl) (Nat.le_of_ble_eq_true rfl) tW_o) 8 (by decide) q156 rfl (v := .int (ivb 8)) (al rfl) dX1_becomes_87 ?_
  refine r_put (v := .int (ivb 8)) (ws1 := tW E ad (va_up (va_up (va_up (va_up (va_up (va_up iv 3 (ivb 3)) 4 (ivb 4)) 5 (ivb 5)) 6 (ivb 6)) 7 (ivb 7)) 8 (ivb 8)) hrb csb Sb ++ (tW E adb ivb hrb csb Sb)) hxR hbR hts hown hK hI okX1 (ci := 1) rfl 0 (he_l tW_o) 8 (by decide) q156 rfl rfl rfl rfl (Nat.le_of_ble_eq_true rfl) (hw_l (Nat.le_of_ble_eq_true rfl) tW_i8) dX1_becomes_90 (fun H locs hI => ?_)
  refine lv_aload_n hxR hbR dX1_becomes_93 rfl (lv_at hl 0 rfl) ?_
  refine lv_aload_n hxR hbR dX1_becomes_94 rfl (lv_at hl 1 rfl) ?_
  refine r_get hxR hbR hts hown hK hI okX1 (ci := 1) rfl (4 + 0) (he_r (Nat.le_of_ble_eq_true rfl) (Nat.le_of_ble_eq_true rfl) tW_o) 9 (by decide) q158 rfl (v := .int (ivb 9)) (al rfl) dX1_becomes_95 ?_
  refine r_put (v := .int (ivb 9)) (ws1 := tW E ad (va_up (va_up (va_up (va_up (va_up (va_up (va_up iv 3 (ivb 3)) 4 (ivb 4)) 5 (ivb 5)) 6 (ivb 6)) 7 (ivb 7)) 8 (ivb 8)) 9 (ivb 9)) hrb csb Sb ++ (tW E adb ivb hrb csb Sb)) hxR hbR hts hown hK hI okX1 (ci := 1) rfl 0 (he_l tW_o) 9 (by decide) q158 rfl rfl rfl rfl (Nat.le_of_ble_eq_true rfl) (hw_l (Nat.le_of_ble_eq_true rfl) tW_i9) dX1_becomes_98 (fun H locs hI => ?_)
  refine lv_aload_n hxR hbR dX1_becomes_101 rfl (lv_at hl 0 rfl) ?_
  exact hret () _ _ _ _ _ _ dX1_becomes_102 hI trivial (Nat.le_of_ble_eq_true rfl) (Nat.le_of_ble_eq_true rfl)

def tDef : List Value := [.null, .null, .null, .int 0, .int 0, .int 0, .int 0, .int 0, .int 0, .int 0]
def tiv0 : Nat → Int32 := (va_up (va_up (fun _ => 0) 4 3) 9 1)
theorem c1_init (l : Launch) (E : En) (o : Nat) : CtV l E yX1_init cX1_init 1 1 3 63 [.ref o] [(o, .inr (1, tDef))] (fun (u : Nat → Nat) => u 10 = o) (fun (u : Nat → Nat) => tW E u tiv0 (fun _ => 0) (fun _ => 0) (fun _ => 0)) := by
  refine CtV.of (by decide +kernel) (Nat.le_of_ble_eq_true rfl) ?_
  intro pR eR sR mR aR bR tR cR AR ls QR hxR hbR hmlR hts hown hlk hnm hA hK hI hl hret
  have hl : lv_has ls 1 [(0, .ref o)] := hl
  refine lv_aload_n hxR hbR dX1_init_0 rfl (lv_at hl 0 rfl) ?_
  refine W.objInit hxR hbR hown (hts _ q130) (hts _ q123) (hts _ q124) rfl (by rw [hmlR]; exact hl.1) rfl dX1_init_1 (Nat.le_of_ble_eq_true rfl) (Nat.le_of_ble_eq_true rfl) ?_
  refine W.eq (g2 := F0 mR 4 ls []) rfl ?_
  refine lv_aload_n hxR hbR dX1_init_4 rfl (lv_at hl 0 rfl) ?_
  refine lv_bipush (v := 7) hxR hbR dX1_init_5 (by decide) ?_
  refine r_newa (n := 7) (a0 := (7, .inl (fun _ => 0))) hxR hbR hts hA hK hI (atype := .int) rfl q181 0 rfl (fun h => h) (fun _ => rfl) (by decide) (Nat.le_of_ble_eq_true rfl) (Nat.le_of_ble_eq_true rfl) (Nat.le_of_ble_eq_true rfl) dX1_init_7 (fun a0 H hI => ?_)
  have hI : wI E AR sR H _ [(o, .inr (1, [.null, .null, .null, .int 0, .int 0, .int 0, .int 0, .int 0, .int 0, .int 0])), (a0, .inl (E.2 0, 7, .inl (fun _ => 0)))] := hI
  refine r_putF (v := .ref a0) (ws1 := [(o, .inr (1, [.ref a0, .null, .null, .int 0, .int 0, .int 0, .int 0, .int 0, .int 0, .int 0])), (a0, .inl (E.2 0, 7, .inl (fun _ => 0)))]) hxR hbR hts hown hK hI okX1 (ci := 1) rfl 0 rfl 0 (by decide) q131 rfl rfl hnm rfl rfl rfl (Nat.le_of_ble_eq_true rfl) rfl dX1_init_9 (fun H locs hI => ?_)
  refine lv_aload_n hxR hbR dX1_init_12 rfl (lv_at hl 0 rfl) ?_
  refine lv_bipush (v := 7) hxR hbR dX1_init_13 (by decide) ?_
  refine r_newa (n := 7) (a0 := (7, .inl (fun _ => 0))) hxR hbR hts hA hK hI (atype := .int) rfl q181 0 rfl (fun h => h) (fun _ => rfl) (by decide) (Nat.le_of_ble_eq_true rfl) (Nat.le_of_ble_eq_true rfl) (Nat.le_of_ble_eq_true rfl) dX1_init_15 (fun a1 H hI => ?_)
  have hI : wI E AR sR H _ [(o, .inr (1, [.ref a0, .null, .null, .int 0, .int 0, .int 0, .int 0, .int 0, .int 0, .int 0])), (a0, .inl (E.2 0, 7, .inl (fun _ => 0))), (a1, .inl (E.2 0, 7, .inl (fun _ => 0)))] := hI
  refine r_putF (v := .ref a1) (ws1 := [(o, .inr (1, [.ref a0, .ref a1, .null, .int 0, .int 0, .int 0, .int 0, .int 0, .int 0, .int 0])), (a0, .inl (E.2 0, 7, .inl (fun _ => 0))), (a1, .inl (E.2 0, 7, .inl (fun _ => 0)))]) hxR hbR hts hown hK hI okX1 (ci := 1) rfl 0 rfl 1 (by decide) q134 rfl rfl hnm rfl rfl rfl (Nat.le_of_ble_eq_true rfl) rfl dX1_init_17 (fun H locs hI => ?_)
  refine lv_aload_n hxR hbR dX1_init_20 rfl (lv_at hl 0 rfl) ?_
  refine lv_bipush (v := 49) hxR hbR dX1_init_21 (by decide) ?_
  refine r_newa (n := 49) (a0 := (49, .inl (fun _ => 0))) hxR hbR hts hA hK hI (atype := .int) rfl q181 0 rfl (fun h => h) (fun _ => rfl) (by decide) (Nat.le_of_ble_eq_true rfl) (Nat.le_of_ble_eq_true rfl) (Nat.le_of_ble_eq_true rfl) dX1_init_23 (fun a2 H hI => ?_)
  have hI : wI E AR sR H _ [(o, .inr (1, [.ref a0, .ref a1, .null, .int 0, .int 0, .int 0, .int 0, .int 0, .int 0, .int 0])), (a0, .inl (E.2 0, 7, .inl (fun _ => 0))), (a1, .inl (E.2 0, 7, .inl (fun _ => 0))), (a2, .inl (E.2 0, 49, .inl (fun _ => 0)))] := hI
  refine r_putF (v := .ref a2) (ws1 := [(o, .inr (1, [.ref a0, .ref a1, .ref a2, .int 0, .int 0, .int 0, .int 0, .int 0, .int 0, .int 0])), (a0, .inl (E.2 0, 7, .inl (fun _ => 0))), (a1, .inl (E.2 0, 7, .inl (fun _ => 0))), (a2, .inl (E.2 0, 49, .inl (fun _ => 0)))]) hxR hbR hts hown hK hI okX1 (ci := 1) rfl 0 rfl 2 (by decide) q138 rfl rfl hnm rfl rfl rfl (Nat.le_of_ble_eq_true rfl) rfl dX1_init_25 (fun H locs hI => ?_)
  refine lv_aload_n hxR hbR dX1_init_28 rfl (lv_at hl 0 rfl) ?_
  refine lv_iconst (v := 3) hxR hbR dX1_init_29 (by decide) ?_
  refine r_put (v := .int 3) (ws1 := [(o, .inr (1, [.ref a0, .ref a1, .ref a2, .int 0, .int 3, .int 0, .int 0, .int 0, .int 0, .int 0])), (a0, .inl (E.2 0, 7, .inl (fun _ => 0))), (a1, .inl (E.2 0, 7, .inl (fun _ => 0))), (a2, .inl (E.2 0, 49, .inl (fun _ => 0)))]) hxR hbR hts hown hK hI okX1 (ci := 1) rfl 0 rfl 4 (by decide) q145 rfl rfl rfl rfl (Nat.le_of_ble_eq_true rfl) rfl dX1_init_30 (fun H locs hI => ?_)
  refine lv_aload_n hxR hbR dX1_init_33 rfl (lv_at hl 0 rfl) ?_
  refine lv_iconst (v := 1) hxR hbR dX1_init_34 (by decide) ?_
  refine r_put (v := .int 1) (ws1 := [(o, .inr (1, [.ref a0, .ref a1, .ref a2, .int 0, .int 3, .int 0, .int 0, .int 0, .int 0, .int 1])), (a0, .inl (E.2 0, 7, .inl (fun _ => 0))), (a1, .inl (E.2 0, 7, .inl (fun _ => 0))), (a2, .inl (E.2 0, 49, .inl (fun _ => 0)))]) hxR hbR hts hown hK hI okX1 (ci := 1) rfl 0 rfl 9 (by decide) q158 rfl rfl rfl rfl (Nat.le_of_ble_eq_true rfl) rfl dX1_init_35 (fun H locs hI => ?_)
  have hI : wI E AR sR _ _ (tW E (fun k => match k with | 0 => a0 | 1 => a1 | 2 => a2 | 10 => o | _ => 0) (va_up (va_up (fun _ => 0) 4 3) 9 1) (fun _ => 0) (fun _ => 0) (fun _ => 0)) := hI
  exact hret (fun k => match k with | 0 => a0 | 1 => a1 | 2 => a2 | 10 => o | _ => 0) _ _ _ _ _ _ dX1_init_38 hI rfl (Nat.le_of_ble_eq_true rfl) (Nat.le_of_ble_eq_true rfl)

theorem c1_copied (l : Launch) (E : En) (ad : Nat → Nat) (iv : Nat → Int32) (hr : Nat → Int32) (cs : Nat → Int32) (S : Nat → Int32)   : CtR l E yX1_copied cX1_copied 1 (Jvm.ClassFile.FieldType.object "ThreeStrangers$Town") 6 4 73 [.ref (ad 10)] (tW E ad iv hr cs S) (fun (u : (Nat → Nat)) => True) (fun (u : (Nat → Nat)) (q : Nat) => tW E ad iv hr cs S ++ (tW E (va_up u 10 q) (va_up (va_up (va_up (va_up (va_up (va_up (va_up tiv0 3 (iv 3)) 4 (iv 4)) 5 (iv 5)) 6 (iv 6)) 7 (iv 7)) 8 (iv 8)) 9 (iv 9)) hr cs S)) := by
  refine CtR.of (by decide +kernel) (Nat.le_of_ble_eq_true rfl) (by first | exact Or.inl ⟨_, rfl⟩ | exact Or.inr ⟨_, rfl⟩) ?_
  intro pR eR sR mR aR bR tR cR AR ls QR hxR hbR hmlR hts hown hlk hnm hA hK hI hl hret
  have hl : lv_has ls 1 [(0, .ref (ad 10))] := hl
  refine r_new (fs := tDef) hxR hbR hts hown hA hK hI okX1 (ci := 1) rfl q793 q126 q82 (by decide +kernel) (Nat.le_of_ble_eq_true rfl) (Nat.le_of_ble_eq_true rfl) dX1_copied_0 (fun q_0 H hI => ?_)
  have hI : wI E AR sR H _ (tW E ad iv hr cs S ++ ([(q_0, .inr (1, tDef))])) := hI
  refine lv_dup hxR hbR dX1_copied_3 rfl ?_
  refine kIV (n := 0) (As := []) (rest := [.ref q_0]) (fun w => (tW E ad iv hr cs S) ++ w) hxR hbR hmlR hts hown hK hA hl.1 (isCtx.pre _) hI (c1_init l E q_0) q129 q82 q794 q128 rfl (by decide +kernel) rfl (Nat.le_of_ble_eq_true rfl) (Nat.le_of_ble_eq_true rfl) ⟨Nat.le_of_ble_eq_true rfl, Nat.le_of_ble_eq_true rfl⟩ (Nat.le_of_ble_eq_true rfl) dX1_copied_4 (fun adc H locs hp hI9 hz => ?_)
  have hp : adc 10 = q_0 := hp
  subst hp
  have hI : wI E AR sR H locs (tW E ad iv hr cs S ++ (tW E adc tiv0 (fun _ => 0) (fun _ => 0) (fun _ => 0))) := hI9
  refine lv_aload_n hxR hbR dX1_copied_7 rfl (lv_at hl 0 rfl) ?_
  have hI : wI E AR sR H locs (tW E adc tiv0 (fun _ => 0) (fun _ => 0) (fun _ => 0) ++ (tW E ad iv hr cs S)) := wI_pick ([tW E ad iv hr cs S, tW E adc tiv0 (fun _ => 0) (fun _ => 0) (fun _ => 0)]) [1, 0] 2 rfl (by decide) hI
  refine kVT (n := 1) (As := [.ref (ad 10)]) (rest := []) (fun w => w) hxR hbR hmlR hts hown hK hA hl.1 isCtx.id hI (c1_becomes l E adc tiv0 (fun _ => 0) (fun _ => 0) (fun _ => 0) ad iv hr cs S  ) (lw_V q795 q796 q797 q82 q798) ⟨rfl, by decide +kernel⟩ 0 1 rfl rfl (he_l tW_o) rfl (Nat.le_of_ble_eq_true rfl) (Nat.le_of_ble_eq_true rfl) ⟨Nat.le_of_ble_eq_true rfl, Nat.le_of_ble_eq_true rfl⟩ (Nat.le_of_ble_eq_true rfl) dX1_copied_8 (fun u H locs hp hI hz => ?_)
  have hI : wI E AR sR H locs (tW E adc (va_up (va_up (va_up (va_up (va_up (va_up (va_up tiv0 3 (iv 3)) 4 (iv 4)) 5 (iv 5)) 6 (iv 6)) 7 (iv 7)) 8 (iv 8)) 9 (iv 9)) hr cs S ++ (tW E ad iv hr cs S)) := hI
  have hI : wI E AR sR H locs (tW E ad iv hr cs S ++ (tW E adc (va_up (va_up (va_up (va_up (va_up (va_up (va_up tiv0 3 (iv 3)) 4 (iv 4)) 5 (iv 5)) 6 (iv 6)) 7 (iv 7)) 8 (iv 8)) 9 (iv 9)) hr cs S)) := wI_pick ([tW E adc (va_up (va_up (va_up (va_up (va_up (va_up (va_up tiv0 3 (iv 3)) 4 (iv 4)) 5 (iv 5)) 6 (iv 6)) 7 (iv 7)) 8 (iv 8)) 9 (iv 9)) hr cs S, tW E ad iv hr cs S]) [1, 0] 2 rfl (by decide) hI
  have hI : wI E AR sR H locs (tW E ad iv hr cs S ++ (tW E (va_up adc 10 (adc 10)) (va_up (va_up (va_up (va_up (va_up (va_up (va_up tiv0 3 (iv 3)) 4 (iv 4)) 5 (iv 5)) 6 (iv 6)) 7 (iv 7)) 8 (iv 8)) 9 (iv 9)) hr cs S)) := by rw [va_up_id (f := adc) (k := 10) (v := adc 10) rfl]; exact hI
  exact hret adc (adc 10) _ _ _ _ _ _ dX1_copied_11 hI (by show True; trivial) (Nat.le_of_ble_eq_true rfl) (Nat.le_of_ble_eq_true rfl)
