theorem c5_row (l : Launch) (E : En) (ad : Nat → Nat) (kp tr : Option Nat) (iv : Nat → Int32) (ia K : Nat → Nat → Int32) (R : Nat → Nat → Int64) (mv : Nat → Int64) (x y z : Int32)  : CtI l E yX5_row cX5_row 5 .int 2 0 0 [.ref (ad 45), .int x, .int y, .int z] (mW E ad kp tr iv ia K R mv) (fun (r : Int32) (u : Unit) => r = gd (rowC x y z) 1 (rowC x y z)) (fun (u : Unit) => mW E ad kp tr iv (va_up (va_up (va_up (va_up ia 0 (gd (rowC x y z) (va_up (ia 0) x.toNatClampNeg 1) (ia 0))) 1 (gd (rowC x y z) (va_up (ia 1) x.toNatClampNeg y) (ia 1))) 2 (gd (rowC x y z) (va_up (ia 2) x.toNatClampNeg z) (ia 2))) 9 (bumpR (ia 9) (rowC x y z))) K (gd (rowC x y z) (va_up R x.toNatClampNeg (fun _ => 0)) R) mv) := by
  refine CtI.of (by decide +kernel) (Nat.le_of_ble_eq_true rfl) ?_
  intro pR eR sR mR aR bR tR cR AR ls QR hxR hbR hmlR hts hown hlk hnm hA hK hI hl hret
  have hl : lv_has ls 5 [(0, .ref (ad 45)), (1, .int x), (2, .int y), (3, .int z)] := hl
  refine lv_iload_n hxR hbR dX5_row_0 rfl (lv_at hl 1 rfl) ?_
  refine lv_i2l (v := x.toInt64) hxR hbR dX5_row_1 rfl ?_
  refine lv_lconst (v := 0) hxR hbR dX5_row_2 (by decide) ?_
  refine lv_ldc2 (v := 7) hxR hbR hown (hts _ q1618) dX5_row_3 ?_
  refine kSI (n := 3) (As := [.long x.toInt64, .long (0 : Int64), .long (7 : Int64)]) (rest := []) (fun w => w ++ (mW E ad kp tr iv ia K R mv)) hxR hbR hmlR hts hown hK hA hl.1 (isCtx.suf _) hI (c5_in l E  x.toInt64 (0 : Int64) (7 : Int64) ) (lw_S q1619 q1620 q86 q1621) (by decide +kernel) rfl (Nat.le_of_ble_eq_true rfl) (Nat.le_of_ble_eq_true rfl) ⟨Nat.le_of_ble_eq_true rfl, Nat.le_of_ble_eq_true rfl⟩ (Nat.le_of_ble_eq_true rfl) dX5_row_6 (fun r_6 u H locs hp hI hz => ?_)
  have hI : wI E AR sR H locs (mW E ad kp tr iv ia K R mv) := hI
  have hp : r_6 = b2i (inL x.toInt64 (0 : Int64) (7 : Int64)) := hp
  have hr_6 := hp
  rcases b2i_cases hr_6 with ⟨c_6, rfl⟩ | ⟨c_6, rfl⟩
  · skip
    have c_6 : (0 : Int64).toInt ≤ x.toInt64.toInt ∧ x.toInt64.toInt ≤ (7 : Int64).toInt := of_decide_eq_true c_6
    have c_6 : 0 ≤ x.toInt ∧ x.toInt ≤ 7 := by simp only [Int32.toInt_toInt64] at c_6; exact c_6
    obtain ⟨P, hP, rfl⟩ := nat_of_le (k := 7) c_6 (by decide)
    have tP : (nI P).toInt = (P : Int) := nI_toInt (by omega)
    refine lv_if_eq (tgt := 36) hxR hbR dX5_row_9 (by decide) (fun c => absurd c (by decide)) (fun _ => ?_)
    refine lv_iload_n hxR hbR dX5_row_12 rfl (lv_at hl 2 rfl) ?_
    refine lv_i2l (v := y.toInt64) hxR hbR dX5_row_13 rfl ?_
    refine lv_lconst (v := 0) hxR hbR dX5_row_14 (by decide) ?_
    refine lv_ldc2 (v := 4) hxR hbR hown (hts _ q1622) dX5_row_15 ?_
    refine kSI (n := 3) (As := [.long y.toInt64, .long (0 : Int64), .long (4 : Int64)]) (rest := []) (fun w => w ++ (mW E ad kp tr iv ia K R mv)) hxR hbR hmlR hts hown hK hA hl.1 (isCtx.suf _) hI (c5_in l E  y.toInt64 (0 : Int64) (4 : Int64) ) (lw_S q1619 q1620 q86 q1621) (by decide +kernel) rfl (Nat.le_of_ble_eq_true rfl) (Nat.le_of_ble_eq_true rfl) ⟨Nat.le_of_ble_eq_true rfl, Nat.le_of_ble_eq_true rfl⟩ (Nat.le_of_ble_eq_true rfl) dX5_row_18 (fun r_18 u H locs hp hI hz => ?_)
    have hI : wI E AR sR H locs (mW E ad kp tr iv ia K R mv) := hI
    have hp : r_18 = b2i (inL y.toInt64 (0 : Int64) (4 : Int64)) := hp
    have hr_18 := hp
    rcases b2i_cases hr_18 with ⟨c_18, rfl⟩ | ⟨c_18, rfl⟩
    · skip
      have c_18 : (0 : Int64).toInt ≤ y.toInt64.toInt ∧ y.toInt64.toInt ≤ (4 : Int64).toInt := of_decide_eq_true c_18
      have c_18 : 0 ≤ y.toInt ∧ y.toInt ≤ 4 := by simp only [Int32.toInt_toInt64] at c_18; exact c_18
      refine lv_if_eq (tgt := 36) hxR hbR dX5_row_21 (by decide) (fun c => absurd c (by decide)) (fun _ => ?_)
      refine lv_iload_n hxR hbR dX5_row_24 rfl (lv_at hl 3 rfl) ?_
      refine lv_i2l (v := z.toInt64) hxR hbR dX5_row_25 rfl ?_
      refine lv_lconst (v := 0) hxR hbR dX5_row_26 (by decide) ?_
      refine lv_ldc2 (v := 40) hxR hbR hown (hts _ q1623) dX5_row_27 ?_
      refine kSI (n := 3) (As := [.long z.toInt64, .long (0 : Int64), .long (40 : Int64)]) (rest := []) (fun w => w ++ (mW E ad kp tr iv ia K R mv)) hxR hbR hmlR hts hown hK hA hl.1 (isCtx.suf _) hI (c5_in l E  z.toInt64 (0 : Int64) (40 : Int64) ) (lw_S q1619 q1620 q86 q1621) (by decide +kernel) rfl (Nat.le_of_ble_eq_true rfl) (Nat.le_of_ble_eq_true rfl) ⟨Nat.le_of_ble_eq_true rfl, Nat.le_of_ble_eq_true rfl⟩ (Nat.le_of_ble_eq_true rfl) dX5_row_30 (fun r_30 u H locs hp hI hz => ?_)
      have hI : wI E AR sR H locs (mW E ad kp tr iv ia K R mv) := hI
      have hp : r_30 = b2i (inL z.toInt64 (0 : Int64) (40 : Int64)) := hp
      have hr_30 := hp
      rcases b2i_cases hr_30 with ⟨c_30, rfl⟩ | ⟨c_30, rfl⟩
      · skip
        have c_30 : (0 : Int64).toInt ≤ z.toInt64.toInt ∧ z.toInt64.toInt ≤ (40 : Int64).toInt := of_decide_eq_true c_30
        have c_30 : 0 ≤ z.toInt ∧ z.toInt ≤ 40 := by simp only [Int32.toInt_toInt64] at c_30; exact c_30
        refine lv_if_ne (tgt := 43) hxR hbR dX5_row_33 (by decide) (fun _ => ?_) (fun c => absurd c (by decide))
        refine lv_aload_n hxR hbR dX5_row_43 rfl (lv_at hl 0 rfl) ?_
        refine r_get hxR hbR hts hown hK hI okX5 (ci := 5) rfl 16 mW_o 0 (by decide) q1478 rfl (v := .ref (ad 0)) rfl dX5_row_44 ?_
        refine lv_iload_n hxR hbR dX5_row_47 rfl (lv_at hl 1 rfl) ?_
        refine lv_iconst (v := 1) hxR hbR dX5_row_48 (by decide) ?_
        refine r_iast (ws1 := mW E ad kp tr iv (va_up ia 0 (va_up (ia 0) P 1)) K R mv) hxR hbR hK hI 17 (n := 8) (J := P) (f := ia 0) (mW_g0 rfl) (by omega) (by decide) mW_a0 dX5_row_49 (fun H locs hI => ?_)
        refine lv_aload_n hxR hbR dX5_row_50 rfl (lv_at hl 0 rfl) ?_
        refine r_get hxR hbR hts hown hK hI okX5 (ci := 5) rfl 16 mW_o 1 (by decide) q1479 rfl (v := .ref (ad 1)) rfl dX5_row_51 ?_
        refine lv_iload_n hxR hbR dX5_row_54 rfl (lv_at hl 1 rfl) ?_
        refine lv_iload_n hxR hbR dX5_row_55 rfl (lv_at hl 2 rfl) ?_
        refine r_iast (ws1 := mW E ad kp tr iv (va_up (va_up ia 0 (va_up (ia 0) P 1)) 1 (va_up (ia 1) P y)) K R mv) hxR hbR hK hI 18 (n := 8) (J := P) (f := ia 1) (mW_g1 (up_n (by decide) rfl)) (by omega) (by decide) mW_a1 dX5_row_56 (fun H locs hI => ?_)
        refine lv_aload_n hxR hbR dX5_row_57 rfl (lv_at hl 0 rfl) ?_
        refine r_get hxR hbR hts hown hK hI okX5 (ci := 5) rfl 16 mW_o 2 (by decide) q1480 rfl (v := .ref (ad 2)) rfl dX5_row_58 ?_
        refine lv_iload_n hxR hbR dX5_row_61 rfl (lv_at hl 1 rfl) ?_
        refine lv_iload_n hxR hbR dX5_row_62 rfl (lv_at hl 3 rfl) ?_
        refine r_iast (ws1 := mW E ad kp tr iv (va_up (va_up (va_up ia 0 (va_up (ia 0) P 1)) 1 (va_up (ia 1) P y)) 2 (va_up (ia 2) P z)) K R mv) hxR hbR hK hI 19 (n := 8) (J := P) (f := ia 2) (mW_g2 (up_n (by decide) (up_n (by decide) rfl))) (by omega) (by decide) mW_a2 dX5_row_63 (fun H locs hI => ?_)
        refine lv_iconst (v := 0) hxR hbR dX5_row_64 (by decide) ?_
        refine lv_istore (lv' := [(4, .int 0), (0, .ref (ad 45)), (1, .int (nI P)), (2, .int y), (3, .int z)]) hxR hbR dX5_row_65 hl (by decide) rfl (fun ls hl => ?_)
        have lp_67 : ∀ (fu : Nat) (k : Nat) (Rx : Nat → Nat → Int64), (k ≤ 40) → (∀ p, p ≠ P → Rx p = R p) → (∀ i, i < k → Rx P i = 0) → 40 - k < fu → ∀ (H : Heap) (locs : List Loc), wI E AR sR H locs (mW E ad kp tr iv (va_up (va_up (va_up ia 0 (va_up (ia 0) P 1)) 1 (va_up (ia 1) P y)) 2 (va_up (ia 2) P z)) K Rx mv) → ∀ ls : Array Slot, lv_has ls 5 [(0, .ref (ad 45)), (1, .int (nI P)), (2, .int y), (3, .int z), (4, .int (nI k))] → W pR l eR (rmF 2 0 0) sR mR aR bR tR cR H locs 0 0 QR (F0 mR 67 ls []) := by
          intro fu
          induction fu with
          | zero =>
            intro k Rx hk hr1 hr2 hfu
            exact absurd hfu (Nat.not_lt_zero _)
          | succ fu ih_67 =>
            intro k Rx hk hr1 hr2 hfu H locs hI ls hl
            refine lv_iload hxR hbR dX5_row_67 (lv_at hl 4 rfl) ?_
            refine lv_bipush (v := 40) hxR hbR dX5_row_69 (by decide) ?_
            refine lv_icmp_ge (tgt := 90) hxR hbR dX5_row_71 (by decide) (fun c_71 => ?_) (fun c_71 => ?_)
            · skip
              have c_71 : 40 ≤ k := (n_le (a := 40) (b := k) (by omega) (by omega)).mp c_71
              refine lv_iconst (v := 1) hxR hbR dX5_row_90 (by decide) ?_
              have hC : rowC (nI P) y z = 0 := by
                clear hret hI
                unfold rowC
                try simp only [nI_clamp (n := P) (by omega)]
                repeat' split
                all_goals first | rfl | (exfalso; omega) | contradiction | (exfalso; simp_all; done) | simp_all
              have hI := wI_same (mW_sameR (R' := va_up R P (fun _ => 0)) (row_z hr1 (fun i hi => hr2 i (by omega)))) hI
              have eia0 : gd (rowC (nI P) y z) (va_up (ia 0) (nI P).toNatClampNeg 1) (ia 0) = va_up (ia 0) P 1 := by rw [hC]; first | rfl | (simp only [nI_clamp (n := P) (by omega)]; rfl) | (simp only [gd_0, nI_clamp (n := P) (by omega)]; split <;> first | rfl | contradiction)
              have eia1 : gd (rowC (nI P) y z) (va_up (ia 1) (nI P).toNatClampNeg y) (ia 1) = va_up (ia 1) P y := by rw [hC]; first | rfl | (simp only [nI_clamp (n := P) (by omega)]; rfl) | (simp only [gd_0, nI_clamp (n := P) (by omega)]; split <;> first | rfl | contradiction)
              have eia2 : gd (rowC (nI P) y z) (va_up (ia 2) (nI P).toNatClampNeg z) (ia 2) = va_up (ia 2) P z := by rw [hC]; first | rfl | (simp only [nI_clamp (n := P) (by omega)]; rfl) | (simp only [gd_0, nI_clamp (n := P) (by omega)]; split <;> first | rfl | contradiction)
              have eia9 : bumpR (ia 9) (rowC (nI P) y z) = ia 9 := by rw [hC]; exact bump_0 _
              have eR : gd (rowC (nI P) y z) (va_up R (nI P).toNatClampNeg (fun _ => 0)) R = va_up R P (fun _ => 0) := by rw [hC]; first | rfl | (simp only [nI_clamp (n := P) (by omega)]; rfl) | (simp only [gd_0, nI_clamp (n := P) (by omega)]; split <;> first | rfl | contradiction)
              have hI := wI_w (ws' := mW E ad kp tr iv (va_up (va_up (va_up (va_up ia 0 (gd (rowC (nI P) y z) (va_up (ia 0) (nI P).toNatClampNeg 1) (ia 0))) 1 (gd (rowC (nI P) y z) (va_up (ia 1) (nI P).toNatClampNeg y) (ia 1))) 2 (gd (rowC (nI P) y z) (va_up (ia 2) (nI P).toNatClampNeg z) (ia 2))) 9 (bumpR (ia 9) (rowC (nI P) y z))) K (gd (rowC (nI P) y z) (va_up R (nI P).toNatClampNeg (fun _ => 0)) R) mv) (by rw [eia0, eia1, eia2, eia9, eR, va_up_id (f := (va_up (va_up (va_up ia 0 (va_up (ia 0) P 1)) 1 (va_up (ia 1) P y)) 2 (va_up (ia 2) P z))) (k := 9) (v := ia 9) (up_n (by decide) (up_n (by decide) (up_n (by decide) rfl)))]; try rfl) hI
              exact hret () 1 _ _ 0 0 _ _ dX5_row_91 hI (by show 1 = gd (rowC (nI P) y z) 1 (rowC (nI P) y z); rw [hC]; first | rfl | (simp only [nI_clamp (n := P) (by omega)]; rfl) | (simp only [gd_0, nI_clamp (n := P) (by omega)]; split <;> first | rfl | contradiction)) (Nat.le_of_ble_eq_true rfl) (Nat.le_of_ble_eq_true rfl) rfl
            · skip
              have c_71 : k < 40 := Nat.lt_of_not_le (fun zz => c_71 ((n_le (a := 40) (b := k) (by omega) (by omega)).mpr zz))
              refine lv_aload_n hxR hbR dX5_row_74 rfl (lv_at hl 0 rfl) ?_
              refine r_get hxR hbR hts hown hK hI okX5 (ci := 5) rfl 16 mW_o 3 (by decide) q1481 rfl (v := .ref (ad 3)) rfl dX5_row_75 ?_
              refine lv_iload_n hxR hbR dX5_row_78 rfl (lv_at hl 1 rfl) ?_
              refine r_aald hxR hbR hK hI 20 3 (r := ad (60 + P)) rfl rfl (n := 8) (J := P) rfl (by omega) (by decide) rfl dX5_row_79 ?_
              refine lv_iload hxR hbR dX5_row_80 (lv_at hl 4 rfl) ?_
              refine lv_lconst (v := 0) hxR hbR dX5_row_82 (by decide) ?_
              refine r_last (ws1 := mW E ad kp tr iv (va_up (va_up (va_up ia 0 (va_up (ia 0) P 1)) 1 (va_up (ia 1) P y)) 2 (va_up (ia 2) P z)) K (va_up Rx P (va_up (Rx P) k (0 : Int64))) mv) hxR hbR hK hI (8 + P) (n := 40) (J := k) (f := Rx P) (mW_R P (by omega)) (by omega) (by decide) (mW_Rs P (by omega)) dX5_row_83 (fun H locs hI => ?_)
              refine lv_iinc (v := nI (k + 1)) (lv' := [(4, .int (nI (k + 1))), (0, .ref (ad 45)), (1, .int (nI P)), (2, .int y), (3, .int z)]) hxR hbR dX5_row_84 hl (k := 4) rfl (show nI k + 1 = nI (k + 1) from nI_add _ 1) (by decide) rfl (fun ls hl => ?_)
              refine lv_goto (tgt := 67) hxR hbR dX5_row_87 (by decide) ?_
              exact ih_67 (k + 1) (va_up Rx P (va_up (Rx P) k (0 : Int64))) (by first | omega | with_reducible assumption) (fun p hp => (va_up_n hp).trans (hr1 p hp)) (by rw [va_up_s]; exact lt_s1l hr2) (by omega) _ _ hI _ (lv_sub hl [1, 2, 3, 4, 0] rfl)
        exact lp_67 _ 0 R (by first | omega | with_reducible assumption) (fun _ _ => rfl) (fun i h => absurd h (Nat.not_lt_zero _)) (Nat.lt_succ_self _) _ _ hI _ (lv_sub hl [1, 2, 3, 4, 0] rfl)
      · skip
        have c_30 : ¬ ((0 : Int64).toInt ≤ z.toInt64.toInt ∧ z.toInt64.toInt ≤ (40 : Int64).toInt) := of_decide_eq_false c_30
        have c_30 : ¬ (0 ≤ z.toInt ∧ z.toInt ≤ 40) := by simp only [Int32.toInt_toInt64] at c_30; exact c_30
        refine lv_if_ne (tgt := 43) hxR hbR dX5_row_33 (by decide) (fun c => absurd c (by decide)) (fun _ => ?_)
        refine lv_aload_n hxR hbR dX5_row_36 rfl (lv_at hl 0 rfl) ?_
        refine lv_bipush (v := (-2)) hxR hbR dX5_row_37 (by decide) ?_
        refine kVI (n := 1) (As := [.int (-2)]) (rest := []) (fun w => w) hxR hbR hmlR hts hown hK hA hl.1 isCtx.id hI (c5_refuse l E ad kp tr iv ia K R mv (-2) 2 (by decide) (by decide)) (lw_V q1624 q1626 qs34 q86 q1627) ⟨rfl, by decide +kernel⟩ 16 5 rfl rfl mW_o rfl (Nat.le_of_ble_eq_true rfl) (Nat.le_of_ble_eq_true rfl) ⟨Nat.le_of_ble_eq_true rfl, Nat.le_of_ble_eq_true rfl⟩ (Nat.le_of_ble_eq_true rfl) dX5_row_39 (fun r_39 u H locs hp hI hz => ?_)
        have hI : wI E AR sR H locs (mW E ad kp tr iv (va_up ia 9 (va_up (ia 9) 2 (ia 9 2 + 1))) K R mv) := hI
        have hp : r_39 = (-2) := hp
        have hr_39 := hp
        subst hr_39
        have hC : rowC (nI P) y z = (-2) := by
          clear hret hI
          unfold rowC
          try simp only [nI_clamp (n := P) (by omega)]
          repeat' split
          all_goals first | rfl | (exfalso; omega) | contradiction | (exfalso; simp_all; done) | simp_all
        have eia0 : gd (rowC (nI P) y z) (va_up (ia 0) (nI P).toNatClampNeg 1) (ia 0) = ia 0 := by rw [hC]; first | rfl | (simp only [nI_clamp (n := P) (by omega)]; rfl) | (simp only [gd_0, nI_clamp (n := P) (by omega)]; split <;> first | rfl | contradiction)
        have eia1 : gd (rowC (nI P) y z) (va_up (ia 1) (nI P).toNatClampNeg y) (ia 1) = ia 1 := by rw [hC]; first | rfl | (simp only [nI_clamp (n := P) (by omega)]; rfl) | (simp only [gd_0, nI_clamp (n := P) (by omega)]; split <;> first | rfl | contradiction)
        have eia2 : gd (rowC (nI P) y z) (va_up (ia 2) (nI P).toNatClampNeg z) (ia 2) = ia 2 := by rw [hC]; first | rfl | (simp only [nI_clamp (n := P) (by omega)]; rfl) | (simp only [gd_0, nI_clamp (n := P) (by omega)]; split <;> first | rfl | contradiction)
        have eia9 : bumpR (ia 9) (rowC (nI P) y z) = va_up (ia 9) 2 (ia 9 2 + 1) := by rw [hC]; exact bump_2 _
        have eR : gd (rowC (nI P) y z) (va_up R (nI P).toNatClampNeg (fun _ => 0)) R = R := by rw [hC]; first | rfl | (simp only [nI_clamp (n := P) (by omega)]; rfl) | (simp only [gd_0, nI_clamp (n := P) (by omega)]; split <;> first | rfl | contradiction)
        have hI := wI_w (ws' := mW E ad kp tr iv (va_up (va_up (va_up (va_up ia 0 (gd (rowC (nI P) y z) (va_up (ia 0) (nI P).toNatClampNeg 1) (ia 0))) 1 (gd (rowC (nI P) y z) (va_up (ia 1) (nI P).toNatClampNeg y) (ia 1))) 2 (gd (rowC (nI P) y z) (va_up (ia 2) (nI P).toNatClampNeg z) (ia 2))) 9 (bumpR (ia 9) (rowC (nI P) y z))) K (gd (rowC (nI P) y z) (va_up R (nI P).toNatClampNeg (fun _ => 0)) R) mv) (by rw [eia0, eia1, eia2, eia9, eR, va_up_id (f := ia) (k := 0) (v := ia 0) rfl, va_up_id (f := ia) (k := 1) (v := ia 1) rfl, va_up_id (f := ia) (k := 2) (v := ia 2) rfl]; try rfl) hI
        exact hret () (-2) _ _ 0 0 _ _ dX5_row_42 hI (by show (-2) = gd (rowC (nI P) y z) 1 (rowC (nI P) y z); rw [hC]; first | rfl | (simp only [nI_clamp (n := P) (by omega)]; rfl) | (simp only [gd_0, nI_clamp (n := P) (by omega)]; split <;> first | rfl | contradiction)) (Nat.le_of_ble_eq_true rfl) (Nat.le_of_ble_eq_true rfl) rfl
    · skip
      have c_18 : ¬ ((0 : Int64).toInt ≤ y.toInt64.toInt ∧ y.toInt64.toInt ≤ (4 : Int64).toInt) := of_decide_eq_false c_18
      have c_18 : ¬ (0 ≤ y.toInt ∧ y.toInt ≤ 4) := by simp only [Int32.toInt_toInt64] at c_18; exact c_18
      refine lv_if_eq (tgt := 36) hxR hbR dX5_row_21 (by decide) (fun _ => ?_) (fun c => absurd c (by decide))
      refine lv_aload_n hxR hbR dX5_row_36 rfl (lv_at hl 0 rfl) ?_
      refine lv_bipush (v := (-2)) hxR hbR dX5_row_37 (by decide) ?_
      refine kVI (n := 1) (As := [.int (-2)]) (rest := []) (fun w => w) hxR hbR hmlR hts hown hK hA hl.1 isCtx.id hI (c5_refuse l E ad kp tr iv ia K R mv (-2) 2 (by decide) (by decide)) (lw_V q1624 q1626 qs34 q86 q1627) ⟨rfl, by decide +kernel⟩ 16 5 rfl rfl mW_o rfl (Nat.le_of_ble_eq_true rfl) (Nat.le_of_ble_eq_true rfl) ⟨Nat.le_of_ble_eq_true rfl, Nat.le_of_ble_eq_true rfl⟩ (Nat.le_of_ble_eq_true rfl) dX5_row_39 (fun r_39 u H locs hp hI hz => ?_)
      have hI : wI E AR sR H locs (mW E ad kp tr iv (va_up ia 9 (va_up (ia 9) 2 (ia 9 2 + 1))) K R mv) := hI
      have hp : r_39 = (-2) := hp
      have hr_39 := hp
      subst hr_39
      have hC : rowC (nI P) y z = (-2) := by
        clear hret hI
        unfold rowC
        try simp only [nI_clamp (n := P) (by omega)]
        repeat' split
        all_goals first | rfl | (exfalso; omega) | contradiction | (exfalso; simp_all; done) | simp_all
      have eia0 : gd (rowC (nI P) y z) (va_up (ia 0) (nI P).toNatClampNeg 1) (ia 0) = ia 0 := by rw [hC]; first | rfl | (simp only [nI_clamp (n := P) (by omega)]; rfl) | (simp only [gd_0, nI_clamp (n := P) (by omega)]; split <;> first | rfl | contradiction)
      have eia1 : gd (rowC (nI P) y z) (va_up (ia 1) (nI P).toNatClampNeg y) (ia 1) = ia 1 := by rw [hC]; first | rfl | (simp only [nI_clamp (n := P) (by omega)]; rfl) | (simp only [gd_0, nI_clamp (n := P) (by omega)]; split <;> first | rfl | contradiction)
      have eia2 : gd (rowC (nI P) y z) (va_up (ia 2) (nI P).toNatClampNeg z) (ia 2) = ia 2 := by rw [hC]; first | rfl | (simp only [nI_clamp (n := P) (by omega)]; rfl) | (simp only [gd_0, nI_clamp (n := P) (by omega)]; split <;> first | rfl | contradiction)
      have eia9 : bumpR (ia 9) (rowC (nI P) y z) = va_up (ia 9) 2 (ia 9 2 + 1) := by rw [hC]; exact bump_2 _
      have eR : gd (rowC (nI P) y z) (va_up R (nI P).toNatClampNeg (fun _ => 0)) R = R := by rw [hC]; first | rfl | (simp only [nI_clamp (n := P) (by omega)]; rfl) | (simp only [gd_0, nI_clamp (n := P) (by omega)]; split <;> first | rfl | contradiction)
      have hI := wI_w (ws' := mW E ad kp tr iv (va_up (va_up (va_up (va_up ia 0 (gd (rowC (nI P) y z) (va_up (ia 0) (nI P).toNatClampNeg 1) (ia 0))) 1 (gd (rowC (nI P) y z) (va_up (ia 1) (nI P).toNatClampNeg y) (ia 1))) 2 (gd (rowC (nI P) y z) (va_up (ia 2) (nI P).toNatClampNeg z) (ia 2))) 9 (bumpR (ia 9) (rowC (nI P) y z))) K (gd (rowC (nI P) y z) (va_up R (nI P).toNatClampNeg (fun _ => 0)) R) mv) (by rw [eia0, eia1, eia2, eia9, eR, va_up_id (f := ia) (k := 0) (v := ia 0) rfl, va_up_id (f := ia) (k := 1) (v := ia 1) rfl, va_up_id (f := ia) (k := 2) (v := ia 2) rfl]; try rfl) hI
      exact hret () (-2) _ _ 0 0 _ _ dX5_row_42 hI (by show (-2) = gd (rowC (nI P) y z) 1 (rowC (nI P) y z); rw [hC]; first | rfl | (simp only [nI_clamp (n := P) (by omega)]; rfl) | (simp only [gd_0, nI_clamp (n := P) (by omega)]; split <;> first | rfl | contradiction)) (Nat.le_of_ble_eq_true rfl) (Nat.le_of_ble_eq_true rfl) rfl
  · skip
    have c_6 : ¬ ((0 : Int64).toInt ≤ x.toInt64.toInt ∧ x.toInt64.toInt ≤ (7 : Int64).toInt) := of_decide_eq_false c_6
    have c_6 : ¬ (0 ≤ x.toInt ∧ x.toInt ≤ 7) := by simp only [Int32.toInt_toInt64] at c_6; exact c_6
    refine lv_if_eq (tgt := 36) hxR hbR dX5_row_9 (by decide) (fun _ => ?_) (fun c => absurd c (by decide))
    refine lv_aload_n hxR hbR dX5_row_36 rfl (lv_at hl 0 rfl) ?_
    refine lv_bipush (v := (-2)) hxR hbR dX5_row_37 (by decide) ?_
    refine kVI (n := 1) (As := [.int (-2)]) (rest := []) (fun w => w) hxR hbR hmlR hts hown hK hA hl.1 isCtx.id hI (c5_refuse l E ad kp tr iv ia K R mv (-2) 2 (by decide) (by decide)) (lw_V q1624 q1626 qs34 q86 q1627) ⟨rfl, by decide +kernel⟩ 16 5 rfl rfl mW_o rfl (Nat.le_of_ble_eq_true rfl) (Nat.le_of_ble_eq_true rfl) ⟨Nat.le_of_ble_eq_true rfl, Nat.le_of_ble_eq_true rfl⟩ (Nat.le_of_ble_eq_true rfl) dX5_row_39 (fun r_39 u H locs hp hI hz => ?_)
    have hI : wI E AR sR H locs (mW E ad kp tr iv (va_up ia 9 (va_up (ia 9) 2 (ia 9 2 + 1))) K R mv) := hI
    have hp : r_39 = (-2) := hp
    have hr_39 := hp
    subst hr_39
    have hC : rowC x y z = (-2) := by
      clear hret hI
      unfold rowC
      repeat' split
      all_goals first | rfl | (exfalso; omega) | contradiction | (exfalso; simp_all; done) | simp_all
    have eia0 : gd (rowC x y z) (va_up (ia 0) x.toNatClampNeg 1) (ia 0) = ia 0 := by rw [hC]; first | rfl | (simp only [gd_0]; split <;> first | rfl | contradiction)
    have eia1 : gd (rowC x y z) (va_up (ia 1) x.toNatClampNeg y) (ia 1) = ia 1 := by rw [hC]; first | rfl | (simp only [gd_0]; split <;> first | rfl | contradiction)
    have eia2 : gd (rowC x y z) (va_up (ia 2) x.toNatClampNeg z) (ia 2) = ia 2 := by rw [hC]; first | rfl | (simp only [gd_0]; split <;> first | rfl | contradiction)
    have eia9 : bumpR (ia 9) (rowC x y z) = va_up (ia 9) 2 (ia 9 2 + 1) := by rw [hC]; exact bump_2 _
    have eR : gd (rowC x y z) (va_up R x.toNatClampNeg (fun _ => 0)) R = R := by rw [hC]; first | rfl | (simp only [gd_0]; split <;> first | rfl | contradiction)
    have hI := wI_w (ws' := mW E ad kp tr iv (va_up (va_up (va_up (va_up ia 0 (gd (rowC x y z) (va_up (ia 0) x.toNatClampNeg 1) (ia 0))) 1 (gd (rowC x y z) (va_up (ia 1) x.toNatClampNeg y) (ia 1))) 2 (gd (rowC x y z) (va_up (ia 2) x.toNatClampNeg z) (ia 2))) 9 (bumpR (ia 9) (rowC x y z))) K (gd (rowC x y z) (va_up R x.toNatClampNeg (fun _ => 0)) R) mv) (by rw [eia0, eia1, eia2, eia9, eR, va_up_id (f := ia) (k := 0) (v := ia 0) rfl, va_up_id (f := ia) (k := 1) (v := ia 1) rfl, va_up_id (f := ia) (k := 2) (v := ia 2) rfl]; try rfl) hI
    exact hret () (-2) _ _ 0 0 _ _ dX5_row_42 hI (by show (-2) = gd (rowC x y z) 1 (rowC x y z); rw [hC]; first | rfl | (simp only [gd_0]; split <;> first | rfl | contradiction)) (Nat.le_of_ble_eq_true rfl) (Nat.le_of_ble_eq_true rfl) rfl

theorem c5_fit (l : Launch) (E : En)  (so : Nat) (v : Int64) (hso : so ≤ 4) : CtL l E yX5_fit cX5_fit 3 0 0 0 [.int (nI so), .long v] (([] : va_W)) (fun (r : Int64) (u : Unit) => r = fitV (nI so) v) (fun (u : Unit) => ([] : va_W)) := by
  refine CtL.of (by decide +kernel) (Nat.le_of_ble_eq_true rfl) ?_
  intro pR eR sR mR aR bR tR cR AR ls QR hxR hbR hmlR hts hown hlk hnm hA hK hI hl hret
  have hl : lv_has ls 3 [(0, .int (nI so)), (1, .long v)] := hl
  refine lv_iload_n hxR hbR dX5_fit_0 rfl (lv_at hl 0 rfl) ?_
  by_cases c_1_0 : nI so = 0
  · skip
    refine lv_tableIn (off := 31) (tgt := 32) hxR hbR dX5_fit_1 (by rw [c_1_0]; decide) (by rw [c_1_0]; decide) (by rw [c_1_0]; rfl) (by decide) ?_
    refine lv_lload_n hxR hbR dX5_fit_32 rfl (lv_at hl 1 rfl) ?_
    refine lv_l2i (v := v.toInt32) hxR hbR dX5_fit_33 rfl ?_
    refine lv_i2b (v := v.toInt32.toInt8.toInt32) hxR hbR dX5_fit_34 rfl ?_
    refine lv_i2l (v := v.toInt32.toInt8.toInt32.toInt64) hxR hbR dX5_fit_35 rfl ?_
    exact hret () v.toInt32.toInt8.toInt32.toInt64 _ _ _ _ _ _ dX5_fit_36 hI (by show v.toInt32.toInt8.toInt32.toInt64 = fitV (nI so) v; unfold fitV; (repeat' split) <;> first | rfl | contradiction | (exfalso; simp_all; done) | skip) (Nat.le_of_ble_eq_true rfl) (Nat.le_of_ble_eq_true rfl)
  by_cases c_1_1 : nI so = 1
  · skip
    refine lv_tableIn (off := 36) (tgt := 37) hxR hbR dX5_fit_1 (by rw [c_1_1]; decide) (by rw [c_1_1]; decide) (by rw [c_1_1]; rfl) (by decide) ?_
    refine lv_lload_n hxR hbR dX5_fit_37 rfl (lv_at hl 1 rfl) ?_
    refine lv_l2i (v := v.toInt32) hxR hbR dX5_fit_38 rfl ?_
    refine lv_i2s (v := v.toInt32.toInt16.toInt32) hxR hbR dX5_fit_39 rfl ?_
    refine lv_i2l (v := v.toInt32.toInt16.toInt32.toInt64) hxR hbR dX5_fit_40 rfl ?_
    exact hret () v.toInt32.toInt16.toInt32.toInt64 _ _ _ _ _ _ dX5_fit_41 hI (by show v.toInt32.toInt16.toInt32.toInt64 = fitV (nI so) v; unfold fitV; (repeat' split) <;> first | rfl | contradiction | (exfalso; simp_all; done) | skip) (Nat.le_of_ble_eq_true rfl) (Nat.le_of_ble_eq_true rfl)
  by_cases c_1_2 : nI so = 2
  · skip
    refine lv_tableIn (off := 41) (tgt := 42) hxR hbR dX5_fit_1 (by rw [c_1_2]; decide) (by rw [c_1_2]; decide) (by rw [c_1_2]; rfl) (by decide) ?_
    refine lv_lload_n hxR hbR dX5_fit_42 rfl (lv_at hl 1 rfl) ?_
    refine lv_l2i (v := v.toInt32) hxR hbR dX5_fit_43 rfl ?_
    refine lv_i2l (v := v.toInt32.toInt64) hxR hbR dX5_fit_44 rfl ?_
    exact hret () v.toInt32.toInt64 _ _ _ _ _ _ dX5_fit_45 hI (by show v.toInt32.toInt64 = fitV (nI so) v; unfold fitV; (repeat' split) <;> first | rfl | contradiction | (exfalso; simp_all; done) | skip) (Nat.le_of_ble_eq_true rfl) (Nat.le_of_ble_eq_true rfl)
  by_cases c_1_3 : nI so = 3
  · skip
    refine lv_tableIn (off := 45) (tgt := 46) hxR hbR dX5_fit_1 (by rw [c_1_3]; decide) (by rw [c_1_3]; decide) (by rw [c_1_3]; rfl) (by decide) ?_
    refine lv_lload_n hxR hbR dX5_fit_46 rfl (lv_at hl 1 rfl) ?_
    exact hret () v _ _ _ _ _ _ dX5_fit_47 hI (by show v = fitV (nI so) v; unfold fitV; (repeat' split) <;> first | rfl | contradiction | (exfalso; simp_all; done) | skip) (Nat.le_of_ble_eq_true rfl) (Nat.le_of_ble_eq_true rfl)
  have c_1_d : (nI so).toInt < 0 ∨ 3 < (nI so).toInt := by
    have z0 : ¬ (nI so).toInt = 0 := fun q => c_1_0 (Int32.toInt_inj.mp q)
    have z1 : ¬ (nI so).toInt = 1 := fun q => c_1_1 (Int32.toInt_inj.mp q)
    have z2 : ¬ (nI so).toInt = 2 := fun q => c_1_2 (Int32.toInt_inj.mp q)
    have z3 : ¬ (nI so).toInt = 3 := fun q => c_1_3 (Int32.toInt_inj.mp q)
    omega
  refine lv_tableOut (tgt := 48) hxR hbR dX5_fit_1 c_1_d (by decide) ?_
  refine lv_lload_n hxR hbR dX5_fit_48 rfl (lv_at hl 1 rfl) ?_
  refine lv_lconst (v := 0) hxR hbR dX5_fit_49 (by decide) ?_
  refine W.lcmp hxR hbR dX5_fit_50 ?_
  refine lv_if_eq (tgt := 58) hxR hbR dX5_fit_51 (by decide) (fun c_51 => ?_) (fun c_51 => ?_)
  · skip
    have c_51 := lgc_0.mp c_51
    refine lv_lconst (v := 0) hxR hbR dX5_fit_58 (by decide) ?_
    exact hret () (0 : Int64) _ _ _ _ _ _ dX5_fit_59 hI (by show (0 : Int64) = fitV (nI so) v; unfold fitV; (repeat' split) <;> first | rfl | contradiction | (exfalso; simp_all; done) | skip) (Nat.le_of_ble_eq_true rfl) (Nat.le_of_ble_eq_true rfl)
  · skip
    have c_51 := mt lgc_0.mpr c_51
    refine lv_lconst (v := 1) hxR hbR dX5_fit_54 (by decide) ?_
    refine lv_goto (tgt := 59) hxR hbR dX5_fit_55 (by decide) ?_
    exact hret () (1 : Int64) _ _ _ _ _ _ dX5_fit_59 hI (by show (1 : Int64) = fitV (nI so) v; unfold fitV; (repeat' split) <;> first | rfl | contradiction | (exfalso; simp_all; done) | skip) (Nat.le_of_ble_eq_true rfl) (Nat.le_of_ble_eq_true rfl)

theorem c5_set (l : Launch) (E : En) (ad : Nat → Nat) (kp tr : Option Nat) (iv : Nat → Int32) (ia K : Nat → Nat → Int32) (R : Nat → Nat → Int64) (mv : Nat → Int64) (x i : Int32) (v : Int64) (hso : ∀ P, P < 8 → ∃ k, k ≤ 4 ∧ ia 1 P = nI k) (hsz : ∀ P, P < 8 → ∃ k, k ≤ 40 ∧ ia 2 P = nI k) : CtI l E yX5_set cX5_set 6 .int 3 0 0 [.ref (ad 45), .int x, .int i, .long v] (mW E ad kp tr iv ia K R mv) (fun (r : Int32) (u : Unit) => r = gd (setC (ia 0) (ia 2) x i) 1 (setC (ia 0) (ia 2) x i)) (fun (u : Unit) => mW E ad kp tr iv (va_up ia 9 (bumpR (ia 9) (setC (ia 0) (ia 2) x i))) K (gd (setC (ia 0) (ia 2) x i) (va_up R x.toNatClampNeg (va_up (R x.toNatClampNeg) i.toNatClampNeg (fitV (ia 1 x.toNatClampNeg) v))) R) mv) := by
  refine CtI.of (by decide +kernel) (Nat.le_of_ble_eq_true rfl) ?_
  intro pR eR sR mR aR bR tR cR AR ls QR hxR hbR hmlR hts hown hlk hnm hA hK hI hl hret
  have hl : lv_has ls 6 [(0, .ref (ad 45)), (1, .int x), (2, .int i), (3, .long v)] := hl
  refine lv_aload_n hxR hbR dX5_set_0 rfl (lv_at hl 0 rfl) ?_
  refine lv_iload_n hxR hbR dX5_set_1 rfl (lv_at hl 1 rfl) ?_
  refine kVI (n := 1) (As := [.int x]) (rest := []) (fun w => w) hxR hbR hmlR hts hown hK hA hl.1 isCtx.id hI (c5_noRow l E ad kp tr iv ia K R mv x ) (lw_V q1632 q1634 qs35 q86 q1635) ⟨rfl, by decide +kernel⟩ 16 5 rfl rfl mW_o rfl (Nat.le_of_ble_eq_true rfl) (Nat.le_of_ble_eq_true rfl) ⟨Nat.le_of_ble_eq_true rfl, Nat.le_of_ble_eq_true rfl⟩ (Nat.le_of_ble_eq_true rfl) dX5_set_2 (fun r_2 u H locs hp hI hz => ?_)
  have hI : wI E AR sR H locs (mW E ad kp tr iv (va_up ia 9 (bumpR (ia 9) (noRowV (ia 0) x))) K R mv) := hI
  have hp : r_2 = noRowV (ia 0) x := hp
  have hr_2 := hp
  subst hr_2
  refine lv_istore (lv' := [(5, .int (noRowV (ia 0) x)), (0, .ref (ad 45)), (1, .int x), (2, .int i), (3, .long v)]) hxR hbR dX5_set_5 hl (by decide) rfl (fun ls hl => ?_)
  refine lv_iload hxR hbR dX5_set_7 (lv_at hl 0 rfl) ?_
  refine lv_if_eq (tgt := 15) hxR hbR dX5_set_9 (by decide) (fun c_9 => ?_) (fun c_9 => ?_)
  · skip
    have i_9 : (noRowV (ia 0) x).toInt = 0 := by have zz := i_eq.mp c_9; exact zz
    obtain ⟨P, hP, rfl⟩ := nr8 c_9
    have tP : (nI P).toInt = (P : Int) := nI_toInt (by omega)
    have hne := nr_ne hP c_9
    obtain ⟨z9, hz9, hz8⟩ := hsz P hP
    have hzc : (ia 2 P).toNatClampNeg = z9 := by rw [hz8]; exact nI_clamp (by omega)
    have hI := wI_w (ws' := mW E ad kp tr iv ia K R mv) (by rw [c_9, bump_0, va_up_id (f := ia) (k := 9) (v := ia 9) rfl]) hI
    refine lv_iload_n hxR hbR dX5_set_15 rfl (lv_at hl 3 rfl) ?_
    refine lv_i2l (v := i.toInt64) hxR hbR dX5_set_16 rfl ?_
    refine lv_lconst (v := 0) hxR hbR dX5_set_17 (by decide) ?_
    refine lv_aload_n hxR hbR dX5_set_18 rfl (lv_at hl 1 rfl) ?_
    refine r_get hxR hbR hts hown hK hI okX5 (ci := 5) rfl 16 mW_o 2 (by decide) q1480 rfl (v := .ref (ad 2)) rfl dX5_set_19 ?_
    refine lv_iload_n hxR hbR dX5_set_22 rfl (lv_at hl 2 rfl) ?_
    refine r_iald hxR hbR hK hI 19 (n := 8) (J := P) (f := ia 2) (v := nI z9) (mW_g2 rfl) (by omega) (by decide) hz8 dX5_set_23 ?_
    refine lv_iconst (v := 1) hxR hbR dX5_set_24 (by decide) ?_
    refine lv_isub hxR hbR dX5_set_25 ?_
    refine lv_i2l (v := ((nI z9) - 1).toInt64) hxR hbR dX5_set_26 rfl ?_
    refine kSI (n := 3) (As := [.long i.toInt64, .long (0 : Int64), .long (((nI z9) - 1).toInt64)]) (rest := []) (fun w => w ++ (mW E ad kp tr iv ia K R mv)) hxR hbR hmlR hts hown hK hA hl.1 (isCtx.suf _) hI (c5_in l E  i.toInt64 (0 : Int64) (((nI z9) - 1).toInt64) ) (lw_S q1619 q1620 q86 q1621) (by decide +kernel) rfl (Nat.le_of_ble_eq_true rfl) (Nat.le_of_ble_eq_true rfl) ⟨Nat.le_of_ble_eq_true rfl, Nat.le_of_ble_eq_true rfl⟩ (Nat.le_of_ble_eq_true rfl) dX5_set_27 (fun r_27 u H locs hp hI hz => ?_)
    have hI : wI E AR sR H locs (mW E ad kp tr iv ia K R mv) := hI
    have hp : r_27 = b2i (inL i.toInt64 (0 : Int64) (((nI z9) - 1).toInt64)) := hp
    have hr_27 := hp
    rcases b2i_cases hr_27 with ⟨c_27, rfl⟩ | ⟨c_27, rfl⟩
    · skip
      have c_27 : (0 : Int64).toInt ≤ i.toInt64.toInt ∧ i.toInt64.toInt ≤ (((nI z9) - 1).toInt64).toInt := of_decide_eq_true c_27
      have c_27 : 0 ≤ i.toInt ∧ i.toInt ≤ (z9 : Int) - 1 := by simp only [Int32.toInt_toInt64] at c_27; rw [nI_m1 (n := z9) (by omega)] at c_27; exact c_27
      obtain ⟨ix, hix, rfl⟩ := nat_of (x := i) (k := z9) (by omega) (by omega)
      have tix : (nI ix).toInt = (ix : Int) := nI_toInt (by omega)
      refine lv_if_ne (tgt := 40) hxR hbR dX5_set_30 (by decide) (fun _ => ?_) (fun c => absurd c (by decide))
      refine lv_aload_n hxR hbR dX5_set_40 rfl (lv_at hl 1 rfl) ?_
      refine r_get hxR hbR hts hown hK hI okX5 (ci := 5) rfl 16 mW_o 3 (by decide) q1481 rfl (v := .ref (ad 3)) rfl dX5_set_41 ?_
      refine lv_iload_n hxR hbR dX5_set_44 rfl (lv_at hl 2 rfl) ?_
      refine r_aald hxR hbR hK hI 20 3 (r := ad (60 + P)) rfl rfl (n := 8) (J := P) rfl (by omega) (by decide) rfl dX5_set_45 ?_
      refine lv_iload_n hxR hbR dX5_set_46 rfl (lv_at hl 3 rfl) ?_
      refine lv_aload_n hxR hbR dX5_set_47 rfl (lv_at hl 1 rfl) ?_
      refine r_get hxR hbR hts hown hK hI okX5 (ci := 5) rfl 16 mW_o 1 (by decide) q1479 rfl (v := .ref (ad 1)) rfl dX5_set_48 ?_
      refine lv_iload_n hxR hbR dX5_set_51 rfl (lv_at hl 2 rfl) ?_
      obtain ⟨so, hso9, hso8⟩ := hso P hP
      refine r_iald hxR hbR hK hI 18 (n := 8) (J := P) (f := ia 1) (v := nI so) (mW_g1 rfl) (by omega) (by decide) hso8 dX5_set_52 ?_
      refine lv_lload_n hxR hbR dX5_set_53 rfl (lv_at hl 4 rfl) ?_
      refine kSL (n := 2) (As := [.int (nI so), .long v]) (rest := [.int (nI ix), .ref (ad (60 + P))]) (fun w => w ++ (mW E ad kp tr iv ia K R mv)) hxR hbR hmlR hts hown hK hA hl.1 (isCtx.suf _) hI (c5_fit l E  so v hso9) (lw_S q1636 q1637 q86 q1638) (by decide +kernel) rfl (Nat.le_of_ble_eq_true rfl) (Nat.le_of_ble_eq_true rfl) ⟨Nat.le_of_ble_eq_true rfl, Nat.le_of_ble_eq_true rfl⟩ (Nat.le_of_ble_eq_true rfl) dX5_set_54 (fun r_54 u H locs hp hI hz => ?_)
      have hI : wI E AR sR H locs (mW E ad kp tr iv ia K R mv) := hI
      have hp : r_54 = fitV (nI so) v := hp
      have hr_54 := hp
      subst hr_54
      refine r_last (ws1 := mW E ad kp tr iv ia K (va_up R P (va_up (R P) ix (fitV (nI so) v))) mv) hxR hbR hK hI (8 + P) (n := 40) (J := ix) (f := R P) (mW_R P (by omega)) (by omega) (by decide) (mW_Rs P (by omega)) dX5_set_57 (fun H locs hI => ?_)
      refine lv_iconst (v := 1) hxR hbR dX5_set_58 (by decide) ?_
      have hC : setC (ia 0) (ia 2) (nI P) (nI ix) = 0 := by
        clear hret hI
        rw [setC, if_pos c_9, nI_clamp (n := P) (by omega), hzc, if_pos c_27]
      have eia9 : bumpR (ia 9) (setC (ia 0) (ia 2) (nI P) (nI ix)) = ia 9 := by rw [hC]; exact bump_0 _
      have eR : gd (setC (ia 0) (ia 2) (nI P) (nI ix)) (va_up R (nI P).toNatClampNeg (va_up (R (nI P).toNatClampNeg) (nI ix).toNatClampNeg (fitV (ia 1 (nI P).toNatClampNeg) v))) R = va_up R P (va_up (R P) ix (fitV (nI so) v)) := by rw [hC]; simp only [nI_clamp (n := P) (by omega), nI_clamp (n := ix) (by omega), ← hso8]; rfl
      have hI := wI_w (ws' := mW E ad kp tr iv (va_up ia 9 (bumpR (ia 9) (setC (ia 0) (ia 2) (nI P) (nI ix)))) K (gd (setC (ia 0) (ia 2) (nI P) (nI ix)) (va_up R (nI P).toNatClampNeg (va_up (R (nI P).toNatClampNeg) (nI ix).toNatClampNeg (fitV (ia 1 (nI P).toNatClampNeg) v))) R) mv) (by rw [eia9, eR, va_up_id (f := ia) (k := 9) (v := ia 9) rfl]; try rfl) hI
      exact hret () 1 _ _ 0 0 _ _ dX5_set_59 hI (by show 1 = gd (setC (ia 0) (ia 2) (nI P) (nI ix)) 1 (setC (ia 0) (ia 2) (nI P) (nI ix)); rw [hC]; first | rfl | (simp only [nI_clamp (n := P) (by omega), nI_clamp (n := ix) (by omega)]; rfl) | (simp only [gd_0, nI_clamp (n := P) (by omega), nI_clamp (n := ix) (by omega)]; split <;> first | rfl | contradiction)) (Nat.le_of_ble_eq_true rfl) (Nat.le_of_ble_eq_true rfl) rfl
    · skip
      have c_27 : ¬ ((0 : Int64).toInt ≤ i.toInt64.toInt ∧ i.toInt64.toInt ≤ (((nI z9) - 1).toInt64).toInt) := of_decide_eq_false c_27
      have c_27 : ¬ (0 ≤ i.toInt ∧ i.toInt ≤ (z9 : Int) - 1) := by simp only [Int32.toInt_toInt64] at c_27; rw [nI_m1 (n := z9) (by omega)] at c_27; exact c_27
      refine lv_if_ne (tgt := 40) hxR hbR dX5_set_30 (by decide) (fun c => absurd c (by decide)) (fun _ => ?_)
      refine lv_aload_n hxR hbR dX5_set_33 rfl (lv_at hl 1 rfl) ?_
      refine lv_bipush (v := (-2)) hxR hbR dX5_set_34 (by decide) ?_
      refine kVI (n := 1) (As := [.int (-2)]) (rest := []) (fun w => w) hxR hbR hmlR hts hown hK hA hl.1 isCtx.id hI (c5_refuse l E ad kp tr iv ia K R mv (-2) 2 (by decide) (by decide)) (lw_V q1624 q1626 qs34 q86 q1627) ⟨rfl, by decide +kernel⟩ 16 5 rfl rfl mW_o rfl (Nat.le_of_ble_eq_true rfl) (Nat.le_of_ble_eq_true rfl) ⟨Nat.le_of_ble_eq_true rfl, Nat.le_of_ble_eq_true rfl⟩ (Nat.le_of_ble_eq_true rfl) dX5_set_36 (fun r_36 u H locs hp hI hz => ?_)
      have hI : wI E AR sR H locs (mW E ad kp tr iv (va_up ia 9 (va_up (ia 9) 2 (ia 9 2 + 1))) K R mv) := hI
      have hp : r_36 = (-2) := hp
      have hr_36 := hp
      subst hr_36
      have hC : setC (ia 0) (ia 2) (nI P) i = (-2) := by
        clear hret hI
        rw [setC, if_pos c_9, nI_clamp (n := P) (by omega), hzc, if_neg c_27]
      have eia9 : bumpR (ia 9) (setC (ia 0) (ia 2) (nI P) i) = va_up (ia 9) 2 (ia 9 2 + 1) := by rw [hC]; exact bump_2 _
      have eR : gd (setC (ia 0) (ia 2) (nI P) i) (va_up R (nI P).toNatClampNeg (va_up (R (nI P).toNatClampNeg) i.toNatClampNeg (fitV (ia 1 (nI P).toNatClampNeg) v))) R = R := by rw [hC]; first | rfl | (simp only [nI_clamp (n := P) (by omega)]; rfl) | (simp only [gd_0, nI_clamp (n := P) (by omega)]; split <;> first | rfl | contradiction)
      have hI := wI_w (ws' := mW E ad kp tr iv (va_up ia 9 (bumpR (ia 9) (setC (ia 0) (ia 2) (nI P) i))) K (gd (setC (ia 0) (ia 2) (nI P) i) (va_up R (nI P).toNatClampNeg (va_up (R (nI P).toNatClampNeg) i.toNatClampNeg (fitV (ia 1 (nI P).toNatClampNeg) v))) R) mv) (by rw [eia9, eR]; try rfl) hI
      exact hret () (-2) _ _ 0 0 _ _ dX5_set_39 hI (by show (-2) = gd (setC (ia 0) (ia 2) (nI P) i) 1 (setC (ia 0) (ia 2) (nI P) i); rw [hC]; first | rfl | (simp only [nI_clamp (n := P) (by omega)]; rfl) | (simp only [gd_0, nI_clamp (n := P) (by omega)]; split <;> first | rfl | contradiction)) (Nat.le_of_ble_eq_true rfl) (Nat.le_of_ble_eq_true rfl) rfl
  · skip
    have i_9 : ¬ ((noRowV (ia 0) x).toInt = 0) := by have zz := mt i_eq.mpr c_9; exact zz
    refine lv_iload hxR hbR dX5_set_12 (lv_at hl 0 rfl) ?_
    have hC : setC (ia 0) (ia 2) x i = noRowV (ia 0) x := by
      clear hret hI
      exact if_neg c_9
    have eia9 : bumpR (ia 9) (setC (ia 0) (ia 2) x i) = bumpR (ia 9) (noRowV (ia 0) x) := by rw [hC]
    have eR : gd (setC (ia 0) (ia 2) x i) (va_up R x.toNatClampNeg (va_up (R x.toNatClampNeg) i.toNatClampNeg (fitV (ia 1 x.toNatClampNeg) v))) R = R := by rw [hC]; exact gd_n c_9
    have hI := wI_w (ws' := mW E ad kp tr iv (va_up ia 9 (bumpR (ia 9) (setC (ia 0) (ia 2) x i))) K (gd (setC (ia 0) (ia 2) x i) (va_up R x.toNatClampNeg (va_up (R x.toNatClampNeg) i.toNatClampNeg (fitV (ia 1 x.toNatClampNeg) v))) R) mv) (by rw [eia9, eR]; try rfl) hI
    exact hret () (noRowV (ia 0) x) _ _ 0 0 _ _ dX5_set_14 hI (by show (noRowV (ia 0) x) = gd (setC (ia 0) (ia 2) x i) 1 (setC (ia 0) (ia 2) x i); rw [hC]; exact (gd_n c_9).symm) (Nat.le_of_ble_eq_true rfl) (Nat.le_of_ble_eq_true rfl) rfl

theorem c5_element (l : Launch) (E : En) (ad : Nat → Nat) (kp tr : Option Nat) (iv : Nat → Int32) (ia K : Nat → Nat → Int32) (R : Nat → Nat → Int64) (mv : Nat → Int64) (x i : Int32) (hsz : ∀ P, P < 8 → ∃ k, k ≤ 40 ∧ ia 2 P = nI k) : CtL l E yX5_element cX5_element 3 2 0 0 [.ref (ad 45), .int x, .int i] (mW E ad kp tr iv ia K R mv) (fun (r : Int64) (u : Unit) => r = elemV (ia 0) (ia 2) R x i) (fun (u : Unit) => mW E ad kp tr iv ia K R mv) := by
  refine CtL.of (by decide +kernel) (Nat.le_of_ble_eq_true rfl) ?_
  intro pR eR sR mR aR bR tR cR AR ls QR hxR hbR hmlR hts hown hlk hnm hA hK hI hl hret
  have hl : lv_has ls 3 [(0, .ref (ad 45)), (1, .int x), (2, .int i)] := hl
  refine lv_iload_n hxR hbR dX5_element_0 rfl (lv_at hl 1 rfl) ?_
  refine lv_i2l (v := x.toInt64) hxR hbR dX5_element_1 rfl ?_
  refine lv_lconst (v := 0) hxR hbR dX5_element_2 (by decide) ?_
  refine lv_ldc2 (v := 7) hxR hbR hown (hts _ q1618) dX5_element_3 ?_
  refine kSI (n := 3) (As := [.long x.toInt64, .long (0 : Int64), .long (7 : Int64)]) (rest := []) (fun w => w ++ (mW E ad kp tr iv ia K R mv)) hxR hbR hmlR hts hown hK hA hl.1 (isCtx.suf _) hI (c5_in l E  x.toInt64 (0 : Int64) (7 : Int64) ) (lw_S q1619 q1620 q86 q1621) (by decide +kernel) rfl (Nat.le_of_ble_eq_true rfl) (Nat.le_of_ble_eq_true rfl) ⟨Nat.le_of_ble_eq_true rfl, Nat.le_of_ble_eq_true rfl⟩ (Nat.le_of_ble_eq_true rfl) dX5_element_6 (fun r_6 u H locs hp hI hz => ?_)
  have hI : wI E AR sR H locs (mW E ad kp tr iv ia K R mv) := hI
  have hp : r_6 = b2i (inL x.toInt64 (0 : Int64) (7 : Int64)) := hp
  have hr_6 := hp
  rcases b2i_cases hr_6 with ⟨c_6, rfl⟩ | ⟨c_6, rfl⟩
  · skip
    have c_6 : (0 : Int64).toInt ≤ x.toInt64.toInt ∧ x.toInt64.toInt ≤ (7 : Int64).toInt := of_decide_eq_true c_6
    have c_6 : 0 ≤ x.toInt ∧ x.toInt ≤ 7 := by simp only [Int32.toInt_toInt64] at c_6; exact c_6
    obtain ⟨P, hP, rfl⟩ := nat_of_le (k := 7) c_6 (by decide)
    have tP : (nI P).toInt = (P : Int) := nI_toInt (by omega)
    obtain ⟨z9, hz9, hz8⟩ := hsz P hP
    have hzc : (ia 2 P).toNatClampNeg = z9 := by rw [hz8]; exact nI_clamp (by omega)
    refine lv_if_eq (tgt := 51) hxR hbR dX5_element_9 (by decide) (fun c => absurd c (by decide)) (fun _ => ?_)
    refine lv_aload_n hxR hbR dX5_element_12 rfl (lv_at hl 0 rfl) ?_
    refine r_get hxR hbR hts hown hK hI okX5 (ci := 5) rfl 16 mW_o 0 (by decide) q1478 rfl (v := .ref (ad 0)) rfl dX5_element_13 ?_
    refine lv_iload_n hxR hbR dX5_element_16 rfl (lv_at hl 1 rfl) ?_
    refine r_iald hxR hbR hK hI 17 (n := 8) (J := P) (f := ia 0) (v := (ia 0) P) (mW_g0 rfl) (by omega) (by decide) rfl dX5_element_17 ?_
    refine lv_iconst (v := 1) hxR hbR dX5_element_18 (by decide) ?_
    refine lv_icmp_ne (tgt := 51) hxR hbR dX5_element_19 (by decide) (fun c_19 => ?_) (fun c_19 => ?_)
    · skip
      have i_19 : ¬ (((ia 0) P).toInt = 1) := by have zz := mt i_eq.mpr c_19; exact zz
      refine lv_lconst (v := 0) hxR hbR dX5_element_51 (by decide) ?_
      exact hret () (0 : Int64) _ _ _ _ _ _ dX5_element_52 hI (by show (0 : Int64) = elemV (ia 0) (ia 2) R (nI P) i; unfold elemV; (try simp only [nI_clamp (n := P) (by omega), hzc]); (try simp only [nI_clamp (n := ix) (by omega)]); (repeat' split) <;> first | rfl | (exfalso; omega) | contradiction | (exfalso; simp_all; done) | simp_all) (Nat.le_of_ble_eq_true rfl) (Nat.le_of_ble_eq_true rfl)
    · skip
      have i_19 : ((ia 0) P).toInt = 1 := by have zz := i_eq.mp c_19; exact zz
      refine lv_iload_n hxR hbR dX5_element_22 rfl (lv_at hl 2 rfl) ?_
      refine lv_i2l (v := i.toInt64) hxR hbR dX5_element_23 rfl ?_
      refine lv_lconst (v := 0) hxR hbR dX5_element_24 (by decide) ?_
      refine lv_aload_n hxR hbR dX5_element_25 rfl (lv_at hl 0 rfl) ?_
      refine r_get hxR hbR hts hown hK hI okX5 (ci := 5) rfl 16 mW_o 2 (by decide) q1480 rfl (v := .ref (ad 2)) rfl dX5_element_26 ?_
      refine lv_iload_n hxR hbR dX5_element_29 rfl (lv_at hl 1 rfl) ?_
      refine r_iald hxR hbR hK hI 19 (n := 8) (J := P) (f := ia 2) (v := nI z9) (mW_g2 rfl) (by omega) (by decide) hz8 dX5_element_30 ?_
      refine lv_iconst (v := 1) hxR hbR dX5_element_31 (by decide) ?_
      refine lv_isub hxR hbR dX5_element_32 ?_
      refine lv_i2l (v := ((nI z9) - 1).toInt64) hxR hbR dX5_element_33 rfl ?_
      refine kSI (n := 3) (As := [.long i.toInt64, .long (0 : Int64), .long (((nI z9) - 1).toInt64)]) (rest := []) (fun w => w ++ (mW E ad kp tr iv ia K R mv)) hxR hbR hmlR hts hown hK hA hl.1 (isCtx.suf _) hI (c5_in l E  i.toInt64 (0 : Int64) (((nI z9) - 1).toInt64) ) (lw_S q1619 q1620 q86 q1621) (by decide +kernel) rfl (Nat.le_of_ble_eq_true rfl) (Nat.le_of_ble_eq_true rfl) ⟨Nat.le_of_ble_eq_true rfl, Nat.le_of_ble_eq_true rfl⟩ (Nat.le_of_ble_eq_true rfl) dX5_element_34 (fun r_34 u H locs hp hI hz => ?_)
      have hI : wI E AR sR H locs (mW E ad kp tr iv ia K R mv) := hI
      have hp : r_34 = b2i (inL i.toInt64 (0 : Int64) (((nI z9) - 1).toInt64)) := hp
      have hr_34 := hp
      rcases b2i_cases hr_34 with ⟨c_34, rfl⟩ | ⟨c_34, rfl⟩
      · skip
        have c_34 : (0 : Int64).toInt ≤ i.toInt64.toInt ∧ i.toInt64.toInt ≤ (((nI z9) - 1).toInt64).toInt := of_decide_eq_true c_34
        have c_34 : 0 ≤ i.toInt ∧ i.toInt ≤ (z9 : Int) - 1 := by simp only [Int32.toInt_toInt64] at c_34; rw [nI_m1 (n := z9) (by omega)] at c_34; exact c_34
        obtain ⟨ix, hix, rfl⟩ := nat_of (x := i) (k := z9) (by omega) (by omega)
        have tix : (nI ix).toInt = (ix : Int) := nI_toInt (by omega)
        refine lv_if_eq (tgt := 51) hxR hbR dX5_element_37 (by decide) (fun c => absurd c (by decide)) (fun _ => ?_)
        refine lv_aload_n hxR hbR dX5_element_40 rfl (lv_at hl 0 rfl) ?_
        refine r_get hxR hbR hts hown hK hI okX5 (ci := 5) rfl 16 mW_o 3 (by decide) q1481 rfl (v := .ref (ad 3)) rfl dX5_element_41 ?_
        refine lv_iload_n hxR hbR dX5_element_44 rfl (lv_at hl 1 rfl) ?_
        refine r_aald hxR hbR hK hI 20 3 (r := ad (60 + P)) rfl rfl (n := 8) (J := P) rfl (by omega) (by decide) rfl dX5_element_45 ?_
        refine lv_iload_n hxR hbR dX5_element_46 rfl (lv_at hl 2 rfl) ?_
        refine r_lald hxR hbR hK hI (8 + P) (n := 40) (J := ix) (f := R P) (v := (R P) ix) (mW_R P (by omega)) (by omega) (by decide) rfl dX5_element_47 ?_
        refine lv_goto (tgt := 52) hxR hbR dX5_element_48 (by decide) ?_
        exact hret () ((R P) ix) _ _ _ _ _ _ dX5_element_52 hI (by show ((R P) ix) = elemV (ia 0) (ia 2) R (nI P) (nI ix); unfold elemV; simp only [nI_clamp (n := P) (by omega), nI_clamp (n := ix) (by omega), hzc]; exact (if_pos ⟨c_6, c_19, c_34⟩).symm) (Nat.le_of_ble_eq_true rfl) (Nat.le_of_ble_eq_true rfl)
      · skip
        have c_34 : ¬ ((0 : Int64).toInt ≤ i.toInt64.toInt ∧ i.toInt64.toInt ≤ (((nI z9) - 1).toInt64).toInt) := of_decide_eq_false c_34
        have c_34 : ¬ (0 ≤ i.toInt ∧ i.toInt ≤ (z9 : Int) - 1) := by simp only [Int32.toInt_toInt64] at c_34; rw [nI_m1 (n := z9) (by omega)] at c_34; exact c_34
        refine lv_if_eq (tgt := 51) hxR hbR dX5_element_37 (by decide) (fun _ => ?_) (fun c => absurd c (by decide))
        refine lv_lconst (v := 0) hxR hbR dX5_element_51 (by decide) ?_
        exact hret () (0 : Int64) _ _ _ _ _ _ dX5_element_52 hI (by show (0 : Int64) = elemV (ia 0) (ia 2) R (nI P) i; unfold elemV; (try simp only [nI_clamp (n := P) (by omega), hzc]); (try simp only [nI_clamp (n := ix) (by omega)]); (repeat' split) <;> first | rfl | (exfalso; omega) | contradiction | (exfalso; simp_all; done) | simp_all) (Nat.le_of_ble_eq_true rfl) (Nat.le_of_ble_eq_true rfl)
  · skip
    have c_6 : ¬ ((0 : Int64).toInt ≤ x.toInt64.toInt ∧ x.toInt64.toInt ≤ (7 : Int64).toInt) := of_decide_eq_false c_6
    have c_6 : ¬ (0 ≤ x.toInt ∧ x.toInt ≤ 7) := by simp only [Int32.toInt_toInt64] at c_6; exact c_6
    refine lv_if_eq (tgt := 51) hxR hbR dX5_element_9 (by decide) (fun _ => ?_) (fun c => absurd c (by decide))
    refine lv_lconst (v := 0) hxR hbR dX5_element_51 (by decide) ?_
    exact hret () (0 : Int64) _ _ _ _ _ _ dX5_element_52 hI (by show (0 : Int64) = elemV (ia 0) (ia 2) R x i; unfold elemV; (try simp only [nI_clamp (n := P) (by omega), hzc]); (try simp only [nI_clamp (n := ix) (by omega)]); (repeat' split) <;> first | rfl | (exfalso; omega) | contradiction | (exfalso; simp_all; done) | simp_all) (Nat.le_of_ble_eq_true rfl) (Nat.le_of_ble_eq_true rfl)

theorem c5_copy (l : Launch) (E : En) (ad : Nat → Nat) (kp tr : Option Nat) (iv : Nat → Int32) (ia K : Nat → Nat → Int32) (R : Nat → Nat → Int64) (mv : Nat → Int64) (p q i j k : Int32) (hsz : ∀ P, P < 8 → ∃ k, k ≤ 40 ∧ ia 2 P = nI k) : CtI l E yX5_copy cX5_copy 7 .int 2 0 0 [.ref (ad 45), .int p, .int q, .int i, .int j, .int k] (mW E ad kp tr iv ia K R mv) (fun (r : Int32) (u : (Nat → Int64)) => r = gd (copyC (ia 0) (ia 1) (ia 2) p q i j k) k (copyC (ia 0) (ia 1) (ia 2) p q i j k)) (fun (u : (Nat → Int64)) => mW E ad kp tr iv (va_up ia 9 (bumpR (ia 9) (copyC (ia 0) (ia 1) (ia 2) p q i j k))) K (gd (copyC (ia 0) (ia 1) (ia 2) p q i j k) (va_up R q.toNatClampNeg (cpyL (R p.toNatClampNeg) (R q.toNatClampNeg) i.toNatClampNeg j.toNatClampNeg k.toNatClampNeg)) R) u) := by
  refine CtI.of (by decide +kernel) (Nat.le_of_ble_eq_true rfl) ?_
  intro pR eR sR mR aR bR tR cR AR ls QR hxR hbR hmlR hts hown hlk hnm hA hK hI hl hret
  have hl : lv_has ls 7 [(0, .ref (ad 45)), (1, .int p), (2, .int q), (3, .int i), (4, .int j), (5, .int k)] := hl
  refine lv_iload_n hxR hbR dX5_copy_0 rfl (lv_at hl 1 rfl) ?_
  refine lv_i2l (v := p.toInt64) hxR hbR dX5_copy_1 rfl ?_
  refine lv_lconst (v := 0) hxR hbR dX5_copy_2 (by decide) ?_
  refine lv_ldc2 (v := 7) hxR hbR hown (hts _ q1618) dX5_copy_3 ?_
  refine kSI (n := 3) (As := [.long p.toInt64, .long (0 : Int64), .long (7 : Int64)]) (rest := []) (fun w => w ++ (mW E ad kp tr iv ia K R mv)) hxR hbR hmlR hts hown hK hA hl.1 (isCtx.suf _) hI (c5_in l E  p.toInt64 (0 : Int64) (7 : Int64) ) (lw_S q1619 q1620 q86 q1621) (by decide +kernel) rfl (Nat.le_of_ble_eq_true rfl) (Nat.le_of_ble_eq_true rfl) ⟨Nat.le_of_ble_eq_true rfl, Nat.le_of_ble_eq_true rfl⟩ (Nat.le_of_ble_eq_true rfl) dX5_copy_6 (fun r_6 u H locs hp hI hz => ?_)
  have hI : wI E AR sR H locs (mW E ad kp tr iv ia K R mv) := hI
  have hp : r_6 = b2i (inL p.toInt64 (0 : Int64) (7 : Int64)) := hp
  have hr_6 := hp
  rcases b2i_cases hr_6 with ⟨c_6, rfl⟩ | ⟨c_6, rfl⟩
  · skip
    have c_6 : (0 : Int64).toInt ≤ p.toInt64.toInt ∧ p.toInt64.toInt ≤ (7 : Int64).toInt := of_decide_eq_true c_6
    have c_6 : 0 ≤ p.toInt ∧ p.toInt ≤ 7 := by simp only [Int32.toInt_toInt64] at c_6; exact c_6
    obtain ⟨P, hP, rfl⟩ := nat_of_le (k := 7) c_6 (by decide)
    have tP : (nI P).toInt = (P : Int) := nI_toInt (by omega)
    refine lv_if_eq (tgt := 24) hxR hbR dX5_copy_9 (by decide) (fun c => absurd c (by decide)) (fun _ => ?_)
    refine lv_iload_n hxR hbR dX5_copy_12 rfl (lv_at hl 2 rfl) ?_
    refine lv_i2l (v := q.toInt64) hxR hbR dX5_copy_13 rfl ?_
    refine lv_lconst (v := 0) hxR hbR dX5_copy_14 (by decide) ?_
    refine lv_ldc2 (v := 7) hxR hbR hown (hts _ q1618) dX5_copy_15 ?_
    refine kSI (n := 3) (As := [.long q.toInt64, .long (0 : Int64), .long (7 : Int64)]) (rest := []) (fun w => w ++ (mW E ad kp tr iv ia K R mv)) hxR hbR hmlR hts hown hK hA hl.1 (isCtx.suf _) hI (c5_in l E  q.toInt64 (0 : Int64) (7 : Int64) ) (lw_S q1619 q1620 q86 q1621) (by decide +kernel) rfl (Nat.le_of_ble_eq_true rfl) (Nat.le_of_ble_eq_true rfl) ⟨Nat.le_of_ble_eq_true rfl, Nat.le_of_ble_eq_true rfl⟩ (Nat.le_of_ble_eq_true rfl) dX5_copy_18 (fun r_18 u H locs hp hI hz => ?_)
    have hI : wI E AR sR H locs (mW E ad kp tr iv ia K R mv) := hI
    have hp : r_18 = b2i (inL q.toInt64 (0 : Int64) (7 : Int64)) := hp
    have hr_18 := hp
    rcases b2i_cases hr_18 with ⟨c_18, rfl⟩ | ⟨c_18, rfl⟩
    · skip
      have c_18 : (0 : Int64).toInt ≤ q.toInt64.toInt ∧ q.toInt64.toInt ≤ (7 : Int64).toInt := of_decide_eq_true c_18
      have c_18 : 0 ≤ q.toInt ∧ q.toInt ≤ 7 := by simp only [Int32.toInt_toInt64] at c_18; exact c_18
      obtain ⟨Q, hQ, rfl⟩ := nat_of_le (k := 7) c_18 (by decide)
      have tQ : (nI Q).toInt = (Q : Int) := nI_toInt (by omega)
      obtain ⟨z9, hz9, hz8⟩ := hsz P hP
      obtain ⟨y9, hy9, hy8⟩ := hsz Q hQ
      have hzc : (ia 2 P).toNatClampNeg = z9 := by rw [hz8]; exact nI_clamp (by omega)
      have hzd : (ia 2 Q).toNatClampNeg = y9 := by rw [hy8]; exact nI_clamp (by omega)
      refine lv_if_ne (tgt := 31) hxR hbR dX5_copy_21 (by decide) (fun _ => ?_) (fun c => absurd c (by decide))
      refine lv_aload_n hxR hbR dX5_copy_31 rfl (lv_at hl 0 rfl) ?_
      refine r_get hxR hbR hts hown hK hI okX5 (ci := 5) rfl 16 mW_o 0 (by decide) q1478 rfl (v := .ref (ad 0)) rfl dX5_copy_32 ?_
      refine lv_iload_n hxR hbR dX5_copy_35 rfl (lv_at hl 1 rfl) ?_
      refine r_iald hxR hbR hK hI 17 (n := 8) (J := P) (f := ia 0) (v := (ia 0) P) (mW_g0 rfl) (by omega) (by decide) rfl dX5_copy_36 ?_
      refine lv_iconst (v := 2) hxR hbR dX5_copy_37 (by decide) ?_
      refine lv_icmp_eq (tgt := 86) hxR hbR dX5_copy_38 (by decide) (fun c_38 => ?_) (fun c_38 => ?_)
      · skip
        have i_38 : ((ia 0) P).toInt = 2 := by have zz := i_eq.mp c_38; exact zz
        have hD : ia 0 P = 2 ∨ ia 0 Q = 2 ∨ (ia 0 P = 1 ∧ ia 0 Q = 1 ∧ ¬ ia 1 P = ia 1 Q) := by first | exact Or.inl c_38 | exact Or.inr (Or.inl c_48) | exact Or.inr (Or.inr ⟨c_58, c_68, c_83⟩)
        refine lv_aload_n hxR hbR dX5_copy_86 rfl (lv_at hl 0 rfl) ?_
        refine lv_bipush (v := (-3)) hxR hbR dX5_copy_87 (by decide) ?_
        refine kVI (n := 1) (As := [.int (-3)]) (rest := []) (fun w => w) hxR hbR hmlR hts hown hK hA hl.1 isCtx.id hI (c5_refuse l E ad kp tr iv ia K R mv (-3) 3 (by decide) (by decide)) (lw_V q1624 q1626 qs34 q86 q1627) ⟨rfl, by decide +kernel⟩ 16 5 rfl rfl mW_o rfl (Nat.le_of_ble_eq_true rfl) (Nat.le_of_ble_eq_true rfl) ⟨Nat.le_of_ble_eq_true rfl, Nat.le_of_ble_eq_true rfl⟩ (Nat.le_of_ble_eq_true rfl) dX5_copy_89 (fun r_89 u H locs hp hI hz => ?_)
        have hI : wI E AR sR H locs (mW E ad kp tr iv (va_up ia 9 (va_up (ia 9) 3 (ia 9 3 + 1))) K R mv) := hI
        have hp : r_89 = (-3) := hp
        have hr_89 := hp
        subst hr_89
        have hC : copyC (ia 0) (ia 1) (ia 2) (nI P) (nI Q) i j k = (-3) := by
          clear hret hI
          unfold copyC; simp only [nI_clamp (n := P) (by omega), nI_clamp (n := Q) (by omega), hzc, hzd]; rw [if_pos ⟨c_6, c_18⟩]; exact if_pos hD
        have eia9 : bumpR (ia 9) (copyC (ia 0) (ia 1) (ia 2) (nI P) (nI Q) i j k) = va_up (ia 9) 3 (ia 9 3 + 1) := by rw [hC]; exact bump_3 _
        have eR : gd (copyC (ia 0) (ia 1) (ia 2) (nI P) (nI Q) i j k) (va_up R (nI Q).toNatClampNeg (cpyL (R (nI P).toNatClampNeg) (R (nI Q).toNatClampNeg) i.toNatClampNeg j.toNatClampNeg k.toNatClampNeg)) R = R := by rw [hC]; first | rfl | (simp only [nI_clamp (n := P) (by omega), nI_clamp (n := Q) (by omega)]; rfl) | (simp only [gd_0, nI_clamp (n := P) (by omega), nI_clamp (n := Q) (by omega)]; split <;> first | rfl | contradiction)
        have hI := wI_w (ws' := mW E ad kp tr iv (va_up ia 9 (bumpR (ia 9) (copyC (ia 0) (ia 1) (ia 2) (nI P) (nI Q) i j k))) K (gd (copyC (ia 0) (ia 1) (ia 2) (nI P) (nI Q) i j k) (va_up R (nI Q).toNatClampNeg (cpyL (R (nI P).toNatClampNeg) (R (nI Q).toNatClampNeg) i.toNatClampNeg j.toNatClampNeg k.toNatClampNeg)) R) mv) (by rw [eia9, eR]; try rfl) hI
        exact hret mv (-3) _ _ 0 0 _ _ dX5_copy_92 hI (by show (-3) = gd (copyC (ia 0) (ia 1) (ia 2) (nI P) (nI Q) i j k) k (copyC (ia 0) (ia 1) (ia 2) (nI P) (nI Q) i j k); rw [hC]; first | rfl | (simp only [nI_clamp (n := P) (by omega), nI_clamp (n := Q) (by omega)]; rfl) | (simp only [gd_0, nI_clamp (n := P) (by omega), nI_clamp (n := Q) (by omega)]; split <;> first | rfl | contradiction)) (Nat.le_of_ble_eq_true rfl) (Nat.le_of_ble_eq_true rfl) rfl
      · skip
        have i_38 : ¬ (((ia 0) P).toInt = 2) := by have zz := mt i_eq.mpr c_38; exact zz
        refine lv_aload_n hxR hbR dX5_copy_41 rfl (lv_at hl 0 rfl) ?_
        refine r_get hxR hbR hts hown hK hI okX5 (ci := 5) rfl 16 mW_o 0 (by decide) q1478 rfl (v := .ref (ad 0)) rfl dX5_copy_42 ?_
        refine lv_iload_n hxR hbR dX5_copy_45 rfl (lv_at hl 2 rfl) ?_
        refine r_iald hxR hbR hK hI 17 (n := 8) (J := Q) (f := ia 0) (v := (ia 0) Q) (mW_g0 rfl) (by omega) (by decide) rfl dX5_copy_46 ?_
        refine lv_iconst (v := 2) hxR hbR dX5_copy_47 (by decide) ?_
        refine lv_icmp_eq (tgt := 86) hxR hbR dX5_copy_48 (by decide) (fun c_48 => ?_) (fun c_48 => ?_)
        · skip
          have i_48 : ((ia 0) Q).toInt = 2 := by have zz := i_eq.mp c_48; exact zz
          have hD : ia 0 P = 2 ∨ ia 0 Q = 2 ∨ (ia 0 P = 1 ∧ ia 0 Q = 1 ∧ ¬ ia 1 P = ia 1 Q) := by first | exact Or.inl c_38 | exact Or.inr (Or.inl c_48) | exact Or.inr (Or.inr ⟨c_58, c_68, c_83⟩)
          refine lv_aload_n hxR hbR dX5_copy_86 rfl (lv_at hl 0 rfl) ?_
          refine lv_bipush (v := (-3)) hxR hbR dX5_copy_87 (by decide) ?_
          refine kVI (n := 1) (As := [.int (-3)]) (rest := []) (fun w => w) hxR hbR hmlR hts hown hK hA hl.1 isCtx.id hI (c5_refuse l E ad kp tr iv ia K R mv (-3) 3 (by decide) (by decide)) (lw_V q1624 q1626 qs34 q86 q1627) ⟨rfl, by decide +kernel⟩ 16 5 rfl rfl mW_o rfl (Nat.le_of_ble_eq_true rfl) (Nat.le_of_ble_eq_true rfl) ⟨Nat.le_of_ble_eq_true rfl, Nat.le_of_ble_eq_true rfl⟩ (Nat.le_of_ble_eq_true rfl) dX5_copy_89 (fun r_89 u H locs hp hI hz => ?_)
          have hI : wI E AR sR H locs (mW E ad kp tr iv (va_up ia 9 (va_up (ia 9) 3 (ia 9 3 + 1))) K R mv) := hI
          have hp : r_89 = (-3) := hp
          have hr_89 := hp
          subst hr_89
          have hC : copyC (ia 0) (ia 1) (ia 2) (nI P) (nI Q) i j k = (-3) := by
            clear hret hI
            unfold copyC; simp only [nI_clamp (n := P) (by omega), nI_clamp (n := Q) (by omega), hzc, hzd]; rw [if_pos ⟨c_6, c_18⟩]; exact if_pos hD
          have eia9 : bumpR (ia 9) (copyC (ia 0) (ia 1) (ia 2) (nI P) (nI Q) i j k) = va_up (ia 9) 3 (ia 9 3 + 1) := by rw [hC]; exact bump_3 _
          have eR : gd (copyC (ia 0) (ia 1) (ia 2) (nI P) (nI Q) i j k) (va_up R (nI Q).toNatClampNeg (cpyL (R (nI P).toNatClampNeg) (R (nI Q).toNatClampNeg) i.toNatClampNeg j.toNatClampNeg k.toNatClampNeg)) R = R := by rw [hC]; first | rfl | (simp only [nI_clamp (n := P) (by omega), nI_clamp (n := Q) (by omega)]; rfl) | (simp only [gd_0, nI_clamp (n := P) (by omega), nI_clamp (n := Q) (by omega)]; split <;> first | rfl | contradiction)
          have hI := wI_w (ws' := mW E ad kp tr iv (va_up ia 9 (bumpR (ia 9) (copyC (ia 0) (ia 1) (ia 2) (nI P) (nI Q) i j k))) K (gd (copyC (ia 0) (ia 1) (ia 2) (nI P) (nI Q) i j k) (va_up R (nI Q).toNatClampNeg (cpyL (R (nI P).toNatClampNeg) (R (nI Q).toNatClampNeg) i.toNatClampNeg j.toNatClampNeg k.toNatClampNeg)) R) mv) (by rw [eia9, eR]; try rfl) hI
          exact hret mv (-3) _ _ 0 0 _ _ dX5_copy_92 hI (by show (-3) = gd (copyC (ia 0) (ia 1) (ia 2) (nI P) (nI Q) i j k) k (copyC (ia 0) (ia 1) (ia 2) (nI P) (nI Q) i j k); rw [hC]; first | rfl | (simp only [nI_clamp (n := P) (by omega), nI_clamp (n := Q) (by omega)]; rfl) | (simp only [gd_0, nI_clamp (n := P) (by omega), nI_clamp (n := Q) (by omega)]; split <;> first | rfl | contradiction)) (Nat.le_of_ble_eq_true rfl) (Nat.le_of_ble_eq_true rfl) rfl
        · skip
          have i_48 : ¬ (((ia 0) Q).toInt = 2) := by have zz := mt i_eq.mpr c_48; exact zz
          refine lv_aload_n hxR hbR dX5_copy_51 rfl (lv_at hl 0 rfl) ?_
          refine r_get hxR hbR hts hown hK hI okX5 (ci := 5) rfl 16 mW_o 0 (by decide) q1478 rfl (v := .ref (ad 0)) rfl dX5_copy_52 ?_
          refine lv_iload_n hxR hbR dX5_copy_55 rfl (lv_at hl 1 rfl) ?_
          refine r_iald hxR hbR hK hI 17 (n := 8) (J := P) (f := ia 0) (v := (ia 0) P) (mW_g0 rfl) (by omega) (by decide) rfl dX5_copy_56 ?_
          refine lv_iconst (v := 1) hxR hbR dX5_copy_57 (by decide) ?_
          refine lv_icmp_ne (tgt := 93) hxR hbR dX5_copy_58 (by decide) (fun c_58 => ?_) (fun c_58 => ?_)
          · skip
            have i_58 : ¬ (((ia 0) P).toInt = 1) := by have zz := mt i_eq.mpr c_58; exact zz
            have hD : ¬ (ia 0 P = 2 ∨ ia 0 Q = 2 ∨ (ia 0 P = 1 ∧ ia 0 Q = 1 ∧ ¬ ia 1 P = ia 1 Q)) := fun z => z.elim c_38 (fun z => z.elim c_48 (fun z => by first | exact c_58 z.1 | exact c_68 z.2.1 | exact z.2.2 c_83))
            refine lv_aload_n hxR hbR dX5_copy_93 rfl (lv_at hl 0 rfl) ?_
            refine r_get hxR hbR hts hown hK hI okX5 (ci := 5) rfl 16 mW_o 0 (by decide) q1478 rfl (v := .ref (ad 0)) rfl dX5_copy_94 ?_
            refine lv_iload_n hxR hbR dX5_copy_97 rfl (lv_at hl 1 rfl) ?_
            refine r_iald hxR hbR hK hI 17 (n := 8) (J := P) (f := ia 0) (v := (ia 0) P) (mW_g0 rfl) (by omega) (by decide) rfl dX5_copy_98 ?_
            refine lv_if_eq (tgt := 111) hxR hbR dX5_copy_99 (by decide) (fun c_99 => ?_) (fun c_99 => ?_)
            · skip
              have i_99 : ((ia 0) P).toInt = 0 := by have zz := i_eq.mp c_99; exact zz
              have hZ : ia 0 P = 0 ∨ ia 0 Q = 0 := by first | exact Or.inl c_99 | exact Or.inr c_108
              refine lv_aload_n hxR hbR dX5_copy_111 rfl (lv_at hl 0 rfl) ?_
              refine lv_bipush (v := (-4)) hxR hbR dX5_copy_112 (by decide) ?_
              refine kVI (n := 1) (As := [.int (-4)]) (rest := []) (fun w => w) hxR hbR hmlR hts hown hK hA hl.1 isCtx.id hI (c5_refuse l E ad kp tr iv ia K R mv (-4) 4 (by decide) (by decide)) (lw_V q1624 q1626 qs34 q86 q1627) ⟨rfl, by decide +kernel⟩ 16 5 rfl rfl mW_o rfl (Nat.le_of_ble_eq_true rfl) (Nat.le_of_ble_eq_true rfl) ⟨Nat.le_of_ble_eq_true rfl, Nat.le_of_ble_eq_true rfl⟩ (Nat.le_of_ble_eq_true rfl) dX5_copy_114 (fun r_114 u H locs hp hI hz => ?_)
              have hI : wI E AR sR H locs (mW E ad kp tr iv (va_up ia 9 (va_up (ia 9) 4 (ia 9 4 + 1))) K R mv) := hI
              have hp : r_114 = (-4) := hp
              have hr_114 := hp
              subst hr_114
              have hC : copyC (ia 0) (ia 1) (ia 2) (nI P) (nI Q) i j k = (-4) := by
                clear hret hI
                unfold copyC; simp only [nI_clamp (n := P) (by omega), nI_clamp (n := Q) (by omega), hzc, hzd]; rw [if_pos ⟨c_6, c_18⟩, if_neg hD]; exact if_pos hZ
              have eia9 : bumpR (ia 9) (copyC (ia 0) (ia 1) (ia 2) (nI P) (nI Q) i j k) = va_up (ia 9) 4 (ia 9 4 + 1) := by rw [hC]; exact bump_4 _
              have eR : gd (copyC (ia 0) (ia 1) (ia 2) (nI P) (nI Q) i j k) (va_up R (nI Q).toNatClampNeg (cpyL (R (nI P).toNatClampNeg) (R (nI Q).toNatClampNeg) i.toNatClampNeg j.toNatClampNeg k.toNatClampNeg)) R = R := by rw [hC]; first | rfl | (simp only [nI_clamp (n := P) (by omega), nI_clamp (n := Q) (by omega)]; rfl) | (simp only [gd_0, nI_clamp (n := P) (by omega), nI_clamp (n := Q) (by omega)]; split <;> first | rfl | contradiction)
              have hI := wI_w (ws' := mW E ad kp tr iv (va_up ia 9 (bumpR (ia 9) (copyC (ia 0) (ia 1) (ia 2) (nI P) (nI Q) i j k))) K (gd (copyC (ia 0) (ia 1) (ia 2) (nI P) (nI Q) i j k) (va_up R (nI Q).toNatClampNeg (cpyL (R (nI P).toNatClampNeg) (R (nI Q).toNatClampNeg) i.toNatClampNeg j.toNatClampNeg k.toNatClampNeg)) R) mv) (by rw [eia9, eR]; try rfl) hI
              exact hret mv (-4) _ _ 0 0 _ _ dX5_copy_117 hI (by show (-4) = gd (copyC (ia 0) (ia 1) (ia 2) (nI P) (nI Q) i j k) k (copyC (ia 0) (ia 1) (ia 2) (nI P) (nI Q) i j k); rw [hC]; first | rfl | (simp only [nI_clamp (n := P) (by omega), nI_clamp (n := Q) (by omega)]; rfl) | (simp only [gd_0, nI_clamp (n := P) (by omega), nI_clamp (n := Q) (by omega)]; split <;> first | rfl | contradiction)) (Nat.le_of_ble_eq_true rfl) (Nat.le_of_ble_eq_true rfl) rfl
            · skip
              have i_99 : ¬ (((ia 0) P).toInt = 0) := by have zz := mt i_eq.mpr c_99; exact zz
              refine lv_aload_n hxR hbR dX5_copy_102 rfl (lv_at hl 0 rfl) ?_
              refine r_get hxR hbR hts hown hK hI okX5 (ci := 5) rfl 16 mW_o 0 (by decide) q1478 rfl (v := .ref (ad 0)) rfl dX5_copy_103 ?_
              refine lv_iload_n hxR hbR dX5_copy_106 rfl (lv_at hl 2 rfl) ?_
              refine r_iald hxR hbR hK hI 17 (n := 8) (J := Q) (f := ia 0) (v := (ia 0) Q) (mW_g0 rfl) (by omega) (by decide) rfl dX5_copy_107 ?_
              refine lv_if_ne (tgt := 118) hxR hbR dX5_copy_108 (by decide) (fun c_108 => ?_) (fun c_108 => ?_)
              · skip
                have i_108 : ¬ (((ia 0) Q).toInt = 0) := by have zz := mt i_eq.mpr c_108; exact zz
                have hZ : ¬ (ia 0 P = 0 ∨ ia 0 Q = 0) := fun z => z.elim c_99 c_108
                refine lv_iload hxR hbR dX5_copy_118 (lv_at hl 5 rfl) ?_
                refine lv_if_lt (tgt := 181) hxR hbR dX5_copy_120 (by decide) (fun c_120 => ?_) (fun c_120 => ?_)
                · skip
                  have i_120 : k.toInt < 0 := by have zz := i_lt.mp c_120; exact zz
                  refine lv_aload_n hxR hbR dX5_copy_181 rfl (lv_at hl 0 rfl) ?_
                  refine lv_bipush (v := (-2)) hxR hbR dX5_copy_182 (by decide) ?_
                  refine kVI (n := 1) (As := [.int (-2)]) (rest := []) (fun w => w) hxR hbR hmlR hts hown hK hA hl.1 isCtx.id hI (c5_refuse l E ad kp tr iv ia K R mv (-2) 2 (by decide) (by decide)) (lw_V q1624 q1626 qs34 q86 q1627) ⟨rfl, by decide +kernel⟩ 16 5 rfl rfl mW_o rfl (Nat.le_of_ble_eq_true rfl) (Nat.le_of_ble_eq_true rfl) ⟨Nat.le_of_ble_eq_true rfl, Nat.le_of_ble_eq_true rfl⟩ (Nat.le_of_ble_eq_true rfl) dX5_copy_184 (fun r_184 u H locs hp hI hz => ?_)
                  have hI : wI E AR sR H locs (mW E ad kp tr iv (va_up ia 9 (va_up (ia 9) 2 (ia 9 2 + 1))) K R mv) := hI
                  have hp : r_184 = (-2) := hp
                  have hr_184 := hp
                  subst hr_184
                  have hC : copyC (ia 0) (ia 1) (ia 2) (nI P) (nI Q) i j k = (-2) := by
                    clear hret hI
                    unfold copyC; simp only [nI_clamp (n := P) (by omega), nI_clamp (n := Q) (by omega), hzc, hzd]; rw [if_pos ⟨c_6, c_18⟩, if_neg hD, if_neg hZ]; exact if_pos (by omega)
                  have eia9 : bumpR (ia 9) (copyC (ia 0) (ia 1) (ia 2) (nI P) (nI Q) i j k) = va_up (ia 9) 2 (ia 9 2 + 1) := by rw [hC]; exact bump_2 _
                  have eR : gd (copyC (ia 0) (ia 1) (ia 2) (nI P) (nI Q) i j k) (va_up R (nI Q).toNatClampNeg (cpyL (R (nI P).toNatClampNeg) (R (nI Q).toNatClampNeg) i.toNatClampNeg j.toNatClampNeg k.toNatClampNeg)) R = R := by rw [hC]; first | rfl | (simp only [nI_clamp (n := P) (by omega), nI_clamp (n := Q) (by omega)]; rfl) | (simp only [gd_0, nI_clamp (n := P) (by omega), nI_clamp (n := Q) (by omega)]; split <;> first | rfl | contradiction)
                  have hI := wI_w (ws' := mW E ad kp tr iv (va_up ia 9 (bumpR (ia 9) (copyC (ia 0) (ia 1) (ia 2) (nI P) (nI Q) i j k))) K (gd (copyC (ia 0) (ia 1) (ia 2) (nI P) (nI Q) i j k) (va_up R (nI Q).toNatClampNeg (cpyL (R (nI P).toNatClampNeg) (R (nI Q).toNatClampNeg) i.toNatClampNeg j.toNatClampNeg k.toNatClampNeg)) R) mv) (by rw [eia9, eR]; try rfl) hI
                  exact hret mv (-2) _ _ 0 0 _ _ dX5_copy_187 hI (by show (-2) = gd (copyC (ia 0) (ia 1) (ia 2) (nI P) (nI Q) i j k) k (copyC (ia 0) (ia 1) (ia 2) (nI P) (nI Q) i j k); rw [hC]; first | rfl | (simp only [nI_clamp (n := P) (by omega), nI_clamp (n := Q) (by omega)]; rfl) | (simp only [gd_0, nI_clamp (n := P) (by omega), nI_clamp (n := Q) (by omega)]; split <;> first | rfl | contradiction)) (Nat.le_of_ble_eq_true rfl) (Nat.le_of_ble_eq_true rfl) rfl
                · skip
                  have i_120 : ¬ (k.toInt < 0) := by have zz := mt i_lt.mpr c_120; exact zz
                  obtain ⟨nz, hnz, rfl⟩ := nat_nn (x := k) (by omega)
                  have tnz : (nI nz).toInt = (nz : Int) := nI_toInt (by omega)
                  refine lv_iload_n hxR hbR dX5_copy_123 rfl (lv_at hl 3 rfl) ?_
                  refine lv_if_lt (tgt := 181) hxR hbR dX5_copy_124 (by decide) (fun c_124 => ?_) (fun c_124 => ?_)
                  · skip
                    have i_124 : i.toInt < 0 := by have zz := i_lt.mp c_124; exact zz
                    refine lv_aload_n hxR hbR dX5_copy_181 rfl (lv_at hl 0 rfl) ?_
                    refine lv_bipush (v := (-2)) hxR hbR dX5_copy_182 (by decide) ?_
                    refine kVI (n := 1) (As := [.int (-2)]) (rest := []) (fun w => w) hxR hbR hmlR hts hown hK hA hl.1 isCtx.id hI (c5_refuse l E ad kp tr iv ia K R mv (-2) 2 (by decide) (by decide)) (lw_V q1624 q1626 qs34 q86 q1627) ⟨rfl, by decide +kernel⟩ 16 5 rfl rfl mW_o rfl (Nat.le_of_ble_eq_true rfl) (Nat.le_of_ble_eq_true rfl) ⟨Nat.le_of_ble_eq_true rfl, Nat.le_of_ble_eq_true rfl⟩ (Nat.le_of_ble_eq_true rfl) dX5_copy_184 (fun r_184 u H locs hp hI hz => ?_)
                    have hI : wI E AR sR H locs (mW E ad kp tr iv (va_up ia 9 (va_up (ia 9) 2 (ia 9 2 + 1))) K R mv) := hI
                    have hp : r_184 = (-2) := hp
                    have hr_184 := hp
                    subst hr_184
                    have hC : copyC (ia 0) (ia 1) (ia 2) (nI P) (nI Q) i j (nI nz) = (-2) := by
                      clear hret hI
                      unfold copyC; simp only [nI_clamp (n := P) (by omega), nI_clamp (n := Q) (by omega), hzc, hzd]; rw [if_pos ⟨c_6, c_18⟩, if_neg hD, if_neg hZ]; exact if_pos (by omega)
                    have eia9 : bumpR (ia 9) (copyC (ia 0) (ia 1) (ia 2) (nI P) (nI Q) i j (nI nz)) = va_up (ia 9) 2 (ia 9 2 + 1) := by rw [hC]; exact bump_2 _
                    have eR : gd (copyC (ia 0) (ia 1) (ia 2) (nI P) (nI Q) i j (nI nz)) (va_up R (nI Q).toNatClampNeg (cpyL (R (nI P).toNatClampNeg) (R (nI Q).toNatClampNeg) i.toNatClampNeg j.toNatClampNeg (nI nz).toNatClampNeg)) R = R := by rw [hC]; first | rfl | (simp only [nI_clamp (n := P) (by omega), nI_clamp (n := Q) (by omega), nI_clamp (n := nz) (by omega)]; rfl) | (simp only [gd_0, nI_clamp (n := P) (by omega), nI_clamp (n := Q) (by omega), nI_clamp (n := nz) (by omega)]; split <;> first | rfl | contradiction)
                    have hI := wI_w (ws' := mW E ad kp tr iv (va_up ia 9 (bumpR (ia 9) (copyC (ia 0) (ia 1) (ia 2) (nI P) (nI Q) i j (nI nz)))) K (gd (copyC (ia 0) (ia 1) (ia 2) (nI P) (nI Q) i j (nI nz)) (va_up R (nI Q).toNatClampNeg (cpyL (R (nI P).toNatClampNeg) (R (nI Q).toNatClampNeg) i.toNatClampNeg j.toNatClampNeg (nI nz).toNatClampNeg)) R) mv) (by rw [eia9, eR]; try rfl) hI
                    exact hret mv (-2) _ _ 0 0 _ _ dX5_copy_187 hI (by show (-2) = gd (copyC (ia 0) (ia 1) (ia 2) (nI P) (nI Q) i j (nI nz)) (nI nz) (copyC (ia 0) (ia 1) (ia 2) (nI P) (nI Q) i j (nI nz)); rw [hC]; first | rfl | (simp only [nI_clamp (n := P) (by omega), nI_clamp (n := Q) (by omega), nI_clamp (n := nz) (by omega)]; rfl) | (simp only [gd_0, nI_clamp (n := P) (by omega), nI_clamp (n := Q) (by omega), nI_clamp (n := nz) (by omega)]; split <;> first | rfl | contradiction)) (Nat.le_of_ble_eq_true rfl) (Nat.le_of_ble_eq_true rfl) rfl
                  · skip
                    have i_124 : ¬ (i.toInt < 0) := by have zz := mt i_lt.mpr c_124; exact zz
                    obtain ⟨ix, hix, rfl⟩ := nat_nn (x := i) (by omega)
                    have tix : (nI ix).toInt = (ix : Int) := nI_toInt (by omega)
                    refine lv_iload hxR hbR dX5_copy_127 (lv_at hl 4 rfl) ?_
                    refine lv_if_lt (tgt := 181) hxR hbR dX5_copy_129 (by decide) (fun c_129 => ?_) (fun c_129 => ?_)
                    · skip
                      have i_129 : j.toInt < 0 := by have zz := i_lt.mp c_129; exact zz
                      refine lv_aload_n hxR hbR dX5_copy_181 rfl (lv_at hl 0 rfl) ?_
                      refine lv_bipush (v := (-2)) hxR hbR dX5_copy_182 (by decide) ?_
                      refine kVI (n := 1) (As := [.int (-2)]) (rest := []) (fun w => w) hxR hbR hmlR hts hown hK hA hl.1 isCtx.id hI (c5_refuse l E ad kp tr iv ia K R mv (-2) 2 (by decide) (by decide)) (lw_V q1624 q1626 qs34 q86 q1627) ⟨rfl, by decide +kernel⟩ 16 5 rfl rfl mW_o rfl (Nat.le_of_ble_eq_true rfl) (Nat.le_of_ble_eq_true rfl) ⟨Nat.le_of_ble_eq_true rfl, Nat.le_of_ble_eq_true rfl⟩ (Nat.le_of_ble_eq_true rfl) dX5_copy_184 (fun r_184 u H locs hp hI hz => ?_)
                      have hI : wI E AR sR H locs (mW E ad kp tr iv (va_up ia 9 (va_up (ia 9) 2 (ia 9 2 + 1))) K R mv) := hI
                      have hp : r_184 = (-2) := hp
                      have hr_184 := hp
                      subst hr_184
                      have hC : copyC (ia 0) (ia 1) (ia 2) (nI P) (nI Q) (nI ix) j (nI nz) = (-2) := by
                        clear hret hI
                        unfold copyC; simp only [nI_clamp (n := P) (by omega), nI_clamp (n := Q) (by omega), hzc, hzd]; rw [if_pos ⟨c_6, c_18⟩, if_neg hD, if_neg hZ]; exact if_pos (by omega)
                      have eia9 : bumpR (ia 9) (copyC (ia 0) (ia 1) (ia 2) (nI P) (nI Q) (nI ix) j (nI nz)) = va_up (ia 9) 2 (ia 9 2 + 1) := by rw [hC]; exact bump_2 _
                      have eR : gd (copyC (ia 0) (ia 1) (ia 2) (nI P) (nI Q) (nI ix) j (nI nz)) (va_up R (nI Q).toNatClampNeg (cpyL (R (nI P).toNatClampNeg) (R (nI Q).toNatClampNeg) (nI ix).toNatClampNeg j.toNatClampNeg (nI nz).toNatClampNeg)) R = R := by rw [hC]; first | rfl | (simp only [nI_clamp (n := P) (by omega), nI_clamp (n := Q) (by omega), nI_clamp (n := nz) (by omega), nI_clamp (n := ix) (by omega)]; rfl) | (simp only [gd_0, nI_clamp (n := P) (by omega), nI_clamp (n := Q) (by omega), nI_clamp (n := nz) (by omega), nI_clamp (n := ix) (by omega)]; split <;> first | rfl | contradiction)
                      have hI := wI_w (ws' := mW E ad kp tr iv (va_up ia 9 (bumpR (ia 9) (copyC (ia 0) (ia 1) (ia 2) (nI P) (nI Q) (nI ix) j (nI nz)))) K (gd (copyC (ia 0) (ia 1) (ia 2) (nI P) (nI Q) (nI ix) j (nI nz)) (va_up R (nI Q).toNatClampNeg (cpyL (R (nI P).toNatClampNeg) (R (nI Q).toNatClampNeg) (nI ix).toNatClampNeg j.toNatClampNeg (nI nz).toNatClampNeg)) R) mv) (by rw [eia9, eR]; try rfl) hI
                      exact hret mv (-2) _ _ 0 0 _ _ dX5_copy_187 hI (by show (-2) = gd (copyC (ia 0) (ia 1) (ia 2) (nI P) (nI Q) (nI ix) j (nI nz)) (nI nz) (copyC (ia 0) (ia 1) (ia 2) (nI P) (nI Q) (nI ix) j (nI nz)); rw [hC]; first | rfl | (simp only [nI_clamp (n := P) (by omega), nI_clamp (n := Q) (by omega), nI_clamp (n := nz) (by omega), nI_clamp (n := ix) (by omega)]; rfl) | (simp only [gd_0, nI_clamp (n := P) (by omega), nI_clamp (n := Q) (by omega), nI_clamp (n := nz) (by omega), nI_clamp (n := ix) (by omega)]; split <;> first | rfl | contradiction)) (Nat.le_of_ble_eq_true rfl) (Nat.le_of_ble_eq_true rfl) rfl
                    · skip
                      have i_129 : ¬ (j.toInt < 0) := by have zz := mt i_lt.mpr c_129; exact zz
                      obtain ⟨jx, hjx, rfl⟩ := nat_nn (x := j) (by omega)
                      have tjx : (nI jx).toInt = (jx : Int) := nI_toInt (by omega)
                      refine lv_iload hxR hbR dX5_copy_132 (lv_at hl 5 rfl) ?_
                      refine lv_aload_n hxR hbR dX5_copy_134 rfl (lv_at hl 0 rfl) ?_
                      refine r_get hxR hbR hts hown hK hI okX5 (ci := 5) rfl 16 mW_o 2 (by decide) q1480 rfl (v := .ref (ad 2)) rfl dX5_copy_135 ?_
                      refine lv_iload_n hxR hbR dX5_copy_138 rfl (lv_at hl 1 rfl) ?_
                      refine r_iald hxR hbR hK hI 19 (n := 8) (J := P) (f := ia 2) (v := nI z9) (mW_g2 rfl) (by omega) (by decide) hz8 dX5_copy_139 ?_
                      refine lv_icmp_gt (tgt := 181) hxR hbR dX5_copy_140 (by decide) (fun c_140 => ?_) (fun c_140 => ?_)
                      · skip
                        have c_140 : z9 < nz := (n_lt (a := z9) (b := nz) (by omega) (by omega)).mp c_140
                        refine lv_aload_n hxR hbR dX5_copy_181 rfl (lv_at hl 0 rfl) ?_
                        refine lv_bipush (v := (-2)) hxR hbR dX5_copy_182 (by decide) ?_
                        refine kVI (n := 1) (As := [.int (-2)]) (rest := []) (fun w => w) hxR hbR hmlR hts hown hK hA hl.1 isCtx.id hI (c5_refuse l E ad kp tr iv ia K R mv (-2) 2 (by decide) (by decide)) (lw_V q1624 q1626 qs34 q86 q1627) ⟨rfl, by decide +kernel⟩ 16 5 rfl rfl mW_o rfl (Nat.le_of_ble_eq_true rfl) (Nat.le_of_ble_eq_true rfl) ⟨Nat.le_of_ble_eq_true rfl, Nat.le_of_ble_eq_true rfl⟩ (Nat.le_of_ble_eq_true rfl) dX5_copy_184 (fun r_184 u H locs hp hI hz => ?_)
                        have hI : wI E AR sR H locs (mW E ad kp tr iv (va_up ia 9 (va_up (ia 9) 2 (ia 9 2 + 1))) K R mv) := hI
                        have hp : r_184 = (-2) := hp
                        have hr_184 := hp
                        subst hr_184
                        have hC : copyC (ia 0) (ia 1) (ia 2) (nI P) (nI Q) (nI ix) (nI jx) (nI nz) = (-2) := by
                          clear hret hI
                          unfold copyC; simp only [nI_clamp (n := P) (by omega), nI_clamp (n := Q) (by omega), hzc, hzd]; rw [if_pos ⟨c_6, c_18⟩, if_neg hD, if_neg hZ]; exact if_pos (by omega)
                        have eia9 : bumpR (ia 9) (copyC (ia 0) (ia 1) (ia 2) (nI P) (nI Q) (nI ix) (nI jx) (nI nz)) = va_up (ia 9) 2 (ia 9 2 + 1) := by rw [hC]; exact bump_2 _
                        have eR : gd (copyC (ia 0) (ia 1) (ia 2) (nI P) (nI Q) (nI ix) (nI jx) (nI nz)) (va_up R (nI Q).toNatClampNeg (cpyL (R (nI P).toNatClampNeg) (R (nI Q).toNatClampNeg) (nI ix).toNatClampNeg (nI jx).toNatClampNeg (nI nz).toNatClampNeg)) R = R := by rw [hC]; first | rfl | (simp only [nI_clamp (n := P) (by omega), nI_clamp (n := Q) (by omega), nI_clamp (n := nz) (by omega), nI_clamp (n := ix) (by omega), nI_clamp (n := jx) (by omega)]; rfl) | (simp only [gd_0, nI_clamp (n := P) (by omega), nI_clamp (n := Q) (by omega), nI_clamp (n := nz) (by omega), nI_clamp (n := ix) (by omega), nI_clamp (n := jx) (by omega)]; split <;> first | rfl | contradiction)
                        have hI := wI_w (ws' := mW E ad kp tr iv (va_up ia 9 (bumpR (ia 9) (copyC (ia 0) (ia 1) (ia 2) (nI P) (nI Q) (nI ix) (nI jx) (nI nz)))) K (gd (copyC (ia 0) (ia 1) (ia 2) (nI P) (nI Q) (nI ix) (nI jx) (nI nz)) (va_up R (nI Q).toNatClampNeg (cpyL (R (nI P).toNatClampNeg) (R (nI Q).toNatClampNeg) (nI ix).toNatClampNeg (nI jx).toNatClampNeg (nI nz).toNatClampNeg)) R) mv) (by rw [eia9, eR]; try rfl) hI
                        exact hret mv (-2) _ _ 0 0 _ _ dX5_copy_187 hI (by show (-2) = gd (copyC (ia 0) (ia 1) (ia 2) (nI P) (nI Q) (nI ix) (nI jx) (nI nz)) (nI nz) (copyC (ia 0) (ia 1) (ia 2) (nI P) (nI Q) (nI ix) (nI jx) (nI nz)); rw [hC]; first | rfl | (simp only [nI_clamp (n := P) (by omega), nI_clamp (n := Q) (by omega), nI_clamp (n := nz) (by omega), nI_clamp (n := ix) (by omega), nI_clamp (n := jx) (by omega)]; rfl) | (simp only [gd_0, nI_clamp (n := P) (by omega), nI_clamp (n := Q) (by omega), nI_clamp (n := nz) (by omega), nI_clamp (n := ix) (by omega), nI_clamp (n := jx) (by omega)]; split <;> first | rfl | contradiction)) (Nat.le_of_ble_eq_true rfl) (Nat.le_of_ble_eq_true rfl) rfl
                      · skip
                        have c_140 : nz ≤ z9 := Nat.le_of_not_lt (fun zz => c_140 ((n_lt (a := z9) (b := nz) (by omega) (by omega)).mpr zz))
                        refine lv_iload hxR hbR dX5_copy_143 (lv_at hl 5 rfl) ?_
                        refine lv_aload_n hxR hbR dX5_copy_145 rfl (lv_at hl 0 rfl) ?_
                        refine r_get hxR hbR hts hown hK hI okX5 (ci := 5) rfl 16 mW_o 2 (by decide) q1480 rfl (v := .ref (ad 2)) rfl dX5_copy_146 ?_
                        refine lv_iload_n hxR hbR dX5_copy_149 rfl (lv_at hl 2 rfl) ?_
                        refine r_iald hxR hbR hK hI 19 (n := 8) (J := Q) (f := ia 2) (v := nI y9) (mW_g2 rfl) (by omega) (by decide) hy8 dX5_copy_150 ?_
                        refine lv_icmp_gt (tgt := 181) hxR hbR dX5_copy_151 (by decide) (fun c_151 => ?_) (fun c_151 => ?_)
                        · skip
                          have c_151 : y9 < nz := (n_lt (a := y9) (b := nz) (by omega) (by omega)).mp c_151
                          refine lv_aload_n hxR hbR dX5_copy_181 rfl (lv_at hl 0 rfl) ?_
                          refine lv_bipush (v := (-2)) hxR hbR dX5_copy_182 (by decide) ?_
                          refine kVI (n := 1) (As := [.int (-2)]) (rest := []) (fun w => w) hxR hbR hmlR hts hown hK hA hl.1 isCtx.id hI (c5_refuse l E ad kp tr iv ia K R mv (-2) 2 (by decide) (by decide)) (lw_V q1624 q1626 qs34 q86 q1627) ⟨rfl, by decide +kernel⟩ 16 5 rfl rfl mW_o rfl (Nat.le_of_ble_eq_true rfl) (Nat.le_of_ble_eq_true rfl) ⟨Nat.le_of_ble_eq_true rfl, Nat.le_of_ble_eq_true rfl⟩ (Nat.le_of_ble_eq_true rfl) dX5_copy_184 (fun r_184 u H locs hp hI hz => ?_)
                          have hI : wI E AR sR H locs (mW E ad kp tr iv (va_up ia 9 (va_up (ia 9) 2 (ia 9 2 + 1))) K R mv) := hI
                          have hp : r_184 = (-2) := hp
                          have hr_184 := hp
                          subst hr_184
                          have hC : copyC (ia 0) (ia 1) (ia 2) (nI P) (nI Q) (nI ix) (nI jx) (nI nz) = (-2) := by
                            clear hret hI
                            unfold copyC; simp only [nI_clamp (n := P) (by omega), nI_clamp (n := Q) (by omega), hzc, hzd]; rw [if_pos ⟨c_6, c_18⟩, if_neg hD, if_neg hZ]; exact if_pos (by omega)
                          have eia9 : bumpR (ia 9) (copyC (ia 0) (ia 1) (ia 2) (nI P) (nI Q) (nI ix) (nI jx) (nI nz)) = va_up (ia 9) 2 (ia 9 2 + 1) := by rw [hC]; exact bump_2 _
                          have eR : gd (copyC (ia 0) (ia 1) (ia 2) (nI P) (nI Q) (nI ix) (nI jx) (nI nz)) (va_up R (nI Q).toNatClampNeg (cpyL (R (nI P).toNatClampNeg) (R (nI Q).toNatClampNeg) (nI ix).toNatClampNeg (nI jx).toNatClampNeg (nI nz).toNatClampNeg)) R = R := by rw [hC]; first | rfl | (simp only [nI_clamp (n := P) (by omega), nI_clamp (n := Q) (by omega), nI_clamp (n := nz) (by omega), nI_clamp (n := ix) (by omega), nI_clamp (n := jx) (by omega)]; rfl) | (simp only [gd_0, nI_clamp (n := P) (by omega), nI_clamp (n := Q) (by omega), nI_clamp (n := nz) (by omega), nI_clamp (n := ix) (by omega), nI_clamp (n := jx) (by omega)]; split <;> first | rfl | contradiction)
                          have hI := wI_w (ws' := mW E ad kp tr iv (va_up ia 9 (bumpR (ia 9) (copyC (ia 0) (ia 1) (ia 2) (nI P) (nI Q) (nI ix) (nI jx) (nI nz)))) K (gd (copyC (ia 0) (ia 1) (ia 2) (nI P) (nI Q) (nI ix) (nI jx) (nI nz)) (va_up R (nI Q).toNatClampNeg (cpyL (R (nI P).toNatClampNeg) (R (nI Q).toNatClampNeg) (nI ix).toNatClampNeg (nI jx).toNatClampNeg (nI nz).toNatClampNeg)) R) mv) (by rw [eia9, eR]; try rfl) hI
                          exact hret mv (-2) _ _ 0 0 _ _ dX5_copy_187 hI (by show (-2) = gd (copyC (ia 0) (ia 1) (ia 2) (nI P) (nI Q) (nI ix) (nI jx) (nI nz)) (nI nz) (copyC (ia 0) (ia 1) (ia 2) (nI P) (nI Q) (nI ix) (nI jx) (nI nz)); rw [hC]; first | rfl | (simp only [nI_clamp (n := P) (by omega), nI_clamp (n := Q) (by omega), nI_clamp (n := nz) (by omega), nI_clamp (n := ix) (by omega), nI_clamp (n := jx) (by omega)]; rfl) | (simp only [gd_0, nI_clamp (n := P) (by omega), nI_clamp (n := Q) (by omega), nI_clamp (n := nz) (by omega), nI_clamp (n := ix) (by omega), nI_clamp (n := jx) (by omega)]; split <;> first | rfl | contradiction)) (Nat.le_of_ble_eq_true rfl) (Nat.le_of_ble_eq_true rfl) rfl
                        · skip
                          have c_151 : nz ≤ y9 := Nat.le_of_not_lt (fun zz => c_151 ((n_lt (a := y9) (b := nz) (by omega) (by omega)).mpr zz))
                          refine lv_iload_n hxR hbR dX5_copy_154 rfl (lv_at hl 3 rfl) ?_
                          refine lv_aload_n hxR hbR dX5_copy_155 rfl (lv_at hl 0 rfl) ?_
                          refine r_get hxR hbR hts hown hK hI okX5 (ci := 5) rfl 16 mW_o 2 (by decide) q1480 rfl (v := .ref (ad 2)) rfl dX5_copy_156 ?_
                          refine lv_iload_n hxR hbR dX5_copy_159 rfl (lv_at hl 1 rfl) ?_
                          refine r_iald hxR hbR hK hI 19 (n := 8) (J := P) (f := ia 2) (v := nI z9) (mW_g2 rfl) (by omega) (by decide) hz8 dX5_copy_160 ?_
                          refine lv_iload hxR hbR dX5_copy_161 (lv_at hl 5 rfl) ?_
                          refine lv_isub hxR hbR dX5_copy_163 ?_
                          refine lv_as (y := nI (z9 - nz)) (pk_sub (a := z9) (b := nz) (by omega)) ?_
                          refine lv_icmp_gt (tgt := 181) hxR hbR dX5_copy_164 (by decide) (fun c_164 => ?_) (fun c_164 => ?_)
                          · skip
                            have c_164 : (z9 - nz) < ix := (n_lt (a := (z9 - nz)) (b := ix) (by omega) (by omega)).mp c_164
                            refine lv_aload_n hxR hbR dX5_copy_181 rfl (lv_at hl 0 rfl) ?_
                            refine lv_bipush (v := (-2)) hxR hbR dX5_copy_182 (by decide) ?_
                            refine kVI (n := 1) (As := [.int (-2)]) (rest := []) (fun w => w) hxR hbR hmlR hts hown hK hA hl.1 isCtx.id hI (c5_refuse l E ad kp tr iv ia K R mv (-2) 2 (by decide) (by decide)) (lw_V q1624 q1626 qs34 q86 q1627) ⟨rfl, by decide +kernel⟩ 16 5 rfl rfl mW_o rfl (Nat.le_of_ble_eq_true rfl) (Nat.le_of_ble_eq_true rfl) ⟨Nat.le_of_ble_eq_true rfl, Nat.le_of_ble_eq_true rfl⟩ (Nat.le_of_ble_eq_true rfl) dX5_copy_184 (fun r_184 u H locs hp hI hz => ?_)
                            have hI : wI E AR sR H locs (mW E ad kp tr iv (va_up ia 9 (va_up (ia 9) 2 (ia 9 2 + 1))) K R mv) := hI
                            have hp : r_184 = (-2) := hp
                            have hr_184 := hp
                            subst hr_184
                            have hC : copyC (ia 0) (ia 1) (ia 2) (nI P) (nI Q) (nI ix) (nI jx) (nI nz) = (-2) := by
                              clear hret hI
                              unfold copyC; simp only [nI_clamp (n := P) (by omega), nI_clamp (n := Q) (by omega), hzc, hzd]; rw [if_pos ⟨c_6, c_18⟩, if_neg hD, if_neg hZ]; exact if_pos (by omega)
                            have eia9 : bumpR (ia 9) (copyC (ia 0) (ia 1) (ia 2) (nI P) (nI Q) (nI ix) (nI jx) (nI nz)) = va_up (ia 9) 2 (ia 9 2 + 1) := by rw [hC]; exact bump_2 _
                            have eR : gd (copyC (ia 0) (ia 1) (ia 2) (nI P) (nI Q) (nI ix) (nI jx) (nI nz)) (va_up R (nI Q).toNatClampNeg (cpyL (R (nI P).toNatClampNeg) (R (nI Q).toNatClampNeg) (nI ix).toNatClampNeg (nI jx).toNatClampNeg (nI nz).toNatClampNeg)) R = R := by rw [hC]; first | rfl | (simp only [nI_clamp (n := P) (by omega), nI_clamp (n := Q) (by omega), nI_clamp (n := nz) (by omega), nI_clamp (n := ix) (by omega), nI_clamp (n := jx) (by omega)]; rfl) | (simp only [gd_0, nI_clamp (n := P) (by omega), nI_clamp (n := Q) (by omega), nI_clamp (n := nz) (by omega), nI_clamp (n := ix) (by omega), nI_clamp (n := jx) (by omega)]; split <;> first | rfl | contradiction)
                            have hI := wI_w (ws' := mW E ad kp tr iv (va_up ia 9 (bumpR (ia 9) (copyC (ia 0) (ia 1) (ia 2) (nI P) (nI Q) (nI ix) (nI jx) (nI nz)))) K (gd (copyC (ia 0) (ia 1) (ia 2) (nI P) (nI Q) (nI ix) (nI jx) (nI nz)) (va_up R (nI Q).toNatClampNeg (cpyL (R (nI P).toNatClampNeg) (R (nI Q).toNatClampNeg) (nI ix).toNatClampNeg (nI jx).toNatClampNeg (nI nz).toNatClampNeg)) R) mv) (by rw [eia9, eR]; try rfl) hI
                            exact hret mv (-2) _ _ 0 0 _ _ dX5_copy_187 hI (by show (-2) = gd (copyC (ia 0) (ia 1) (ia 2) (nI P) (nI Q) (nI ix) (nI jx) (nI nz)) (nI nz) (copyC (ia 0) (ia 1) (ia 2) (nI P) (nI Q) (nI ix) (nI jx) (nI nz)); rw [hC]; first | rfl | (simp only [nI_clamp (n := P) (by omega), nI_clamp (n := Q) (by omega), nI_clamp (n := nz) (by omega), nI_clamp (n := ix) (by omega), nI_clamp (n := jx) (by omega)]; rfl) | (simp only [gd_0, nI_clamp (n := P) (by omega), nI_clamp (n := Q) (by omega), nI_clamp (n := nz) (by omega), nI_clamp (n := ix) (by omega), nI_clamp (n := jx) (by omega)]; split <;> first | rfl | contradiction)) (Nat.le_of_ble_eq_true rfl) (Nat.le_of_ble_eq_true rfl) rfl
                          · skip
                            have c_164 : ix ≤ (z9 - nz) := Nat.le_of_not_lt (fun zz => c_164 ((n_lt (a := (z9 - nz)) (b := ix) (by omega) (by omega)).mpr zz))
                            refine lv_iload hxR hbR dX5_copy_167 (lv_at hl 4 rfl) ?_
                            refine lv_aload_n hxR hbR dX5_copy_169 rfl (lv_at hl 0 rfl) ?_
                            refine r_get hxR hbR hts hown hK hI okX5 (ci := 5) rfl 16 mW_o 2 (by decide) q1480 rfl (v := .ref (ad 2)) rfl dX5_copy_170 ?_
                            refine lv_iload_n hxR hbR dX5_copy_173 rfl (lv_at hl 2 rfl) ?_
                            refine r_iald hxR hbR hK hI 19 (n := 8) (J := Q) (f := ia 2) (v := nI y9) (mW_g2 rfl) (by omega) (by decide) hy8 dX5_copy_174 ?_
                            refine lv_iload hxR hbR dX5_copy_175 (lv_at hl 5 rfl) ?_
                            refine lv_isub hxR hbR dX5_copy_177 ?_
                            refine lv_as (y := nI (y9 - nz)) (pk_sub (a := y9) (b := nz) (by omega)) ?_
                            refine lv_icmp_le (tgt := 188) hxR hbR dX5_copy_178 (by decide) (fun c_178 => ?_) (fun c_178 => ?_)
                            · skip
                              have c_178 : jx ≤ (y9 - nz) := (n_le (a := jx) (b := (y9 - nz)) (by omega) (by omega)).mp c_178
                              refine lv_iconst (v := 0) hxR hbR dX5_copy_188 (by decide) ?_
                              refine lv_istore (lv' := [(6, .int 0), (0, .ref (ad 45)), (1, .int (nI P)), (2, .int (nI Q)), (3, .int (nI ix)), (4, .int (nI jx)), (5, .int (nI nz))]) hxR hbR dX5_copy_189 hl (by decide) rfl (fun ls hl => ?_)
                              have lp_191 : ∀ (fu : Nat) (k1 : Nat) (m1 : Nat → Int64), (k1 ≤ nz) → (∀ z, z < k1 → m1 z = R P (ix + z)) → nz - k1 < fu → ∀ (H : Heap) (locs : List Loc), wI E AR sR H locs (mW E ad kp tr iv ia K R m1) → ∀ ls : Array Slot, lv_has ls 7 [(0, .ref (ad 45)), (1, .int (nI P)), (2, .int (nI Q)), (3, .int (nI ix)), (4, .int (nI jx)), (5, .int (nI nz)), (6, .int (nI k1))] → W pR l eR (rmF 2 0 0) sR mR aR bR tR cR H locs 0 0 QR (F0 mR 191 ls []) := by
                                intro fu
                                induction fu with
                                | zero =>
                                  intro k1 m1 hk1 hm1 hfu
                                  exact absurd hfu (Nat.not_lt_zero _)
                                | succ fu ih_191 =>
                                  intro k1 m1 hk1 hm1 hfu H locs hI ls hl
                                  refine lv_iload hxR hbR dX5_copy_191 (lv_at hl 6 rfl) ?_
                                  refine lv_iload hxR hbR dX5_copy_193 (lv_at hl 5 rfl) ?_
                                  refine lv_icmp_ge (tgt := 222) hxR hbR dX5_copy_195 (by decide) (fun c_195 => ?_) (fun c_195 => ?_)
                                  · skip
                                    have c_195 : nz ≤ k1 := (n_le (a := nz) (b := k1) (by omega) (by omega)).mp c_195
                                    refine lv_iconst (v := 0) hxR hbR dX5_copy_222 (by decide) ?_
                                    refine lv_istore (lv' := [(6, .int 0), (0, .ref (ad 45)), (1, .int (nI P)), (2, .int (nI Q)), (3, .int (nI ix)), (4, .int (nI jx)), (5, .int (nI nz))]) hxR hbR dX5_copy_223 hl (by decide) rfl (fun ls hl => ?_)
                                    have lp_225 : ∀ (fu : Nat) (k3 : Nat) (Rx : Nat → Nat → Int64), (k3 ≤ nz) → (∀ z, z ≠ Q → Rx z = R z) → (Rx Q = cpyL (R P) (R Q) ix jx k3) → nz - k3 < fu → ∀ (H : Heap) (locs : List Loc), wI E AR sR H locs (mW E ad kp tr iv ia K Rx m1) → ∀ ls : Array Slot, lv_has ls 7 [(0, .ref (ad 45)), (1, .int (nI P)), (2, .int (nI Q)), (3, .int (nI ix)), (4, .int (nI jx)), (5, .int (nI nz)), (6, .int (nI k3))] → W pR l eR (rmF 2 0 0) sR mR aR bR tR cR H locs 0 0 QR (F0 mR 225 ls []) := by
                                      intro fu
                                      induction fu with
                                      | zero =>
                                        intro k3 Rx hk3 hr1 hr2 hfu
                                        exact absurd hfu (Nat.not_lt_zero _)
                                      | succ fu ih_225 =>
                                        intro k3 Rx hk3 hr1 hr2 hfu H locs hI ls hl
                                        refine lv_iload hxR hbR dX5_copy_225 (lv_at hl 6 rfl) ?_
                                        refine lv_iload hxR hbR dX5_copy_227 (lv_at hl 5 rfl) ?_
                                        refine lv_icmp_ge (tgt := 257) hxR hbR dX5_copy_229 (by decide) (fun c_229 => ?_) (fun c_229 => ?_)
                                        · skip
                                          have c_229 : nz ≤ k3 := (n_le (a := nz) (b := k3) (by omega) (by omega)).mp c_229
                                          have hk2 : k3 = nz := by omega
                                          refine lv_iload hxR hbR dX5_copy_257 (lv_at hl 5 rfl) ?_
                                          have hC : copyC (ia 0) (ia 1) (ia 2) (nI P) (nI Q) (nI ix) (nI jx) (nI nz) = 0 := by
                                            clear hret hI
                                            unfold copyC; simp only [nI_clamp (n := P) (by omega), nI_clamp (n := Q) (by omega), hzc, hzd]; rw [if_pos ⟨c_6, c_18⟩, if_neg hD, if_neg hZ]; exact if_neg (by omega)
                                          have hRf : Rx = va_up R Q (cpyL (R P) (R Q) ix jx nz) := by rw [← hk2, ← hr2]; exact (mk_up hr1).symm
                                          rw [hRf] at hI
                                          have eia9 : bumpR (ia 9) (copyC (ia 0) (ia 1) (ia 2) (nI P) (nI Q) (nI ix) (nI jx) (nI nz)) = ia 9 := by rw [hC]; exact bump_0 _
                                          have eR : gd (copyC (ia 0) (ia 1) (ia 2) (nI P) (nI Q) (nI ix) (nI jx) (nI nz)) (va_up R (nI Q).toNatClampNeg (cpyL (R (nI P).toNatClampNeg) (R (nI Q).toNatClampNeg) (nI ix).toNatClampNeg (nI jx).toNatClampNeg (nI nz).toNatClampNeg)) R = va_up R Q (cpyL (R P) (R Q) ix jx nz) := by rw [hC]; simp only [nI_clamp (n := P) (by omega), nI_clamp (n := Q) (by omega), nI_clamp (n := ix) (by omega), nI_clamp (n := jx) (by omega), nI_clamp (n := nz) (by omega)]; rfl
                                          have hI := wI_w (ws' := mW E ad kp tr iv (va_up ia 9 (bumpR (ia 9) (copyC (ia 0) (ia 1) (ia 2) (nI P) (nI Q) (nI ix) (nI jx) (nI nz)))) K (gd (copyC (ia 0) (ia 1) (ia 2) (nI P) (nI Q) (nI ix) (nI jx) (nI nz)) (va_up R (nI Q).toNatClampNeg (cpyL (R (nI P).toNatClampNeg) (R (nI Q).toNatClampNeg) (nI ix).toNatClampNeg (nI jx).toNatClampNeg (nI nz).toNatClampNeg)) R) m1) (by rw [eia9, eR, va_up_id (f := ia) (k := 9) (v := ia 9) rfl]; try rfl) hI
                                          exact hret m1 (nI nz) _ _ 0 0 _ _ dX5_copy_259 hI (by show (nI nz) = gd (copyC (ia 0) (ia 1) (ia 2) (nI P) (nI Q) (nI ix) (nI jx) (nI nz)) (nI nz) (copyC (ia 0) (ia 1) (ia 2) (nI P) (nI Q) (nI ix) (nI jx) (nI nz)); rw [hC]; first | rfl | (simp only [nI_clamp (n := P) (by omega), nI_clamp (n := Q) (by omega), nI_clamp (n := nz) (by omega), nI_clamp (n := ix) (by omega), nI_clamp (n := jx) (by omega)]; rfl) | (simp only [gd_0, nI_clamp (n := P) (by omega), nI_clamp (n := Q) (by omega), nI_clamp (n := nz) (by omega), nI_clamp (n := ix) (by omega), nI_clamp (n := jx) (by omega)]; split <;> first | rfl | contradiction)) (Nat.le_of_ble_eq_true rfl) (Nat.le_of_ble_eq_true rfl) rfl
                                        · skip
                                          have c_229 : k3 < nz := Nat.lt_of_not_le (fun zz => c_229 ((n_le (a := nz) (b := k3) (by omega) (by omega)).mpr zz))
                                          refine lv_aload_n hxR hbR dX5_copy_232 rfl (lv_at hl 0 rfl) ?_
                                          refine r_get hxR hbR hts hown hK hI okX5 (ci := 5) rfl 16 mW_o 3 (by decide) q1481 rfl (v := .ref (ad 3)) rfl dX5_copy_233 ?_
                                          refine lv_iload_n hxR hbR dX5_copy_236 rfl (lv_at hl 2 rfl) ?_
                                          refine r_aald hxR hbR hK hI 20 3 (r := ad (60 + Q)) rfl rfl (n := 8) (J := Q) rfl (by omega) (by decide) rfl dX5_copy_237 ?_
                                          refine lv_iload hxR hbR dX5_copy_238 (lv_at hl 4 rfl) ?_
                                          refine lv_iload hxR hbR dX5_copy_240 (lv_at hl 6 rfl) ?_
                                          refine lv_iadd hxR hbR dX5_copy_242 ?_
                                          refine lv_as (y := nI (jx + k3)) (nI_add jx k3) ?_
                                          refine lv_aload_n hxR hbR dX5_copy_243 rfl (lv_at hl 0 rfl) ?_
                                          refine r_get hxR hbR hts hown hK hI okX5 (ci := 5) rfl 16 mW_o 4 (by decide) q1482 rfl (v := .ref (ad 4)) rfl dX5_copy_244 ?_
                                          refine lv_iload hxR hbR dX5_copy_247 (lv_at hl 6 rfl) ?_
                                          refine r_lald hxR hbR hK hI 21 (n := 40) (J := k3) (f := m1) (v := m1 k3) rfl (by omega) (by decide) rfl dX5_copy_249 ?_
                                          refine r_last (ws1 := mW E ad kp tr iv ia K (va_up Rx Q (va_up (Rx Q) (jx + k3) (m1 k3))) m1) hxR hbR hK hI (8 + Q) (n := 40) (J := jx + k3) (f := Rx Q) (mW_R Q (by omega)) (by omega) (by decide) (mW_Rs Q (by omega)) dX5_copy_250 (fun H locs hI => ?_)
                                          refine lv_iinc (v := nI (k3 + 1)) (lv' := [(6, .int (nI (k3 + 1))), (0, .ref (ad 45)), (1, .int (nI P)), (2, .int (nI Q)), (3, .int (nI ix)), (4, .int (nI jx)), (5, .int (nI nz))]) hxR hbR dX5_copy_251 hl (k := 6) rfl (show nI k3 + 1 = nI (k3 + 1) from nI_add _ 1) (by decide) rfl (fun ls hl => ?_)
                                          refine lv_goto (tgt := 225) hxR hbR dX5_copy_254 (by decide) ?_
                                          exact ih_225 (k3 + 1) (va_up Rx Q (va_up (Rx Q) (jx + k3) (m1 k3))) (by first | omega | with_reducible assumption) (fun z hz => (va_up_n hz).trans (hr1 z hz)) (by rw [va_up_s, hr2]; exact cpy_s (fun z hz => hm1 z (by omega)) (by omega)) (by omega) _ _ hI _ (lv_sub hl [1, 2, 3, 4, 5, 6, 0] rfl)
                                    exact lp_225 _ 0 R (by first | omega | with_reducible assumption) (fun _ _ => rfl) (cpy_0 _ _ _ _).symm (Nat.lt_succ_self _) _ _ hI _ (lv_sub hl [1, 2, 3, 4, 5, 6, 0] rfl)
                                  · skip
                                    have c_195 : k1 < nz := Nat.lt_of_not_le (fun zz => c_195 ((n_le (a := nz) (b := k1) (by omega) (by omega)).mpr zz))
                                    refine lv_aload_n hxR hbR dX5_copy_198 rfl (lv_at hl 0 rfl) ?_
                                    refine r_get hxR hbR hts hown hK hI okX5 (ci := 5) rfl 16 mW_o 4 (by decide) q1482 rfl (v := .ref (ad 4)) rfl dX5_copy_199 ?_
                                    refine lv_iload hxR hbR dX5_copy_202 (lv_at hl 6 rfl) ?_
                                    refine lv_aload_n hxR hbR dX5_copy_204 rfl (lv_at hl 0 rfl) ?_
                                    refine r_get hxR hbR hts hown hK hI okX5 (ci := 5) rfl 16 mW_o 3 (by decide) q1481 rfl (v := .ref (ad 3)) rfl dX5_copy_205 ?_
                                    refine lv_iload_n hxR hbR dX5_copy_208 rfl (lv_at hl 1 rfl) ?_
                                    refine r_aald hxR hbR hK hI 20 3 (r := ad (60 + P)) rfl rfl (n := 8) (J := P) rfl (by omega) (by decide) rfl dX5_copy_209 ?_
                                    refine lv_iload_n hxR hbR dX5_copy_210 rfl (lv_at hl 3 rfl) ?_
                                    refine lv_iload hxR hbR dX5_copy_211 (lv_at hl 6 rfl) ?_
                                    refine lv_iadd hxR hbR dX5_copy_213 ?_
                                    refine lv_as (y := nI (ix + k1)) (nI_add ix k1) ?_
                                    refine r_lald hxR hbR hK hI (8 + P) (n := 40) (J := ix + k1) (f := R P) (v := (R P) (ix + k1)) (mW_R P (by omega)) (by omega) (by decide) rfl dX5_copy_214 ?_
                                    refine r_last (ws1 := mW E ad kp tr iv ia K R (va_up m1 k1 ((R P) (ix + k1)))) hxR hbR hK hI 21 (n := 40) (J := k1) (f := m1) rfl (by omega) (by decide) mW_mv dX5_copy_215 (fun H locs hI => ?_)
                                    refine lv_iinc (v := nI (k1 + 1)) (lv' := [(6, .int (nI (k1 + 1))), (0, .ref (ad 45)), (1, .int (nI P)), (2, .int (nI Q)), (3, .int (nI ix)), (4, .int (nI jx)), (5, .int (nI nz))]) hxR hbR dX5_copy_216 hl (k := 6) rfl (show nI k1 + 1 = nI (k1 + 1) from nI_add _ 1) (by decide) rfl (fun ls hl => ?_)
                                    refine lv_goto (tgt := 191) hxR hbR dX5_copy_219 (by decide) ?_
                                    exact ih_191 (k1 + 1) (va_up m1 k1 ((R P) (ix + k1))) (by first | omega | with_reducible assumption) (cp_put hm1) (by omega) _ _ hI _ (lv_sub hl [1, 2, 3, 4, 5, 6, 0] rfl)
                              exact lp_191 _ 0 mv (by first | omega | with_reducible assumption) (fun z h => absurd h (Nat.not_lt_zero _)) (Nat.lt_succ_self _) _ _ hI _ (lv_sub hl [1, 2, 3, 4, 5, 6, 0] rfl)
                            · skip
                              have c_178 : (y9 - nz) < jx := Nat.lt_of_not_le (fun zz => c_178 ((n_le (a := jx) (b := (y9 - nz)) (by omega) (by omega)).mpr zz))
                              refine lv_aload_n hxR hbR dX5_copy_181 rfl (lv_at hl 0 rfl) ?_
                              refine lv_bipush (v := (-2)) hxR hbR dX5_copy_182 (by decide) ?_
                              refine kVI (n := 1) (As := [.int (-2)]) (rest := []) (fun w => w) hxR hbR hmlR hts hown hK hA hl.1 isCtx.id hI (c5_refuse l E ad kp tr iv ia K R mv (-2) 2 (by decide) (by decide)) (lw_V q1624 q1626 qs34 q86 q1627) ⟨rfl, by decide +kernel⟩ 16 5 rfl rfl mW_o rfl (Nat.le_of_ble_eq_true rfl) (Nat.le_of_ble_eq_true rfl) ⟨Nat.le_of_ble_eq_true rfl, Nat.le_of_ble_eq_true rfl⟩ (Nat.le_of_ble_eq_true rfl) dX5_copy_184 (fun r_184 u H locs hp hI hz => ?_)
                              have hI : wI E AR sR H locs (mW E ad kp tr iv (va_up ia 9 (va_up (ia 9) 2 (ia 9 2 + 1))) K R mv) := hI
                              have hp : r_184 = (-2) := hp
                              have hr_184 := hp
                              subst hr_184
                              have hC : copyC (ia 0) (ia 1) (ia 2) (nI P) (nI Q) (nI ix) (nI jx) (nI nz) = (-2) := by
                                clear hret hI
                                unfold copyC; simp only [nI_clamp (n := P) (by omega), nI_clamp (n := Q) (by omega), hzc, hzd]; rw [if_pos ⟨c_6, c_18⟩, if_neg hD, if_neg hZ]; exact if_pos (by omega)
                              have eia9 : bumpR (ia 9) (copyC (ia 0) (ia 1) (ia 2) (nI P) (nI Q) (nI ix) (nI jx) (nI nz)) = va_up (ia 9) 2 (ia 9 2 + 1) := by rw [hC]; exact bump_2 _
                              have eR : gd (copyC (ia 0) (ia 1) (ia 2) (nI P) (nI Q) (nI ix) (nI jx) (nI nz)) (va_up R (nI Q).toNatClampNeg (cpyL (R (nI P).toNatClampNeg) (R (nI Q).toNatClampNeg) (nI ix).toNatClampNeg (nI jx).toNatClampNeg (nI nz).toNatClampNeg)) R = R := by rw [hC]; first | rfl | (simp only [nI_clamp (n := P) (by omega), nI_clamp (n := Q) (by omega), nI_clamp (n := nz) (by omega), nI_clamp (n := ix) (by omega), nI_clamp (n := jx) (by omega)]; rfl) | (simp only [gd_0, nI_clamp (n := P) (by omega), nI_clamp (n := Q) (by omega), nI_clamp (n := nz) (by omega), nI_clamp (n := ix) (by omega), nI_clamp (n := jx) (by omega)]; split <;> first | rfl | contradiction)
                              have hI := wI_w (ws' := mW E ad kp tr iv (va_up ia 9 (bumpR (ia 9) (copyC (ia 0) (ia 1) (ia 2) (nI P) (nI Q) (nI ix) (nI jx) (nI nz)))) K (gd (copyC (ia 0) (ia 1) (ia 2) (nI P) (nI Q) (nI ix) (nI jx) (nI nz)) (va_up R (nI Q).toNatClampNeg (cpyL (R (nI P).toNatClampNeg) (R (nI Q).toNatClampNeg) (nI ix).toNatClampNeg (nI jx).toNatClampNeg (nI nz).toNatClampNeg)) R) mv) (by rw [eia9, eR]; try rfl) hI
                              exact hret mv (-2) _ _ 0 0 _ _ dX5_copy_187 hI (by show (-2) = gd (copyC (ia 0) (ia 1) (ia 2) (nI P) (nI Q) (nI ix) (nI jx) (nI nz)) (nI nz) (copyC (ia 0) (ia 1) (ia 2) (nI P) (nI Q) (nI ix) (nI jx) (nI nz)); rw [hC]; first | rfl | (simp only [nI_clamp (n := P) (by omega), nI_clamp (n := Q) (by omega), nI_clamp (n := nz) (by omega), nI_clamp (n := ix) (by omega), nI_clamp (n := jx) (by omega)]; rfl) | (simp only [gd_0, nI_clamp (n := P) (by omega), nI_clamp (n := Q) (by omega), nI_clamp (n := nz) (by omega), nI_clamp (n := ix) (by omega), nI_clamp (n := jx) (by omega)]; split <;> first | rfl | contradiction)) (Nat.le_of_ble_eq_true rfl) (Nat.le_of_ble_eq_true rfl) rfl
              · skip
                have i_108 : ((ia 0) Q).toInt = 0 := by have zz := i_eq.mp c_108; exact zz
                have hZ : ia 0 P = 0 ∨ ia 0 Q = 0 := by first | exact Or.inl c_99 | exact Or.inr c_108
                refine lv_aload_n hxR hbR dX5_copy_111 rfl (lv_at hl 0 rfl) ?_
                refine lv_bipush (v := (-4)) hxR hbR dX5_copy_112 (by decide) ?_
                refine kVI (n := 1) (As := [.int (-4)]) (rest := []) (fun w => w) hxR hbR hmlR hts hown hK hA hl.1 isCtx.id hI (c5_refuse l E ad kp tr iv ia K R mv (-4) 4 (by decide) (by decide)) (lw_V q1624 q1626 qs34 q86 q1627) ⟨rfl, by decide +kernel⟩ 16 5 rfl rfl mW_o rfl (Nat.le_of_ble_eq_true rfl) (Nat.le_of_ble_eq_true rfl) ⟨Nat.le_of_ble_eq_true rfl, Nat.le_of_ble_eq_true rfl⟩ (Nat.le_of_ble_eq_true rfl) dX5_copy_114 (fun r_114 u H locs hp hI hz => ?_)
                have hI : wI E AR sR H locs (mW E ad kp tr iv (va_up ia 9 (va_up (ia 9) 4 (ia 9 4 + 1))) K R mv) := hI
                have hp : r_114 = (-4) := hp
                have hr_114 := hp
                subst hr_114
                have hC : copyC (ia 0) (ia 1) (ia 2) (nI P) (nI Q) i j k = (-4) := by
                  clear hret hI
                  unfold copyC; simp only [nI_clamp (n := P) (by omega), nI_clamp (n := Q) (by omega), hzc, hzd]; rw [if_pos ⟨c_6, c_18⟩, if_neg hD]; exact if_pos hZ
                have eia9 : bumpR (ia 9) (copyC (ia 0) (ia 1) (ia 2) (nI P) (nI Q) i j k) = va_up (ia 9) 4 (ia 9 4 + 1) := by rw [hC]; exact bump_4 _
                have eR : gd (copyC (ia 0) (ia 1) (ia 2) (nI P) (nI Q) i j k) (va_up R (nI Q).toNatClampNeg (cpyL (R (nI P).toNatClampNeg) (R (nI Q).toNatClampNeg) i.toNatClampNeg j.toNatClampNeg k.toNatClampNeg)) R = R := by rw [hC]; first | rfl | (simp only [nI_clamp (n := P) (by omega), nI_clamp (n := Q) (by omega)]; rfl) | (simp only [gd_0, nI_clamp (n := P) (by omega), nI_clamp (n := Q) (by omega)]; split <;> first | rfl | contradiction)
                have hI := wI_w (ws' := mW E ad kp tr iv (va_up ia 9 (bumpR (ia 9) (copyC (ia 0) (ia 1) (ia 2) (nI P) (nI Q) i j k))) K (gd (copyC (ia 0) (ia 1) (ia 2) (nI P) (nI Q) i j k) (va_up R (nI Q).toNatClampNeg (cpyL (R (nI P).toNatClampNeg) (R (nI Q).toNatClampNeg) i.toNatClampNeg j.toNatClampNeg k.toNatClampNeg)) R) mv) (by rw [eia9, eR]; try rfl) hI
                exact hret mv (-4) _ _ 0 0 _ _ dX5_copy_117 hI (by show (-4) = gd (copyC (ia 0) (ia 1) (ia 2) (nI P) (nI Q) i j k) k (copyC (ia 0) (ia 1) (ia 2) (nI P) (nI Q) i j k); rw [hC]; first | rfl | (simp only [nI_clamp (n := P) (by omega), nI_clamp (n := Q) (by omega)]; rfl) | (simp only [gd_0, nI_clamp (n := P) (by omega), nI_clamp (n := Q) (by omega)]; split <;> first | rfl | contradiction)) (Nat.le_of_ble_eq_true rfl) (Nat.le_of_ble_eq_true rfl) rfl
          · skip
            have i_58 : ((ia 0) P).toInt = 1 := by have zz := i_eq.mp c_58; exact zz
            refine lv_aload_n hxR hbR dX5_copy_61 rfl (lv_at hl 0 rfl) ?_
            refine r_get hxR hbR hts hown hK hI okX5 (ci := 5) rfl 16 mW_o 0 (by decide) q1478 rfl (v := .ref (ad 0)) rfl dX5_copy_62 ?_
            refine lv_iload_n hxR hbR dX5_copy_65 rfl (lv_at hl 2 rfl) ?_
            refine r_iald hxR hbR hK hI 17 (n := 8) (J := Q) (f := ia 0) (v := (ia 0) Q) (mW_g0 rfl) (by omega) (by decide) rfl dX5_copy_66 ?_
            refine lv_iconst (v := 1) hxR hbR dX5_copy_67 (by decide) ?_
            refine lv_icmp_ne (tgt := 93) hxR hbR dX5_copy_68 (by decide) (fun c_68 => ?_) (fun c_68 => ?_)
            · skip
              have i_68 : ¬ (((ia 0) Q).toInt = 1) := by have zz := mt i_eq.mpr c_68; exact zz
              have hD : ¬ (ia 0 P = 2 ∨ ia 0 Q = 2 ∨ (ia 0 P = 1 ∧ ia 0 Q = 1 ∧ ¬ ia 1 P = ia 1 Q)) := fun z => z.elim c_38 (fun z => z.elim c_48 (fun z => by first | exact c_58 z.1 | exact c_68 z.2.1 | exact z.2.2 c_83))
              refine lv_aload_n hxR hbR dX5_copy_93 rfl (lv_at hl 0 rfl) ?_
              refine r_get hxR hbR hts hown hK hI okX5 (ci := 5) rfl 16 mW_o 0 (by decide) q1478 rfl (v := .ref (ad 0)) rfl dX5_copy_94 ?_
              refine lv_iload_n hxR hbR dX5_copy_97 rfl (lv_at hl 1 rfl) ?_
              refine r_iald hxR hbR hK hI 17 (n := 8) (J := P) (f := ia 0) (v := (ia 0) P) (mW_g0 rfl) (by omega) (by decide) rfl dX5_copy_98 ?_
              refine lv_if_eq (tgt := 111) hxR hbR dX5_copy_99 (by decide) (fun c_99 => ?_) (fun c_99 => ?_)
              · skip
                have i_99 : ((ia 0) P).toInt = 0 := by have zz := i_eq.mp c_99; exact zz
                have hZ : ia 0 P = 0 ∨ ia 0 Q = 0 := by first | exact Or.inl c_99 | exact Or.inr c_108
                refine lv_aload_n hxR hbR dX5_copy_111 rfl (lv_at hl 0 rfl) ?_
                refine lv_bipush (v := (-4)) hxR hbR dX5_copy_112 (by decide) ?_
                refine kVI (n := 1) (As := [.int (-4)]) (rest := []) (fun w => w) hxR hbR hmlR hts hown hK hA hl.1 isCtx.id hI (c5_refuse l E ad kp tr iv ia K R mv (-4) 4 (by decide) (by decide)) (lw_V q1624 q1626 qs34 q86 q1627) ⟨rfl, by decide +kernel⟩ 16 5 rfl rfl mW_o rfl (Nat.le_of_ble_eq_true rfl) (Nat.le_of_ble_eq_true rfl) ⟨Nat.le_of_ble_eq_true rfl, Nat.le_of_ble_eq_true rfl⟩ (Nat.le_of_ble_eq_true rfl) dX5_copy_114 (fun r_114 u H locs hp hI hz => ?_)
                have hI : wI E AR sR H locs (mW E ad kp tr iv (va_up ia 9 (va_up (ia 9) 4 (ia 9 4 + 1))) K R mv) := hI
                have hp : r_114 = (-4) := hp
                have hr_114 := hp
                subst hr_114
                have hC : copyC (ia 0) (ia 1) (ia 2) (nI P) (nI Q) i j k = (-4) := by
                  clear hret hI
                  unfold copyC; simp only [nI_clamp (n := P) (by omega), nI_clamp (n := Q) (by omega), hzc, hzd]; rw [if_pos ⟨c_6, c_18⟩, if_neg hD]; exact if_pos hZ
                have eia9 : bumpR (ia 9) (copyC (ia 0) (ia 1) (ia 2) (nI P) (nI Q) i j k) = va_up (ia 9) 4 (ia 9 4 + 1) := by rw [hC]; exact bump_4 _
                have eR : gd (copyC (ia 0) (ia 1) (ia 2) (nI P) (nI Q) i j k) (va_up R (nI Q).toNatClampNeg (cpyL (R (nI P).toNatClampNeg) (R (nI Q).toNatClampNeg) i.toNatClampNeg j.toNatClampNeg k.toNatClampNeg)) R = R := by rw [hC]; first | rfl | (simp only [nI_clamp (n := P) (by omega), nI_clamp (n := Q) (by omega)]; rfl) | (simp only [gd_0, nI_clamp (n := P) (by omega), nI_clamp (n := Q) (by omega)]; split <;> first | rfl | contradiction)
                have hI := wI_w (ws' := mW E ad kp tr iv (va_up ia 9 (bumpR (ia 9) (copyC (ia 0) (ia 1) (ia 2) (nI P) (nI Q) i j k))) K (gd (copyC (ia 0) (ia 1) (ia 2) (nI P) (nI Q) i j k) (va_up R (nI Q).toNatClampNeg (cpyL (R (nI P).toNatClampNeg) (R (nI Q).toNatClampNeg) i.toNatClampNeg j.toNatClampNeg k.toNatClampNeg)) R) mv) (by rw [eia9, eR]; try rfl) hI
                exact hret mv (-4) _ _ 0 0 _ _ dX5_copy_117 hI (by show (-4) = gd (copyC (ia 0) (ia 1) (ia 2) (nI P) (nI Q) i j k) k (copyC (ia 0) (ia 1) (ia 2) (nI P) (nI Q) i j k); rw [hC]; first | rfl | (simp only [nI_clamp (n := P) (by omega), nI_clamp (n := Q) (by omega)]; rfl) | (simp only [gd_0, nI_clamp (n := P) (by omega), nI_clamp (n := Q) (by omega)]; split <;> first | rfl | contradiction)) (Nat.le_of_ble_eq_true rfl) (Nat.le_of_ble_eq_true rfl) rfl
              · skip
                have i_99 : ¬ (((ia 0) P).toInt = 0) := by have zz := mt i_eq.mpr c_99; exact zz
                refine lv_aload_n hxR hbR dX5_copy_102 rfl (lv_at hl 0 rfl) ?_
                refine r_get hxR hbR hts hown hK hI okX5 (ci := 5) rfl 16 mW_o 0 (by decide) q1478 rfl (v := .ref (ad 0)) rfl dX5_copy_103 ?_
                refine lv_iload_n hxR hbR dX5_copy_106 rfl (lv_at hl 2 rfl) ?_
                refine r_iald hxR hbR hK hI 17 (n := 8) (J := Q) (f := ia 0) (v := (ia 0) Q) (mW_g0 rfl) (by omega) (by decide) rfl dX5_copy_107 ?_
                refine lv_if_ne (tgt := 118) hxR hbR dX5_copy_108 (by decide) (fun c_108 => ?_) (fun c_108 => ?_)
                · skip
                  have i_108 : ¬ (((ia 0) Q).toInt = 0) := by have zz := mt i_eq.mpr c_108; exact zz
                  have hZ : ¬ (ia 0 P = 0 ∨ ia 0 Q = 0) := fun z => z.elim c_99 c_108
                  refine lv_iload hxR hbR dX5_copy_118 (lv_at hl 5 rfl) ?_
                  refine lv_if_lt (tgt := 181) hxR hbR dX5_copy_120 (by decide) (fun c_120 => ?_) (fun c_120 => ?_)
                  · skip
                    have i_120 : k.toInt < 0 := by have zz := i_lt.mp c_120; exact zz
                    refine lv_aload_n hxR hbR dX5_copy_181 rfl (lv_at hl 0 rfl) ?_
                    refine lv_bipush (v := (-2)) hxR hbR dX5_copy_182 (by decide) ?_
                    refine kVI (n := 1) (As := [.int (-2)]) (rest := []) (fun w => w) hxR hbR hmlR hts hown hK hA hl.1 isCtx.id hI (c5_refuse l E ad kp tr iv ia K R mv (-2) 2 (by decide) (by decide)) (lw_V q1624 q1626 qs34 q86 q1627) ⟨rfl, by decide +kernel⟩ 16 5 rfl rfl mW_o rfl (Nat.le_of_ble_eq_true rfl) (Nat.le_of_ble_eq_true rfl) ⟨Nat.le_of_ble_eq_true rfl, Nat.le_of_ble_eq_true rfl⟩ (Nat.le_of_ble_eq_true rfl) dX5_copy_184 (fun r_184 u H locs hp hI hz => ?_)
                    have hI : wI E AR sR H locs (mW E ad kp tr iv (va_up ia 9 (va_up (ia 9) 2 (ia 9 2 + 1))) K R mv) := hI
                    have hp : r_184 = (-2) := hp
                    have hr_184 := hp
                    subst hr_184
                    have hC : copyC (ia 0) (ia 1) (ia 2) (nI P) (nI Q) i j k = (-2) := by
                      clear hret hI
                      unfold copyC; simp only [nI_clamp (n := P) (by omega), nI_clamp (n := Q) (by omega), hzc, hzd]; rw [if_pos ⟨c_6, c_18⟩, if_neg hD, if_neg hZ]; exact if_pos (by omega)
                    have eia9 : bumpR (ia 9) (copyC (ia 0) (ia 1) (ia 2) (nI P) (nI Q) i j k) = va_up (ia 9) 2 (ia 9 2 + 1) := by rw [hC]; exact bump_2 _
                    have eR : gd (copyC (ia 0) (ia 1) (ia 2) (nI P) (nI Q) i j k) (va_up R (nI Q).toNatClampNeg (cpyL (R (nI P).toNatClampNeg) (R (nI Q).toNatClampNeg) i.toNatClampNeg j.toNatClampNeg k.toNatClampNeg)) R = R := by rw [hC]; first | rfl | (simp only [nI_clamp (n := P) (by omega), nI_clamp (n := Q) (by omega)]; rfl) | (simp only [gd_0, nI_clamp (n := P) (by omega), nI_clamp (n := Q) (by omega)]; split <;> first | rfl | contradiction)
                    have hI := wI_w (ws' := mW E ad kp tr iv (va_up ia 9 (bumpR (ia 9) (copyC (ia 0) (ia 1) (ia 2) (nI P) (nI Q) i j k))) K (gd (copyC (ia 0) (ia 1) (ia 2) (nI P) (nI Q) i j k) (va_up R (nI Q).toNatClampNeg (cpyL (R (nI P).toNatClampNeg) (R (nI Q).toNatClampNeg) i.toNatClampNeg j.toNatClampNeg k.toNatClampNeg)) R) mv) (by rw [eia9, eR]; try rfl) hI
                    exact hret mv (-2) _ _ 0 0 _ _ dX5_copy_187 hI (by show (-2) = gd (copyC (ia 0) (ia 1) (ia 2) (nI P) (nI Q) i j k) k (copyC (ia 0) (ia 1) (ia 2) (nI P) (nI Q) i j k); rw [hC]; first | rfl | (simp only [nI_clamp (n := P) (by omega), nI_clamp (n := Q) (by omega)]; rfl) | (simp only [gd_0, nI_clamp (n := P) (by omega), nI_clamp (n := Q) (by omega)]; split <;> first | rfl | contradiction)) (Nat.le_of_ble_eq_true rfl) (Nat.le_of_ble_eq_true rfl) rfl
                  · skip
                    have i_120 : ¬ (k.toInt < 0) := by have zz := mt i_lt.mpr c_120; exact zz
                    obtain ⟨nz, hnz, rfl⟩ := nat_nn (x := k) (by omega)
                    have tnz : (nI nz).toInt = (nz : Int) := nI_toInt (by omega)
                    refine lv_iload_n hxR hbR dX5_copy_123 rfl (lv_at hl 3 rfl) ?_
                    refine lv_if_lt (tgt := 181) hxR hbR dX5_copy_124 (by decide) (fun c_124 => ?_) (fun c_124 => ?_)
                    · skip
                      have i_124 : i.toInt < 0 := by have zz := i_lt.mp c_124; exact zz
                      refine lv_aload_n hxR hbR dX5_copy_181 rfl (lv_at hl 0 rfl) ?_
                      refine lv_bipush (v := (-2)) hxR hbR dX5_copy_182 (by decide) ?_
                      refine kVI (n := 1) (As := [.int (-2)]) (rest := []) (fun w => w) hxR hbR hmlR hts hown hK hA hl.1 isCtx.id hI (c5_refuse l E ad kp tr iv ia K R mv (-2) 2 (by decide) (by decide)) (lw_V q1624 q1626 qs34 q86 q1627) ⟨rfl, by decide +kernel⟩ 16 5 rfl rfl mW_o rfl (Nat.le_of_ble_eq_true rfl) (Nat.le_of_ble_eq_true rfl) ⟨Nat.le_of_ble_eq_true rfl, Nat.le_of_ble_eq_true rfl⟩ (Nat.le_of_ble_eq_true rfl) dX5_copy_184 (fun r_184 u H locs hp hI hz => ?_)
                      have hI : wI E AR sR H locs (mW E ad kp tr iv (va_up ia 9 (va_up (ia 9) 2 (ia 9 2 + 1))) K R mv) := hI
                      have hp : r_184 = (-2) := hp
                      have hr_184 := hp
                      subst hr_184
                      have hC : copyC (ia 0) (ia 1) (ia 2) (nI P) (nI Q) i j (nI nz) = (-2) := by
                        clear hret hI
                        unfold copyC; simp only [nI_clamp (n := P) (by omega), nI_clamp (n := Q) (by omega), hzc, hzd]; rw [if_pos ⟨c_6, c_18⟩, if_neg hD, if_neg hZ]; exact if_pos (by omega)
                      have eia9 : bumpR (ia 9) (copyC (ia 0) (ia 1) (ia 2) (nI P) (nI Q) i j (nI nz)) = va_up (ia 9) 2 (ia 9 2 + 1) := by rw [hC]; exact bump_2 _
                      have eR : gd (copyC (ia 0) (ia 1) (ia 2) (nI P) (nI Q) i j (nI nz)) (va_up R (nI Q).toNatClampNeg (cpyL (R (nI P).toNatClampNeg) (R (nI Q).toNatClampNeg) i.toNatClampNeg j.toNatClampNeg (nI nz).toNatClampNeg)) R = R := by rw [hC]; first | rfl | (simp only [nI_clamp (n := P) (by omega), nI_clamp (n := Q) (by omega), nI_clamp (n := nz) (by omega)]; rfl) | (simp only [gd_0, nI_clamp (n := P) (by omega), nI_clamp (n := Q) (by omega), nI_clamp (n := nz) (by omega)]; split <;> first | rfl | contradiction)
                      have hI := wI_w (ws' := mW E ad kp tr iv (va_up ia 9 (bumpR (ia 9) (copyC (ia 0) (ia 1) (ia 2) (nI P) (nI Q) i j (nI nz)))) K (gd (copyC (ia 0) (ia 1) (ia 2) (nI P) (nI Q) i j (nI nz)) (va_up R (nI Q).toNatClampNeg (cpyL (R (nI P).toNatClampNeg) (R (nI Q).toNatClampNeg) i.toNatClampNeg j.toNatClampNeg (nI nz).toNatClampNeg)) R) mv) (by rw [eia9, eR]; try rfl) hI
                      exact hret mv (-2) _ _ 0 0 _ _ dX5_copy_187 hI (by show (-2) = gd (copyC (ia 0) (ia 1) (ia 2) (nI P) (nI Q) i j (nI nz)) (nI nz) (copyC (ia 0) (ia 1) (ia 2) (nI P) (nI Q) i j (nI nz)); rw [hC]; first | rfl | (simp only [nI_clamp (n := P) (by omega), nI_clamp (n := Q) (by omega), nI_clamp (n := nz) (by omega)]; rfl) | (simp only [gd_0, nI_clamp (n := P) (by omega), nI_clamp (n := Q) (by omega), nI_clamp (n := nz) (by omega)]; split <;> first | rfl | contradiction)) (Nat.le_of_ble_eq_true rfl) (Nat.le_of_ble_eq_true rfl) rfl
                    · skip
                      have i_124 : ¬ (i.toInt < 0) := by have zz := mt i_lt.mpr c_124; exact zz
                      obtain ⟨ix, hix, rfl⟩ := nat_nn (x := i) (by omega)
                      have tix : (nI ix).toInt = (ix : Int) := nI_toInt (by omega)
                      refine lv_iload hxR hbR dX5_copy_127 (lv_at hl 4 rfl) ?_
                      refine lv_if_lt (tgt := 181) hxR hbR dX5_copy_129 (by decide) (fun c_129 => ?_) (fun c_129 => ?_)
                      · skip
                        have i_129 : j.toInt < 0 := by have zz := i_lt.mp c_129; exact zz
                        refine lv_aload_n hxR hbR dX5_copy_181 rfl (lv_at hl 0 rfl) ?_
                        refine lv_bipush (v := (-2)) hxR hbR dX5_copy_182 (by decide) ?_
                        refine kVI (n := 1) (As := [.int (-2)]) (rest := []) (fun w => w) hxR hbR hmlR hts hown hK hA hl.1 isCtx.id hI (c5_refuse l E ad kp tr iv ia K R mv (-2) 2 (by decide) (by decide)) (lw_V q1624 q1626 qs34 q86 q1627) ⟨rfl, by decide +kernel⟩ 16 5 rfl rfl mW_o rfl (Nat.le_of_ble_eq_true rfl) (Nat.le_of_ble_eq_true rfl) ⟨Nat.le_of_ble_eq_true rfl, Nat.le_of_ble_eq_true rfl⟩ (Nat.le_of_ble_eq_true rfl) dX5_copy_184 (fun r_184 u H locs hp hI hz => ?_)
                        have hI : wI E AR sR H locs (mW E ad kp tr iv (va_up ia 9 (va_up (ia 9) 2 (ia 9 2 + 1))) K R mv) := hI
                        have hp : r_184 = (-2) := hp
                        have hr_184 := hp
                        subst hr_184
                        have hC : copyC (ia 0) (ia 1) (ia 2) (nI P) (nI Q) (nI ix) j (nI nz) = (-2) := by
                          clear hret hI
                          unfold copyC; simp only [nI_clamp (n := P) (by omega), nI_clamp (n := Q) (by omega), hzc, hzd]; rw [if_pos ⟨c_6, c_18⟩, if_neg hD, if_neg hZ]; exact if_pos (by omega)
                        have eia9 : bumpR (ia 9) (copyC (ia 0) (ia 1) (ia 2) (nI P) (nI Q) (nI ix) j (nI nz)) = va_up (ia 9) 2 (ia 9 2 + 1) := by rw [hC]; exact bump_2 _
                        have eR : gd (copyC (ia 0) (ia 1) (ia 2) (nI P) (nI Q) (nI ix) j (nI nz)) (va_up R (nI Q).toNatClampNeg (cpyL (R (nI P).toNatClampNeg) (R (nI Q).toNatClampNeg) (nI ix).toNatClampNeg j.toNatClampNeg (nI nz).toNatClampNeg)) R = R := by rw [hC]; first | rfl | (simp only [nI_clamp (n := P) (by omega), nI_clamp (n := Q) (by omega), nI_clamp (n := nz) (by omega), nI_clamp (n := ix) (by omega)]; rfl) | (simp only [gd_0, nI_clamp (n := P) (by omega), nI_clamp (n := Q) (by omega), nI_clamp (n := nz) (by omega), nI_clamp (n := ix) (by omega)]; split <;> first | rfl | contradiction)
                        have hI := wI_w (ws' := mW E ad kp tr iv (va_up ia 9 (bumpR (ia 9) (copyC (ia 0) (ia 1) (ia 2) (nI P) (nI Q) (nI ix) j (nI nz)))) K (gd (copyC (ia 0) (ia 1) (ia 2) (nI P) (nI Q) (nI ix) j (nI nz)) (va_up R (nI Q).toNatClampNeg (cpyL (R (nI P).toNatClampNeg) (R (nI Q).toNatClampNeg) (nI ix).toNatClampNeg j.toNatClampNeg (nI nz).toNatClampNeg)) R) mv) (by rw [eia9, eR]; try rfl) hI
                        exact hret mv (-2) _ _ 0 0 _ _ dX5_copy_187 hI (by show (-2) = gd (copyC (ia 0) (ia 1) (ia 2) (nI P) (nI Q) (nI ix) j (nI nz)) (nI nz) (copyC (ia 0) (ia 1) (ia 2) (nI P) (nI Q) (nI ix) j (nI nz)); rw [hC]; first | rfl | (simp only [nI_clamp (n := P) (by omega), nI_clamp (n := Q) (by omega), nI_clamp (n := nz) (by omega), nI_clamp (n := ix) (by omega)]; rfl) | (simp only [gd_0, nI_clamp (n := P) (by omega), nI_clamp (n := Q) (by omega), nI_clamp (n := nz) (by omega), nI_clamp (n := ix) (by omega)]; split <;> first | rfl | contradiction)) (Nat.le_of_ble_eq_true rfl) (Nat.le_of_ble_eq_true rfl) rfl
                      · skip
                        have i_129 : ¬ (j.toInt < 0) := by have zz := mt i_lt.mpr c_129; exact zz
                        obtain ⟨jx, hjx, rfl⟩ := nat_nn (x := j) (by omega)
                        have tjx : (nI jx).toInt = (jx : Int) := nI_toInt (by omega)
                        refine lv_iload hxR hbR dX5_copy_132 (lv_at hl 5 rfl) ?_
                        refine lv_aload_n hxR hbR dX5_copy_134 rfl (lv_at hl 0 rfl) ?_
                        refine r_get hxR hbR hts hown hK hI okX5 (ci := 5) rfl 16 mW_o 2 (by decide) q1480 rfl (v := .ref (ad 2)) rfl dX5_copy_135 ?_
                        refine lv_iload_n hxR hbR dX5_copy_138 rfl (lv_at hl 1 rfl) ?_
                        refine r_iald hxR hbR hK hI 19 (n := 8) (J := P) (f := ia 2) (v := nI z9) (mW_g2 rfl) (by omega) (by decide) hz8 dX5_copy_139 ?_
                        refine lv_icmp_gt (tgt := 181) hxR hbR dX5_copy_140 (by decide) (fun c_140 => ?_) (fun c_140 => ?_)
                        · skip
                          have c_140 : z9 < nz := (n_lt (a := z9) (b := nz) (by omega) (by omega)).mp c_140
                          refine lv_aload_n hxR hbR dX5_copy_181 rfl (lv_at hl 0 rfl) ?_
                          refine lv_bipush (v := (-2)) hxR hbR dX5_copy_182 (by decide) ?_
                          refine kVI (n := 1) (As := [.int (-2)]) (rest := []) (fun w => w) hxR hbR hmlR hts hown hK hA hl.1 isCtx.id hI (c5_refuse l E ad kp tr iv ia K R mv (-2) 2 (by decide) (by decide)) (lw_V q1624 q1626 qs34 q86 q1627) ⟨rfl, by decide +kernel⟩ 16 5 rfl rfl mW_o rfl (Nat.le_of_ble_eq_true rfl) (Nat.le_of_ble_eq_true rfl) ⟨Nat.le_of_ble_eq_true rfl, Nat.le_of_ble_eq_true rfl⟩ (Nat.le_of_ble_eq_true rfl) dX5_copy_184 (fun r_184 u H locs hp hI hz => ?_)
                          have hI : wI E AR sR H locs (mW E ad kp tr iv (va_up ia 9 (va_up (ia 9) 2 (ia 9 2 + 1))) K R mv) := hI
                          have hp : r_184 = (-2) := hp
                          have hr_184 := hp
                          subst hr_184
                          have hC : copyC (ia 0) (ia 1) (ia 2) (nI P) (nI Q) (nI ix) (nI jx) (nI nz) = (-2) := by
                            clear hret hI
                            unfold copyC; simp only [nI_clamp (n := P) (by omega), nI_clamp (n := Q) (by omega), hzc, hzd]; rw [if_pos ⟨c_6, c_18⟩, if_neg hD, if_neg hZ]; exact if_pos (by omega)
                          have eia9 : bumpR (ia 9) (copyC (ia 0) (ia 1) (ia 2) (nI P) (nI Q) (nI ix) (nI jx) (nI nz)) = va_up (ia 9) 2 (ia 9 2 + 1) := by rw [hC]; exact bump_2 _
                          have eR : gd (copyC (ia 0) (ia 1) (ia 2) (nI P) (nI Q) (nI ix) (nI jx) (nI nz)) (va_up R (nI Q).toNatClampNeg (cpyL (R (nI P).toNatClampNeg) (R (nI Q).toNatClampNeg) (nI ix).toNatClampNeg (nI jx).toNatClampNeg (nI nz).toNatClampNeg)) R = R := by rw [hC]; first | rfl | (simp only [nI_clamp (n := P) (by omega), nI_clamp (n := Q) (by omega), nI_clamp (n := nz) (by omega), nI_clamp (n := ix) (by omega), nI_clamp (n := jx) (by omega)]; rfl) | (simp only [gd_0, nI_clamp (n := P) (by omega), nI_clamp (n := Q) (by omega), nI_clamp (n := nz) (by omega), nI_clamp (n := ix) (by omega), nI_clamp (n := jx) (by omega)]; split <;> first | rfl | contradiction)
                          have hI := wI_w (ws' := mW E ad kp tr iv (va_up ia 9 (bumpR (ia 9) (copyC (ia 0) (ia 1) (ia 2) (nI P) (nI Q) (nI ix) (nI jx) (nI nz)))) K (gd (copyC (ia 0) (ia 1) (ia 2) (nI P) (nI Q) (nI ix) (nI jx) (nI nz)) (va_up R (nI Q).toNatClampNeg (cpyL (R (nI P).toNatClampNeg) (R (nI Q).toNatClampNeg) (nI ix).toNatClampNeg (nI jx).toNatClampNeg (nI nz).toNatClampNeg)) R) mv) (by rw [eia9, eR]; try rfl) hI
                          exact hret mv (-2) _ _ 0 0 _ _ dX5_copy_187 hI (by show (-2) = gd (copyC (ia 0) (ia 1) (ia 2) (nI P) (nI Q) (nI ix) (nI jx) (nI nz)) (nI nz) (copyC (ia 0) (ia 1) (ia 2) (nI P) (nI Q) (nI ix) (nI jx) (nI nz)); rw [hC]; first | rfl | (simp only [nI_clamp (n := P) (by omega), nI_clamp (n := Q) (by omega), nI_clamp (n := nz) (by omega), nI_clamp (n := ix) (by omega), nI_clamp (n := jx) (by omega)]; rfl) | (simp only [gd_0, nI_clamp (n := P) (by omega), nI_clamp (n := Q) (by omega), nI_clamp (n := nz) (by omega), nI_clamp (n := ix) (by omega), nI_clamp (n := jx) (by omega)]; split <;> first | rfl | contradiction)) (Nat.le_of_ble_eq_true rfl) (Nat.le_of_ble_eq_true rfl) rfl
                        · skip
                          have c_140 : nz ≤ z9 := Nat.le_of_not_lt (fun zz => c_140 ((n_lt (a := z9) (b := nz) (by omega) (by omega)).mpr zz))
                          refine lv_iload hxR hbR dX5_copy_143 (lv_at hl 5 rfl) ?_
                          refine lv_aload_n hxR hbR dX5_copy_145 rfl (lv_at hl 0 rfl) ?_
                          refine r_get hxR hbR hts hown hK hI okX5 (ci := 5) rfl 16 mW_o 2 (by decide) q1480 rfl (v := .ref (ad 2)) rfl dX5_copy_146 ?_
                          refine lv_iload_n hxR hbR dX5_copy_149 rfl (lv_at hl 2 rfl) ?_
                          refine r_iald hxR hbR hK hI 19 (n := 8) (J := Q) (f := ia 2) (v := nI y9) (mW_g2 rfl) (by omega) (by decide) hy8 dX5_copy_150 ?_
                          refine lv_icmp_gt (tgt := 181) hxR hbR dX5_copy_151 (by decide) (fun c_151 => ?_) (fun c_151 => ?_)
                          · skip
                            have c_151 : y9 < nz := (n_lt (a := y9) (b := nz) (by omega) (by omega)).mp c_151
                            refine lv_aload_n hxR hbR dX5_copy_181 rfl (lv_at hl 0 rfl) ?_
                            refine lv_bipush (v := (-2)) hxR hbR dX5_copy_182 (by decide) ?_
                            refine kVI (n := 1) (As := [.int (-2)]) (rest := []) (fun w => w) hxR hbR hmlR hts hown hK hA hl.1 isCtx.id hI (c5_refuse l E ad kp tr iv ia K R mv (-2) 2 (by decide) (by decide)) (lw_V q1624 q1626 qs34 q86 q1627) ⟨rfl, by decide +kernel⟩ 16 5 rfl rfl mW_o rfl (Nat.le_of_ble_eq_true rfl) (Nat.le_of_ble_eq_true rfl) ⟨Nat.le_of_ble_eq_true rfl, Nat.le_of_ble_eq_true rfl⟩ (Nat.le_of_ble_eq_true rfl) dX5_copy_184 (fun r_184 u H locs hp hI hz => ?_)
                            have hI : wI E AR sR H locs (mW E ad kp tr iv (va_up ia 9 (va_up (ia 9) 2 (ia 9 2 + 1))) K R mv) := hI
                            have hp : r_184 = (-2) := hp
                            have hr_184 := hp
                            subst hr_184
                            have hC : copyC (ia 0) (ia 1) (ia 2) (nI P) (nI Q) (nI ix) (nI jx) (nI nz) = (-2) := by
                              clear hret hI
                              unfold copyC; simp only [nI_clamp (n := P) (by omega), nI_clamp (n := Q) (by omega), hzc, hzd]; rw [if_pos ⟨c_6, c_18⟩, if_neg hD, if_neg hZ]; exact if_pos (by omega)
                            have eia9 : bumpR (ia 9) (copyC (ia 0) (ia 1) (ia 2) (nI P) (nI Q) (nI ix) (nI jx) (nI nz)) = va_up (ia 9) 2 (ia 9 2 + 1) := by rw [hC]; exact bump_2 _
                            have eR : gd (copyC (ia 0) (ia 1) (ia 2) (nI P) (nI Q) (nI ix) (nI jx) (nI nz)) (va_up R (nI Q).toNatClampNeg (cpyL (R (nI P).toNatClampNeg) (R (nI Q).toNatClampNeg) (nI ix).toNatClampNeg (nI jx).toNatClampNeg (nI nz).toNatClampNeg)) R = R := by rw [hC]; first | rfl | (simp only [nI_clamp (n := P) (by omega), nI_clamp (n := Q) (by omega), nI_clamp (n := nz) (by omega), nI_clamp (n := ix) (by omega), nI_clamp (n := jx) (by omega)]; rfl) | (simp only [gd_0, nI_clamp (n := P) (by omega), nI_clamp (n := Q) (by omega), nI_clamp (n := nz) (by omega), nI_clamp (n := ix) (by omega), nI_clamp (n := jx) (by omega)]; split <;> first | rfl | contradiction)
                            have hI := wI_w (ws' := mW E ad kp tr iv (va_up ia 9 (bumpR (ia 9) (copyC (ia 0) (ia 1) (ia 2) (nI P) (nI Q) (nI ix) (nI jx) (nI nz)))) K (gd (copyC (ia 0) (ia 1) (ia 2) (nI P) (nI Q) (nI ix) (nI jx) (nI nz)) (va_up R (nI Q).toNatClampNeg (cpyL (R (nI P).toNatClampNeg) (R (nI Q).toNatClampNeg) (nI ix).toNatClampNeg (nI jx).toNatClampNeg (nI nz).toNatClampNeg)) R) mv) (by rw [eia9, eR]; try rfl) hI
                            exact hret mv (-2) _ _ 0 0 _ _ dX5_copy_187 hI (by show (-2) = gd (copyC (ia 0) (ia 1) (ia 2) (nI P) (nI Q) (nI ix) (nI jx) (nI nz)) (nI nz) (copyC (ia 0) (ia 1) (ia 2) (nI P) (nI Q) (nI ix) (nI jx) (nI nz)); rw [hC]; first | rfl | (simp only [nI_clamp (n := P) (by omega), nI_clamp (n := Q) (by omega), nI_clamp (n := nz) (by omega), nI_clamp (n := ix) (by omega), nI_clamp (n := jx) (by omega)]; rfl) | (simp only [gd_0, nI_clamp (n := P) (by omega), nI_clamp (n := Q) (by omega), nI_clamp (n := nz) (by omega), nI_clamp (n := ix) (by omega), nI_clamp (n := jx) (by omega)]; split <;> first | rfl | contradiction)) (Nat.le_of_ble_eq_true rfl) (Nat.le_of_ble_eq_true rfl) rfl
                          · skip
                            have c_151 : nz ≤ y9 := Nat.le_of_not_lt (fun zz => c_151 ((n_lt (a := y9) (b := nz) (by omega) (by omega)).mpr zz))
                            refine lv_iload_n hxR hbR dX5_copy_154 rfl (lv_at hl 3 rfl) ?_
                            refine lv_aload_n hxR hbR dX5_copy_155 rfl (lv_at hl 0 rfl) ?_
                            refine r_get hxR hbR hts hown hK hI okX5 (ci := 5) rfl 16 mW_o 2 (by decide) q1480 rfl (v := .ref (ad 2)) rfl dX5_copy_156 ?_
                            refine lv_iload_n hxR hbR dX5_copy_159 rfl (lv_at hl 1 rfl) ?_
                            refine r_iald hxR hbR hK hI 19 (n := 8) (J := P) (f := ia 2) (v := nI z9) (mW_g2 rfl) (by omega) (by decide) hz8 dX5_copy_160 ?_
                            refine lv_iload hxR hbR dX5_copy_161 (lv_at hl 5 rfl) ?_
                            refine lv_isub hxR hbR dX5_copy_163 ?_
                            refine lv_as (y := nI (z9 - nz)) (pk_sub (a := z9) (b := nz) (by omega)) ?_
                            refine lv_icmp_gt (tgt := 181) hxR hbR dX5_copy_164 (by decide) (fun c_164 => ?_) (fun c_164 => ?_)
                            · skip
                              have c_164 : (z9 - nz) < ix := (n_lt (a := (z9 - nz)) (b := ix) (by omega) (by omega)).mp c_164
                              refine lv_aload_n hxR hbR dX5_copy_181 rfl (lv_at hl 0 rfl) ?_
                              refine lv_bipush (v := (-2)) hxR hbR dX5_copy_182 (by decide) ?_
                              refine kVI (n := 1) (As := [.int (-2)]) (rest := []) (fun w => w) hxR hbR hmlR hts hown hK hA hl.1 isCtx.id hI (c5_refuse l E ad kp tr iv ia K R mv (-2) 2 (by decide) (by decide)) (lw_V q1624 q1626 qs34 q86 q1627) ⟨rfl, by decide +kernel⟩ 16 5 rfl rfl mW_o rfl (Nat.le_of_ble_eq_true rfl) (Nat.le_of_ble_eq_true rfl) ⟨Nat.le_of_ble_eq_true rfl, Nat.le_of_ble_eq_true rfl⟩ (Nat.le_of_ble_eq_true rfl) dX5_copy_184 (fun r_184 u H locs hp hI hz => ?_)
                              have hI : wI E AR sR H locs (mW E ad kp tr iv (va_up ia 9 (va_up (ia 9) 2 (ia 9 2 + 1))) K R mv) := hI
                              have hp : r_184 = (-2) := hp
                              have hr_184 := hp
                              subst hr_184
                              have hC : copyC (ia 0) (ia 1) (ia 2) (nI P) (nI Q) (nI ix) (nI jx) (nI nz) = (-2) := by
                                clear hret hI
                                unfold copyC; simp only [nI_clamp (n := P) (by omega), nI_clamp (n := Q) (by omega), hzc, hzd]; rw [if_pos ⟨c_6, c_18⟩, if_neg hD, if_neg hZ]; exact if_pos (by omega)
                              have eia9 : bumpR (ia 9) (copyC (ia 0) (ia 1) (ia 2) (nI P) (nI Q) (nI ix) (nI jx) (nI nz)) = va_up (ia 9) 2 (ia 9 2 + 1) := by rw [hC]; exact bump_2 _
                              have eR : gd (copyC (ia 0) (ia 1) (ia 2) (nI P) (nI Q) (nI ix) (nI jx) (nI nz)) (va_up R (nI Q).toNatClampNeg (cpyL (R (nI P).toNatClampNeg) (R (nI Q).toNatClampNeg) (nI ix).toNatClampNeg (nI jx).toNatClampNeg (nI nz).toNatClampNeg)) R = R := by rw [hC]; first | rfl | (simp only [nI_clamp (n := P) (by omega), nI_clamp (n := Q) (by omega), nI_clamp (n := nz) (by omega), nI_clamp (n := ix) (by omega), nI_clamp (n := jx) (by omega)]; rfl) | (simp only [gd_0, nI_clamp (n := P) (by omega), nI_clamp (n := Q) (by omega), nI_clamp (n := nz) (by omega), nI_clamp (n := ix) (by omega), nI_clamp (n := jx) (by omega)]; split <;> first | rfl | contradiction)
                              have hI := wI_w (ws' := mW E ad kp tr iv (va_up ia 9 (bumpR (ia 9) (copyC (ia 0) (ia 1) (ia 2) (nI P) (nI Q) (nI ix) (nI jx) (nI nz)))) K (gd (copyC (ia 0) (ia 1) (ia 2) (nI P) (nI Q) (nI ix) (nI jx) (nI nz)) (va_up R (nI Q).toNatClampNeg (cpyL (R (nI P).toNatClampNeg) (R (nI Q).toNatClampNeg) (nI ix).toNatClampNeg (nI jx).toNatClampNeg (nI nz).toNatClampNeg)) R) mv) (by rw [eia9, eR]; try rfl) hI
                              exact hret mv (-2) _ _ 0 0 _ _ dX5_copy_187 hI (by show (-2) = gd (copyC (ia 0) (ia 1) (ia 2) (nI P) (nI Q) (nI ix) (nI jx) (nI nz)) (nI nz) (copyC (ia 0) (ia 1) (ia 2) (nI P) (nI Q) (nI ix) (nI jx) (nI nz)); rw [hC]; first | rfl | (simp only [nI_clamp (n := P) (by omega), nI_clamp (n := Q) (by omega), nI_clamp (n := nz) (by omega), nI_clamp (n := ix) (by omega), nI_clamp (n := jx) (by omega)]; rfl) | (simp only [gd_0, nI_clamp (n := P) (by omega), nI_clamp (n := Q) (by omega), nI_clamp (n := nz) (by omega), nI_clamp (n := ix) (by omega), nI_clamp (n := jx) (by omega)]; split <;> first | rfl | contradiction)) (Nat.le_of_ble_eq_true rfl) (Nat.le_of_ble_eq_true rfl) rfl
                            · skip
                              have c_164 : ix ≤ (z9 - nz) := Nat.le_of_not_lt (fun zz => c_164 ((n_lt (a := (z9 - nz)) (b := ix) (by omega) (by omega)).mpr zz))
                              refine lv_iload hxR hbR dX5_copy_167 (lv_at hl 4 rfl) ?_
                              refine lv_aload_n hxR hbR dX5_copy_169 rfl (lv_at hl 0 rfl) ?_
                              refine r_get hxR hbR hts hown hK hI okX5 (ci := 5) rfl 16 mW_o 2 (by decide) q1480 rfl (v := .ref (ad 2)) rfl dX5_copy_170 ?_
                              refine lv_iload_n hxR hbR dX5_copy_173 rfl (lv_at hl 2 rfl) ?_
                              refine r_iald hxR hbR hK hI 19 (n := 8) (J := Q) (f := ia 2) (v := nI y9) (mW_g2 rfl) (by omega) (by decide) hy8 dX5_copy_174 ?_
                              refine lv_iload hxR hbR dX5_copy_175 (lv_at hl 5 rfl) ?_
                              refine lv_isub hxR hbR dX5_copy_177 ?_
                              refine lv_as (y := nI (y9 - nz)) (pk_sub (a := y9) (b := nz) (by omega)) ?_
                              refine lv_icmp_le (tgt := 188) hxR hbR dX5_copy_178 (by decide) (fun c_178 => ?_) (fun c_178 => ?_)
                              · skip
                                have c_178 : jx ≤ (y9 - nz) := (n_le (a := jx) (b := (y9 - nz)) (by omega) (by omega)).mp c_178
                                refine lv_iconst (v := 0) hxR hbR dX5_copy_188 (by decide) ?_
                                refine lv_istore (lv' := [(6, .int 0), (0, .ref (ad 45)), (1, .int (nI P)), (2, .int (nI Q)), (3, .int (nI ix)), (4, .int (nI jx)), (5, .int (nI nz))]) hxR hbR dX5_copy_189 hl (by decide) rfl (fun ls hl => ?_)
                                have lp_191 : ∀ (fu : Nat) (k1 : Nat) (m1 : Nat → Int64), (k1 ≤ nz) → (∀ z, z < k1 → m1 z = R P (ix + z)) → nz - k1 < fu → ∀ (H : Heap) (locs : List Loc), wI E AR sR H locs (mW E ad kp tr iv ia K R m1) → ∀ ls : Array Slot, lv_has ls 7 [(0, .ref (ad 45)), (1, .int (nI P)), (2, .int (nI Q)), (3, .int (nI ix)), (4, .int (nI jx)), (5, .int (nI nz)), (6, .int (nI k1))] → W pR l eR (rmF 2 0 0) sR mR aR bR tR cR H locs 0 0 QR (F0 mR 191 ls []) := by
                                  intro fu
                                  induction fu with
                                  | zero =>
                                    intro k1 m1 hk1 hm1 hfu
                                    exact absurd hfu (Nat.not_lt_zero _)
                                  | succ fu ih_191 =>
                                    intro k1 m1 hk1 hm1 hfu H locs hI ls hl
                                    refine lv_iload hxR hbR dX5_copy_191 (lv_at hl 6 rfl) ?_
                                    refine lv_iload hxR hbR dX5_copy_193 (lv_at hl 5 rfl) ?_
                                    refine lv_icmp_ge (tgt := 222) hxR hbR dX5_copy_195 (by decide) (fun c_195 => ?_) (fun c_195 => ?_)
                                    · skip
                                      have c_195 : nz ≤ k1 := (n_le (a := nz) (b := k1) (by omega) (by omega)).mp c_195
                                      refine lv_iconst (v := 0) hxR hbR dX5_copy_222 (by decide) ?_
                                      refine lv_istore (lv' := [(6, .int 0), (0, .ref (ad 45)), (1, .int (nI P)), (2, .int (nI Q)), (3, .int (nI ix)), (4, .int (nI jx)), (5, .int (nI nz))]) hxR hbR dX5_copy_223 hl (by decide) rfl (fun ls hl => ?_)
                                      have lp_225 : ∀ (fu : Nat) (k3 : Nat) (Rx : Nat → Nat → Int64), (k3 ≤ nz) → (∀ z, z ≠ Q → Rx z = R z) → (Rx Q = cpyL (R P) (R Q) ix jx k3) → nz - k3 < fu → ∀ (H : Heap) (locs : List Loc), wI E AR sR H locs (mW E ad kp tr iv ia K Rx m1) → ∀ ls : Array Slot, lv_has ls 7 [(0, .ref (ad 45)), (1, .int (nI P)), (2, .int (nI Q)), (3, .int (nI ix)), (4, .int (nI jx)), (5, .int (nI nz)), (6, .int (nI k3))] → W pR l eR (rmF 2 0 0) sR mR aR bR tR cR H locs 0 0 QR (F0 mR 225 ls []) := by
                                        intro fu
                                        induction fu with
                                        | zero =>
                                          intro k3 Rx hk3 hr1 hr2 hfu
                                          exact absurd hfu (Nat.not_lt_zero _)
                                        | succ fu ih_225 =>
                                          intro k3 Rx hk3 hr1 hr2 hfu H locs hI ls hl
                                          refine lv_iload hxR hbR dX5_copy_225 (lv_at hl 6 rfl) ?_
                                          refine lv_iload hxR hbR dX5_copy_227 (lv_at hl 5 rfl) ?_
                                          refine lv_icmp_ge (tgt := 257) hxR hbR dX5_copy_229 (by decide) (fun c_229 => ?_) (fun c_229 => ?_)
                                          · skip
                                            have c_229 : nz ≤ k3 := (n_le (a := nz) (b := k3) (by omega) (by omega)).mp c_229
                                            have hk2 : k3 = nz := by omega
                                            refine lv_iload hxR hbR dX5_copy_257 (lv_at hl 5 rfl) ?_
                                            have hC : copyC (ia 0) (ia 1) (ia 2) (nI P) (nI Q) (nI ix) (nI jx) (nI nz) = 0 := by
                                              clear hret hI
                                              unfold copyC; simp only [nI_clamp (n := P) (by omega), nI_clamp (n := Q) (by omega), hzc, hzd]; rw [if_pos ⟨c_6, c_18⟩, if_neg hD, if_neg hZ]; exact if_neg (by omega)
                                            have hRf : Rx = va_up R Q (cpyL (R P) (R Q) ix jx nz) := by rw [← hk2, ← hr2]; exact (mk_up hr1).symm
                                            rw [hRf] at hI
                                            have eia9 : bumpR (ia 9) (copyC (ia 0) (ia 1) (ia 2) (nI P) (nI Q) (nI ix) (nI jx) (nI nz)) = ia 9 := by rw [hC]; exact bump_0 _
                                            have eR : gd (copyC (ia 0) (ia 1) (ia 2) (nI P) (nI Q) (nI ix) (nI jx) (nI nz)) (va_up R (nI Q).toNatClampNeg (cpyL (R (nI P).toNatClampNeg) (R (nI Q).toNatClampNeg) (nI ix).toNatClampNeg (nI jx).toNatClampNeg (nI nz).toNatClampNeg)) R = va_up R Q (cpyL (R P) (R Q) ix jx nz) := by rw [hC]; simp only [nI_clamp (n := P) (by omega), nI_clamp (n := Q) (by omega), nI_clamp (n := ix) (by omega), nI_clamp (n := jx) (by omega), nI_clamp (n := nz) (by omega)]; rfl
                                            have hI := wI_w (ws' := mW E ad kp tr iv (va_up ia 9 (bumpR (ia 9) (copyC (ia 0) (ia 1) (ia 2) (nI P) (nI Q) (nI ix) (nI jx) (nI nz)))) K (gd (copyC (ia 0) (ia 1) (ia 2) (nI P) (nI Q) (nI ix) (nI jx) (nI nz)) (va_up R (nI Q).toNatClampNeg (cpyL (R (nI P).toNatClampNeg) (R (nI Q).toNatClampNeg) (nI ix).toNatClampNeg (nI jx).toNatClampNeg (nI nz).toNatClampNeg)) R) m1) (by rw [eia9, eR, va_up_id (f := ia) (k := 9) (v := ia 9) rfl]; try rfl) hI
                                            exact hret m1 (nI nz) _ _ 0 0 _ _ dX5_copy_259 hI (by show (nI nz) = gd (copyC (ia 0) (ia 1) (ia 2) (nI P) (nI Q) (nI ix) (nI jx) (nI nz)) (nI nz) (copyC (ia 0) (ia 1) (ia 2) (nI P) (nI Q) (nI ix) (nI jx) (nI nz)); rw [hC]; first | rfl | (simp only [nI_clamp (n := P) (by omega), nI_clamp (n := Q) (by omega), nI_clamp (n := nz) (by omega), nI_clamp (n := ix) (by omega), nI_clamp (n := jx) (by omega)]; rfl) | (simp only [gd_0, nI_clamp (n := P) (by omega), nI_clamp (n := Q) (by omega), nI_clamp (n := nz) (by omega), nI_clamp (n := ix) (by omega), nI_clamp (n := jx) (by omega)]; split <;> first | rfl | contradiction)) (Nat.le_of_ble_eq_true rfl) (Nat.le_of_ble_eq_true rfl) rfl
                                          · skip
                                            have c_229 : k3 < nz := Nat.lt_of_not_le (fun zz => c_229 ((n_le (a := nz) (b := k3) (by omega) (by omega)).mpr zz))
                                            refine lv_aload_n hxR hbR dX5_copy_232 rfl (lv_at hl 0 rfl) ?_
                                            refine r_get hxR hbR hts hown hK hI okX5 (ci := 5) rfl 16 mW_o 3 (by decide) q1481 rfl (v := .ref (ad 3)) rfl dX5_copy_233 ?_
                                            refine lv_iload_n hxR hbR dX5_copy_236 rfl (lv_at hl 2 rfl) ?_
                                            refine r_aald hxR hbR hK hI 20 3 (r := ad (60 + Q)) rfl rfl (n := 8) (J := Q) rfl (by omega) (by decide) rfl dX5_copy_237 ?_
                                            refine lv_iload hxR hbR dX5_copy_238 (lv_at hl 4 rfl) ?_
                                            refine lv_iload hxR hbR dX5_copy_240 (lv_at hl 6 rfl) ?_
                                            refine lv_iadd hxR hbR dX5_copy_242 ?_
                                            refine lv_as (y := nI (jx + k3)) (nI_add jx k3) ?_
                                            refine lv_aload_n hxR hbR dX5_copy_243 rfl (lv_at hl 0 rfl) ?_
                                            refine r_get hxR hbR hts hown hK hI okX5 (ci := 5) rfl 16 mW_o 4 (by decide) q1482 rfl (v := .ref (ad 4)) rfl dX5_copy_244 ?_
                                            refine lv_iload hxR hbR dX5_copy_247 (lv_at hl 6 rfl) ?_
                                            refine r_lald hxR hbR hK hI 21 (n := 40) (J := k3) (f := m1) (v := m1 k3) rfl (by omega) (by decide) rfl dX5_copy_249 ?_
                                            refine r_last (ws1 := mW E ad kp tr iv ia K (va_up Rx Q (va_up (Rx Q) (jx + k3) (m1 k3))) m1) hxR hbR hK hI (8 + Q) (n := 40) (J := jx + k3) (f := Rx Q) (mW_R Q (by omega)) (by omega) (by decide) (mW_Rs Q (by omega)) dX5_copy_250 (fun H locs hI => ?_)
                                            refine lv_iinc (v := nI (k3 + 1)) (lv' := [(6, .int (nI (k3 + 1))), (0, .ref (ad 45)), (1, .int (nI P)), (2, .int (nI Q)), (3, .int (nI ix)), (4, .int (nI jx)), (5, .int (nI nz))]) hxR hbR dX5_copy_251 hl (k := 6) rfl (show nI k3 + 1 = nI (k3 + 1) from nI_add _ 1) (by decide) rfl (fun ls hl => ?_)
                                            refine lv_goto (tgt := 225) hxR hbR dX5_copy_254 (by decide) ?_
                                            exact ih_225 (k3 + 1) (va_up Rx Q (va_up (Rx Q) (jx + k3) (m1 k3))) (by first | omega | with_reducible assumption) (fun z hz => (va_up_n hz).trans (hr1 z hz)) (by rw [va_up_s, hr2]; exact cpy_s (fun z hz => hm1 z (by omega)) (by omega)) (by omega) _ _ hI _ (lv_sub hl [1, 2, 3, 4, 5, 6, 0] rfl)
                                      exact lp_225 _ 0 R (by first | omega | with_reducible assumption) (fun _ _ => rfl) (cpy_0 _ _ _ _).symm (Nat.lt_succ_self _) _ _ hI _ (lv_sub hl [1, 2, 3, 4, 5, 6, 0] rfl)
                                    · skip
                                      have c_195 : k1 < nz := Nat.lt_of_not_le (fun zz => c_195 ((n_le (a := nz) (b := k1) (by omega) (by omega)).mpr zz))
                                      refine lv_aload_n hxR hbR dX5_copy_198 rfl (lv_at hl 0 rfl) ?_
                                      refine r_get hxR hbR hts hown hK hI okX5 (ci := 5) rfl 16 mW_o 4 (by decide) q1482 rfl (v := .ref (ad 4)) rfl dX5_copy_199 ?_
                                      refine lv_iload hxR hbR dX5_copy_202 (lv_at hl 6 rfl) ?_
                                      refine lv_aload_n hxR hbR dX5_copy_204 rfl (lv_at hl 0 rfl) ?_
                                      refine r_get hxR hbR hts hown hK hI okX5 (ci := 5) rfl 16 mW_o 3 (by decide) q1481 rfl (v := .ref (ad 3)) rfl dX5_copy_205 ?_
                                      refine lv_iload_n hxR hbR dX5_copy_208 rfl (lv_at hl 1 rfl) ?_
                                      refine r_aald hxR hbR hK hI 20 3 (r := ad (60 + P)) rfl rfl (n := 8) (J := P) rfl (by omega) (by decide) rfl dX5_copy_209 ?_
                                      refine lv_iload_n hxR hbR dX5_copy_210 rfl (lv_at hl 3 rfl) ?_
                                      refine lv_iload hxR hbR dX5_copy_211 (lv_at hl 6 rfl) ?_
                                      refine lv_iadd hxR hbR dX5_copy_213 ?_
                                      refine lv_as (y := nI (ix + k1)) (nI_add ix k1) ?_
                                      refine r_lald hxR hbR hK hI (8 + P) (n := 40) (J := ix + k1) (f := R P) (v := (R P) (ix + k1)) (mW_R P (by omega)) (by omega) (by decide) rfl dX5_copy_214 ?_
                                      refine r_last (ws1 := mW E ad kp tr iv ia K R (va_up m1 k1 ((R P) (ix + k1)))) hxR hbR hK hI 21 (n := 40) (J := k1) (f := m1) rfl (by omega) (by decide) mW_mv dX5_copy_215 (fun H locs hI => ?_)
                                      refine lv_iinc (v := nI (k1 + 1)) (lv' := [(6, .int (nI (k1 + 1))), (0, .ref (ad 45)), (1, .int (nI P)), (2, .int (nI Q)), (3, .int (nI ix)), (4, .int (nI jx)), (5, .int (nI nz))]) hxR hbR dX5_copy_216 hl (k := 6) rfl (show nI k1 + 1 = nI (k1 + 1) from nI_add _ 1) (by decide) rfl (fun ls hl => ?_)
                                      refine lv_goto (tgt := 191) hxR hbR dX5_copy_219 (by decide) ?_
                                      exact ih_191 (k1 + 1) (va_up m1 k1 ((R P) (ix + k1))) (by first | omega | with_reducible assumption) (cp_put hm1) (by omega) _ _ hI _ (lv_sub hl [1, 2, 3, 4, 5, 6, 0] rfl)
                                exact lp_191 _ 0 mv (by first | omega | with_reducible assumption) (fun z h => absurd h (Nat.not_lt_zero _)) (Nat.lt_succ_self _) _ _ hI _ (lv_sub hl [1, 2, 3, 4, 5, 6, 0] rfl)
                              · skip
                                have c_178 : (y9 - nz) < jx := Nat.lt_of_not_le (fun zz => c_178 ((n_le (a := jx) (b := (y9 - nz)) (by omega) (by omega)).mpr zz))
                                refine lv_aload_n hxR hbR dX5_copy_181 rfl (lv_at hl 0 rfl) ?_
                                refine lv_bipush (v := (-2)) hxR hbR dX5_copy_182 (by decide) ?_
                                refine kVI (n := 1) (As := [.int (-2)]) (rest := []) (fun w => w) hxR hbR hmlR hts hown hK hA hl.1 isCtx.id hI (c5_refuse l E ad kp tr iv ia K R mv (-2) 2 (by decide) (by decide)) (lw_V q1624 q1626 qs34 q86 q1627) ⟨rfl, by decide +kernel⟩ 16 5 rfl rfl mW_o rfl (Nat.le_of_ble_eq_true rfl) (Nat.le_of_ble_eq_true rfl) ⟨Nat.le_of_ble_eq_true rfl, Nat.le_of_ble_eq_true rfl⟩ (Nat.le_of_ble_eq_true rfl) dX5_copy_184 (fun r_184 u H locs hp hI hz => ?_)
                                have hI : wI E AR sR H locs (mW E ad kp tr iv (va_up ia 9 (va_up (ia 9) 2 (ia 9 2 + 1))) K R mv) := hI
                                have hp : r_184 = (-2) := hp
                                have hr_184 := hp
                                subst hr_184
                                have hC : copyC (ia 0) (ia 1) (ia 2) (nI P) (nI Q) (nI ix) (nI jx) (nI nz) = (-2) := by
                                  clear hret hI
                                  unfold copyC; simp only [nI_clamp (n := P) (by omega), nI_clamp (n := Q) (by omega), hzc, hzd]; rw [if_pos ⟨c_6, c_18⟩, if_neg hD, if_neg hZ]; exact if_pos (by omega)
                                have eia9 : bumpR (ia 9) (copyC (ia 0) (ia 1) (ia 2) (nI P) (nI Q) (nI ix) (nI jx) (nI nz)) = va_up (ia 9) 2 (ia 9 2 + 1) := by rw [hC]; exact bump_2 _
                                have eR : gd (copyC (ia 0) (ia 1) (ia 2) (nI P) (nI Q) (nI ix) (nI jx) (nI nz)) (va_up R (nI Q).toNatClampNeg (cpyL (R (nI P).toNatClampNeg) (R (nI Q).toNatClampNeg) (nI ix).toNatClampNeg (nI jx).toNatClampNeg (nI nz).toNatClampNeg)) R = R := by rw [hC]; first | rfl | (simp only [nI_clamp (n := P) (by omega), nI_clamp (n := Q) (by omega), nI_clamp (n := nz) (by omega), nI_clamp (n := ix) (by omega), nI_clamp (n := jx) (by omega)]; rfl) | (simp only [gd_0, nI_clamp (n := P) (by omega), nI_clamp (n := Q) (by omega), nI_clamp (n := nz) (by omega), nI_clamp (n := ix) (by omega), nI_clamp (n := jx) (by omega)]; split <;> first | rfl | contradiction)
                                have hI := wI_w (ws' := mW E ad kp tr iv (va_up ia 9 (bumpR (ia 9) (copyC (ia 0) (ia 1) (ia 2) (nI P) (nI Q) (nI ix) (nI jx) (nI nz)))) K (gd (copyC (ia 0) (ia 1) (ia 2) (nI P) (nI Q) (nI ix) (nI jx) (nI nz)) (va_up R (nI Q).toNatClampNeg (cpyL (R (nI P).toNatClampNeg) (R (nI Q).toNatClampNeg) (nI ix).toNatClampNeg (nI jx).toNatClampNeg (nI nz).toNatClampNeg)) R) mv) (by rw [eia9, eR]; try rfl) hI
                                exact hret mv (-2) _ _ 0 0 _ _ dX5_copy_187 hI (by show (-2) = gd (copyC (ia 0) (ia 1) (ia 2) (nI P) (nI Q) (nI ix) (nI jx) (nI nz)) (nI nz) (copyC (ia 0) (ia 1) (ia 2) (nI P) (nI Q) (nI ix) (nI jx) (nI nz)); rw [hC]; first | rfl | (simp only [nI_clamp (n := P) (by omega), nI_clamp (n := Q) (by omega), nI_clamp (n := nz) (by omega), nI_clamp (n := ix) (by omega), nI_clamp (n := jx) (by omega)]; rfl) | (simp only [gd_0, nI_clamp (n := P) (by omega), nI_clamp (n := Q) (by omega), nI_clamp (n := nz) (by omega), nI_clamp (n := ix) (by omega), nI_clamp (n := jx) (by omega)]; split <;> first | rfl | contradiction)) (Nat.le_of_ble_eq_true rfl) (Nat.le_of_ble_eq_true rfl) rfl
                · skip
                  have i_108 : ((ia 0) Q).toInt = 0 := by have zz := i_eq.mp c_108; exact zz
                  have hZ : ia 0 P = 0 ∨ ia 0 Q = 0 := by first | exact Or.inl c_99 | exact Or.inr c_108
                  refine lv_aload_n hxR hbR dX5_copy_111 rfl (lv_at hl 0 rfl) ?_
                  refine lv_bipush (v := (-4)) hxR hbR dX5_copy_112 (by decide) ?_
                  refine kVI (n := 1) (As := [.int (-4)]) (rest := []) (fun w => w) hxR hbR hmlR hts hown hK hA hl.1 isCtx.id hI (c5_refuse l E ad kp tr iv ia K R mv (-4) 4 (by decide) (by decide)) (lw_V q1624 q1626 qs34 q86 q1627) ⟨rfl, by decide +kernel⟩ 16 5 rfl rfl mW_o rfl (Nat.le_of_ble_eq_true rfl) (Nat.le_of_ble_eq_true rfl) ⟨Nat.le_of_ble_eq_true rfl, Nat.le_of_ble_eq_true rfl⟩ (Nat.le_of_ble_eq_true rfl) dX5_copy_114 (fun r_114 u H locs hp hI hz => ?_)
                  have hI : wI E AR sR H locs (mW E ad kp tr iv (va_up ia 9 (va_up (ia 9) 4 (ia 9 4 + 1))) K R mv) := hI
                  have hp : r_114 = (-4) := hp
                  have hr_114 := hp
                  subst hr_114
                  have hC : copyC (ia 0) (ia 1) (ia 2) (nI P) (nI Q) i j k = (-4) := by
                    clear hret hI
                    unfold copyC; simp only [nI_clamp (n := P) (by omega), nI_clamp (n := Q) (by omega), hzc, hzd]; rw [if_pos ⟨c_6, c_18⟩, if_neg hD]; exact if_pos hZ
                  have eia9 : bumpR (ia 9) (copyC (ia 0) (ia 1) (ia 2) (nI P) (nI Q) i j k) = va_up (ia 9) 4 (ia 9 4 + 1) := by rw [hC]; exact bump_4 _
                  have eR : gd (copyC (ia 0) (ia 1) (ia 2) (nI P) (nI Q) i j k) (va_up R (nI Q).toNatClampNeg (cpyL (R (nI P).toNatClampNeg) (R (nI Q).toNatClampNeg) i.toNatClampNeg j.toNatClampNeg k.toNatClampNeg)) R = R := by rw [hC]; first | rfl | (simp only [nI_clamp (n := P) (by omega), nI_clamp (n := Q) (by omega)]; rfl) | (simp only [gd_0, nI_clamp (n := P) (by omega), nI_clamp (n := Q) (by omega)]; split <;> first | rfl | contradiction)
                  have hI := wI_w (ws' := mW E ad kp tr iv (va_up ia 9 (bumpR (ia 9) (copyC (ia 0) (ia 1) (ia 2) (nI P) (nI Q) i j k))) K (gd (copyC (ia 0) (ia 1) (ia 2) (nI P) (nI Q) i j k) (va_up R (nI Q).toNatClampNeg (cpyL (R (nI P).toNatClampNeg) (R (nI Q).toNatClampNeg) i.toNatClampNeg j.toNatClampNeg k.toNatClampNeg)) R) mv) (by rw [eia9, eR]; try rfl) hI
                  exact hret mv (-4) _ _ 0 0 _ _ dX5_copy_117 hI (by show (-4) = gd (copyC (ia 0) (ia 1) (ia 2) (nI P) (nI Q) i j k) k (copyC (ia 0) (ia 1) (ia 2) (nI P) (nI Q) i j k); rw [hC]; first | rfl | (simp only [nI_clamp (n := P) (by omega), nI_clamp (n := Q) (by omega)]; rfl) | (simp only [gd_0, nI_clamp (n := P) (by omega), nI_clamp (n := Q) (by omega)]; split <;> first | rfl | contradiction)) (Nat.le_of_ble_eq_true rfl) (Nat.le_of_ble_eq_true rfl) rfl
            · skip
              have i_68 : ((ia 0) Q).toInt = 1 := by have zz := i_eq.mp c_68; exact zz
              refine lv_aload_n hxR hbR dX5_copy_71 rfl (lv_at hl 0 rfl) ?_
              refine r_get hxR hbR hts hown hK hI okX5 (ci := 5) rfl 16 mW_o 1 (by decide) q1479 rfl (v := .ref (ad 1)) rfl dX5_copy_72 ?_
              refine lv_iload_n hxR hbR dX5_copy_75 rfl (lv_at hl 1 rfl) ?_
              refine r_iald hxR hbR hK hI 18 (n := 8) (J := P) (f := ia 1) (v := (ia 1) P) (mW_g1 rfl) (by omega) (by decide) rfl dX5_copy_76 ?_
              refine lv_aload_n hxR hbR dX5_copy_77 rfl (lv_at hl 0 rfl) ?_
              refine r_get hxR hbR hts hown hK hI okX5 (ci := 5) rfl 16 mW_o 1 (by decide) q1479 rfl (v := .ref (ad 1)) rfl dX5_copy_78 ?_
              refine lv_iload_n hxR hbR dX5_copy_81 rfl (lv_at hl 2 rfl) ?_
              refine r_iald hxR hbR hK hI 18 (n := 8) (J := Q) (f := ia 1) (v := (ia 1) Q) (mW_g1 rfl) (by omega) (by decide) rfl dX5_copy_82 ?_
              refine lv_icmp_eq (tgt := 93) hxR hbR dX5_copy_83 (by decide) (fun c_83 => ?_) (fun c_83 => ?_)
              · skip
                have i_83 : ((ia 1) P).toInt = ((ia 1) Q).toInt := by have zz := i_eq.mp c_83; exact zz
                have hD : ¬ (ia 0 P = 2 ∨ ia 0 Q = 2 ∨ (ia 0 P = 1 ∧ ia 0 Q = 1 ∧ ¬ ia 1 P = ia 1 Q)) := fun z => z.elim c_38 (fun z => z.elim c_48 (fun z => by first | exact c_58 z.1 | exact c_68 z.2.1 | exact z.2.2 c_83))
                refine lv_aload_n hxR hbR dX5_copy_93 rfl (lv_at hl 0 rfl) ?_
                refine r_get hxR hbR hts hown hK hI okX5 (ci := 5) rfl 16 mW_o 0 (by decide) q1478 rfl (v := .ref (ad 0)) rfl dX5_copy_94 ?_
                refine lv_iload_n hxR hbR dX5_copy_97 rfl (lv_at hl 1 rfl) ?_
                refine r_iald hxR hbR hK hI 17 (n := 8) (J := P) (f := ia 0) (v := (ia 0) P) (mW_g0 rfl) (by omega) (by decide) rfl dX5_copy_98 ?_
                refine lv_if_eq (tgt := 111) hxR hbR dX5_copy_99 (by decide) (fun c_99 => ?_) (fun c_99 => ?_)
                · skip
                  have i_99 : ((ia 0) P).toInt = 0 := by have zz := i_eq.mp c_99; exact zz
                  have hZ : ia 0 P = 0 ∨ ia 0 Q = 0 := by first | exact Or.inl c_99 | exact Or.inr c_108
                  refine lv_aload_n hxR hbR dX5_copy_111 rfl (lv_at hl 0 rfl) ?_
                  refine lv_bipush (v := (-4)) hxR hbR dX5_copy_112 (by decide) ?_
                  refine kVI (n := 1) (As := [.int (-4)]) (rest := []) (fun w => w) hxR hbR hmlR hts hown hK hA hl.1 isCtx.id hI (c5_refuse l E ad kp tr iv ia K R mv (-4) 4 (by decide) (by decide)) (lw_V q1624 q1626 qs34 q86 q1627) ⟨rfl, by decide +kernel⟩ 16 5 rfl rfl mW_o rfl (Nat.le_of_ble_eq_true rfl) (Nat.le_of_ble_eq_true rfl) ⟨Nat.le_of_ble_eq_true rfl, Nat.le_of_ble_eq_true rfl⟩ (Nat.le_of_ble_eq_true rfl) dX5_copy_114 (fun r_114 u H locs hp hI hz => ?_)
                  have hI : wI E AR sR H locs (mW E ad kp tr iv (va_up ia 9 (va_up (ia 9) 4 (ia 9 4 + 1))) K R mv) := hI
                  have hp : r_114 = (-4) := hp
                  have hr_114 := hp
                  subst hr_114
                  have hC : copyC (ia 0) (ia 1) (ia 2) (nI P) (nI Q) i j k = (-4) := by
                    clear hret hI
                    unfold copyC; simp only [nI_clamp (n := P) (by omega), nI_clamp (n := Q) (by omega), hzc, hzd]; rw [if_pos ⟨c_6, c_18⟩, if_neg hD]; exact if_pos hZ
                  have eia9 : bumpR (ia 9) (copyC (ia 0) (ia 1) (ia 2) (nI P) (nI Q) i j k) = va_up (ia 9) 4 (ia 9 4 + 1) := by rw [hC]; exact bump_4 _
                  have eR : gd (copyC (ia 0) (ia 1) (ia 2) (nI P) (nI Q) i j k) (va_up R (nI Q).toNatClampNeg (cpyL (R (nI P).toNatClampNeg) (R (nI Q).toNatClampNeg) i.toNatClampNeg j.toNatClampNeg k.toNatClampNeg)) R = R := by rw [hC]; first | rfl | (simp only [nI_clamp (n := P) (by omega), nI_clamp (n := Q) (by omega)]; rfl) | (simp only [gd_0, nI_clamp (n := P) (by omega), nI_clamp (n := Q) (by omega)]; split <;> first | rfl | contradiction)
                  have hI := wI_w (ws' := mW E ad kp tr iv (va_up ia 9 (bumpR (ia 9) (copyC (ia 0) (ia 1) (ia 2) (nI P) (nI Q) i j k))) K (gd (copyC (ia 0) (ia 1) (ia 2) (nI P) (nI Q) i j k) (va_up R (nI Q).toNatClampNeg (cpyL (R (nI P).toNatClampNeg) (R (nI Q).toNatClampNeg) i.toNatClampNeg j.toNatClampNeg k.toNatClampNeg)) R) mv) (by rw [eia9, eR]; try rfl) hI
                  exact hret mv (-4) _ _ 0 0 _ _ dX5_copy_117 hI (by show (-4) = gd (copyC (ia 0) (ia 1) (ia 2) (nI P) (nI Q) i j k) k (copyC (ia 0) (ia 1) (ia 2) (nI P) (nI Q) i j k); rw [hC]; first | rfl | (simp only [nI_clamp (n := P) (by omega), nI_clamp (n := Q) (by omega)]; rfl) | (simp only [gd_0, nI_clamp (n := P) (by omega), nI_clamp (n := Q) (by omega)]; split <;> first | rfl | contradiction)) (Nat.le_of_ble_eq_true rfl) (Nat.le_of_ble_eq_true rfl) rfl
                · skip
                  have i_99 : ¬ (((ia 0) P).toInt = 0) := by have zz := mt i_eq.mpr c_99; exact zz
                  refine lv_aload_n hxR hbR dX5_copy_102 rfl (lv_at hl 0 rfl) ?_
                  refine r_get hxR hbR hts hown hK hI okX5 (ci := 5) rfl 16 mW_o 0 (by decide) q1478 rfl (v := .ref (ad 0)) rfl dX5_copy_103 ?_
                  refine lv_iload_n hxR hbR dX5_copy_106 rfl (lv_at hl 2 rfl) ?_
                  refine r_iald hxR hbR hK hI 17 (n := 8) (J := Q) (f := ia 0) (v := (ia 0) Q) (mW_g0 rfl) (by omega) (by decide) rfl dX5_copy_107 ?_
                  refine lv_if_ne (tgt := 118) hxR hbR dX5_copy_108 (by decide) (fun c_108 => ?_) (fun c_108 => ?_)
                  · skip
                    have i_108 : ¬ (((ia 0) Q).toInt = 0) := by have zz := mt i_eq.mpr c_108; exact zz
                    have hZ : ¬ (ia 0 P = 0 ∨ ia 0 Q = 0) := fun z => z.elim c_99 c_108
                    refine lv_iload hxR hbR dX5_copy_118 (lv_at hl 5 rfl) ?_
                    refine lv_if_lt (tgt := 181) hxR hbR dX5_copy_120 (by decide) (fun c_120 => ?_) (fun c_120 => ?_)
                    · skip
                      have i_120 : k.toInt < 0 := by have zz := i_lt.mp c_120; exact zz
                      refine lv_aload_n hxR hbR dX5_copy_181 rfl (lv_at hl 0 rfl) ?_
                      refine lv_bipush (v := (-2)) hxR hbR dX5_copy_182 (by decide) ?_
                      refine kVI (n := 1) (As := [.int (-2)]) (rest := []) (fun w => w) hxR hbR hmlR hts hown hK hA hl.1 isCtx.id hI (c5_refuse l E ad kp tr iv ia K R mv (-2) 2 (by decide) (by decide)) (lw_V q1624 q1626 qs34 q86 q1627) ⟨rfl, by decide +kernel⟩ 16 5 rfl rfl mW_o rfl (Nat.le_of_ble_eq_true rfl) (Nat.le_of_ble_eq_true rfl) ⟨Nat.le_of_ble_eq_true rfl, Nat.le_of_ble_eq_true rfl⟩ (Nat.le_of_ble_eq_true rfl) dX5_copy_184 (fun r_184 u H locs hp hI hz => ?_)
                      have hI : wI E AR sR H locs (mW E ad kp tr iv (va_up ia 9 (va_up (ia 9) 2 (ia 9 2 + 1))) K R mv) := hI
                      have hp : r_184 = (-2) := hp
                      have hr_184 := hp
                      subst hr_184
                      have hC : copyC (ia 0) (ia 1) (ia 2) (nI P) (nI Q) i j k = (-2) := by
                        clear hret hI
                        unfold copyC; simp only [nI_clamp (n := P) (by omega), nI_clamp (n := Q) (by omega), hzc, hzd]; rw [if_pos ⟨c_6, c_18⟩, if_neg hD, if_neg hZ]; exact if_pos (by omega)
                      have eia9 : bumpR (ia 9) (copyC (ia 0) (ia 1) (ia 2) (nI P) (nI Q) i j k) = va_up (ia 9) 2 (ia 9 2 + 1) := by rw [hC]; exact bump_2 _
                      have eR : gd (copyC (ia 0) (ia 1) (ia 2) (nI P) (nI Q) i j k) (va_up R (nI Q).toNatClampNeg (cpyL (R (nI P).toNatClampNeg) (R (nI Q).toNatClampNeg) i.toNatClampNeg j.toNatClampNeg k.toNatClampNeg)) R = R := by rw [hC]; first | rfl | (simp only [nI_clamp (n := P) (by omega), nI_clamp (n := Q) (by omega)]; rfl) | (simp only [gd_0, nI_clamp (n := P) (by omega), nI_clamp (n := Q) (by omega)]; split <;> first | rfl | contradiction)
                      have hI := wI_w (ws' := mW E ad kp tr iv (va_up ia 9 (bumpR (ia 9) (copyC (ia 0) (ia 1) (ia 2) (nI P) (nI Q) i j k))) K (gd (copyC (ia 0) (ia 1) (ia 2) (nI P) (nI Q) i j k) (va_up R (nI Q).toNatClampNeg (cpyL (R (nI P).toNatClampNeg) (R (nI Q).toNatClampNeg) i.toNatClampNeg j.toNatClampNeg k.toNatClampNeg)) R) mv) (by rw [eia9, eR]; try rfl) hI
                      exact hret mv (-2) _ _ 0 0 _ _ dX5_copy_187 hI (by show (-2) = gd (copyC (ia 0) (ia 1) (ia 2) (nI P) (nI Q) i j k) k (copyC (ia 0) (ia 1) (ia 2) (nI P) (nI Q) i j k); rw [hC]; first | rfl | (simp only [nI_clamp (n := P) (by omega), nI_clamp (n := Q) (by omega)]; rfl) | (simp only [gd_0, nI_clamp (n := P) (by omega), nI_clamp (n := Q) (by omega)]; split <;> first | rfl | contradiction)) (Nat.le_of_ble_eq_true rfl) (Nat.le_of_ble_eq_true rfl) rfl
                    · skip
                      have i_120 : ¬ (k.toInt < 0) := by have zz := mt i_lt.mpr c_120; exact zz
                      obtain ⟨nz, hnz, rfl⟩ := nat_nn (x := k) (by omega)
                      have tnz : (nI nz).toInt = (nz : Int) := nI_toInt (by omega)
                      refine lv_iload_n hxR hbR dX5_copy_123 rfl (lv_at hl 3 rfl) ?_
                      refine lv_if_lt (tgt := 181) hxR hbR dX5_copy_124 (by decide) (fun c_124 => ?_) (fun c_124 => ?_)
                      · skip
                        have i_124 : i.toInt < 0 := by have zz := i_lt.mp c_124; exact zz
                        refine lv_aload_n hxR hbR dX5_copy_181 rfl (lv_at hl 0 rfl) ?_
                        refine lv_bipush (v := (-2)) hxR hbR dX5_copy_182 (by decide) ?_
                        refine kVI (n := 1) (As := [.int (-2)]) (rest := []) (fun w => w) hxR hbR hmlR hts hown hK hA hl.1 isCtx.id hI (c5_refuse l E ad kp tr iv ia K R mv (-2) 2 (by decide) (by decide)) (lw_V q1624 q1626 qs34 q86 q1627) ⟨rfl, by decide +kernel⟩ 16 5 rfl rfl mW_o rfl (Nat.le_of_ble_eq_true rfl) (Nat.le_of_ble_eq_true rfl) ⟨Nat.le_of_ble_eq_true rfl, Nat.le_of_ble_eq_true rfl⟩ (Nat.le_of_ble_eq_true rfl) dX5_copy_184 (fun r_184 u H locs hp hI hz => ?_)
                        have hI : wI E AR sR H locs (mW E ad kp tr iv (va_up ia 9 (va_up (ia 9) 2 (ia 9 2 + 1))) K R mv) := hI
                        have hp : r_184 = (-2) := hp
                        have hr_184 := hp
                        subst hr_184
                        have hC : copyC (ia 0) (ia 1) (ia 2) (nI P) (nI Q) i j (nI nz) = (-2) := by
                          clear hret hI
                          unfold copyC; simp only [nI_clamp (n := P) (by omega), nI_clamp (n := Q) (by omega), hzc, hzd]; rw [if_pos ⟨c_6, c_18⟩, if_neg hD, if_neg hZ]; exact if_pos (by omega)
                        have eia9 : bumpR (ia 9) (copyC (ia 0) (ia 1) (ia 2) (nI P) (nI Q) i j (nI nz)) = va_up (ia 9) 2 (ia 9 2 + 1) := by rw [hC]; exact bump_2 _
                        have eR : gd (copyC (ia 0) (ia 1) (ia 2) (nI P) (nI Q) i j (nI nz)) (va_up R (nI Q).toNatClampNeg (cpyL (R (nI P).toNatClampNeg) (R (nI Q).toNatClampNeg) i.toNatClampNeg j.toNatClampNeg (nI nz).toNatClampNeg)) R = R := by rw [hC]; first | rfl | (simp only [nI_clamp (n := P) (by omega), nI_clamp (n := Q) (by omega), nI_clamp (n := nz) (by omega)]; rfl) | (simp only [gd_0, nI_clamp (n := P) (by omega), nI_clamp (n := Q) (by omega), nI_clamp (n := nz) (by omega)]; split <;> first | rfl | contradiction)
                        have hI := wI_w (ws' := mW E ad kp tr iv (va_up ia 9 (bumpR (ia 9) (copyC (ia 0) (ia 1) (ia 2) (nI P) (nI Q) i j (nI nz)))) K (gd (copyC (ia 0) (ia 1) (ia 2) (nI P) (nI Q) i j (nI nz)) (va_up R (nI Q).toNatClampNeg (cpyL (R (nI P).toNatClampNeg) (R (nI Q).toNatClampNeg) i.toNatClampNeg j.toNatClampNeg (nI nz).toNatClampNeg)) R) mv) (by rw [eia9, eR]; try rfl) hI
                        exact hret mv (-2) _ _ 0 0 _ _ dX5_copy_187 hI (by show (-2) = gd (copyC (ia 0) (ia 1) (ia 2) (nI P) (nI Q) i j (nI nz)) (nI nz) (copyC (ia 0) (ia 1) (ia 2) (nI P) (nI Q) i j (nI nz)); rw [hC]; first | rfl | (simp only [nI_clamp (n := P) (by omega), nI_clamp (n := Q) (by omega), nI_clamp (n := nz) (by omega)]; rfl) | (simp only [gd_0, nI_clamp (n := P) (by omega), nI_clamp (n := Q) (by omega), nI_clamp (n := nz) (by omega)]; split <;> first | rfl | contradiction)) (Nat.le_of_ble_eq_true rfl) (Nat.le_of_ble_eq_true rfl) rfl
                      · skip
                        have i_124 : ¬ (i.toInt < 0) := by have zz := mt i_lt.mpr c_124; exact zz
                        obtain ⟨ix, hix, rfl⟩ := nat_nn (x := i) (by omega)
                        have tix : (nI ix).toInt = (ix : Int) := nI_toInt (by omega)
                        refine lv_iload hxR hbR dX5_copy_127 (lv_at hl 4 rfl) ?_
                        refine lv_if_lt (tgt := 181) hxR hbR dX5_copy_129 (by decide) (fun c_129 => ?_) (fun c_129 => ?_)
                        · skip
                          have i_129 : j.toInt < 0 := by have zz := i_lt.mp c_129; exact zz
                          refine lv_aload_n hxR hbR dX5_copy_181 rfl (lv_at hl 0 rfl) ?_
                          refine lv_bipush (v := (-2)) hxR hbR dX5_copy_182 (by decide) ?_
                          refine kVI (n := 1) (As := [.int (-2)]) (rest := []) (fun w => w) hxR hbR hmlR hts hown hK hA hl.1 isCtx.id hI (c5_refuse l E ad kp tr iv ia K R mv (-2) 2 (by decide) (by decide)) (lw_V q1624 q1626 qs34 q86 q1627) ⟨rfl, by decide +kernel⟩ 16 5 rfl rfl mW_o rfl (Nat.le_of_ble_eq_true rfl) (Nat.le_of_ble_eq_true rfl) ⟨Nat.le_of_ble_eq_true rfl, Nat.le_of_ble_eq_true rfl⟩ (Nat.le_of_ble_eq_true rfl) dX5_copy_184 (fun r_184 u H locs hp hI hz => ?_)
                          have hI : wI E AR sR H locs (mW E ad kp tr iv (va_up ia 9 (va_up (ia 9) 2 (ia 9 2 + 1))) K R mv) := hI
                          have hp : r_184 = (-2) := hp
                          have hr_184 := hp
                          subst hr_184
                          have hC : copyC (ia 0) (ia 1) (ia 2) (nI P) (nI Q) (nI ix) j (nI nz) = (-2) := by
                            clear hret hI
                            unfold copyC; simp only [nI_clamp (n := P) (by omega), nI_clamp (n := Q) (by omega), hzc, hzd]; rw [if_pos ⟨c_6, c_18⟩, if_neg hD, if_neg hZ]; exact if_pos (by omega)
                          have eia9 : bumpR (ia 9) (copyC (ia 0) (ia 1) (ia 2) (nI P) (nI Q) (nI ix) j (nI nz)) = va_up (ia 9) 2 (ia 9 2 + 1) := by rw [hC]; exact bump_2 _
                          have eR : gd (copyC (ia 0) (ia 1) (ia 2) (nI P) (nI Q) (nI ix) j (nI nz)) (va_up R (nI Q).toNatClampNeg (cpyL (R (nI P).toNatClampNeg) (R (nI Q).toNatClampNeg) (nI ix).toNatClampNeg j.toNatClampNeg (nI nz).toNatClampNeg)) R = R := by rw [hC]; first | rfl | (simp only [nI_clamp (n := P) (by omega), nI_clamp (n := Q) (by omega), nI_clamp (n := nz) (by omega), nI_clamp (n := ix) (by omega)]; rfl) | (simp only [gd_0, nI_clamp (n := P) (by omega), nI_clamp (n := Q) (by omega), nI_clamp (n := nz) (by omega), nI_clamp (n := ix) (by omega)]; split <;> first | rfl | contradiction)
                          have hI := wI_w (ws' := mW E ad kp tr iv (va_up ia 9 (bumpR (ia 9) (copyC (ia 0) (ia 1) (ia 2) (nI P) (nI Q) (nI ix) j (nI nz)))) K (gd (copyC (ia 0) (ia 1) (ia 2) (nI P) (nI Q) (nI ix) j (nI nz)) (va_up R (nI Q).toNatClampNeg (cpyL (R (nI P).toNatClampNeg) (R (nI Q).toNatClampNeg) (nI ix).toNatClampNeg j.toNatClampNeg (nI nz).toNatClampNeg)) R) mv) (by rw [eia9, eR]; try rfl) hI
                          exact hret mv (-2) _ _ 0 0 _ _ dX5_copy_187 hI (by show (-2) = gd (copyC (ia 0) (ia 1) (ia 2) (nI P) (nI Q) (nI ix) j (nI nz)) (nI nz) (copyC (ia 0) (ia 1) (ia 2) (nI P) (nI Q) (nI ix) j (nI nz)); rw [hC]; first | rfl | (simp only [nI_clamp (n := P) (by omega), nI_clamp (n := Q) (by omega), nI_clamp (n := nz) (by omega), nI_clamp (n := ix) (by omega)]; rfl) | (simp only [gd_0, nI_clamp (n := P) (by omega), nI_clamp (n := Q) (by omega), nI_clamp (n := nz) (by omega), nI_clamp (n := ix) (by omega)]; split <;> first | rfl | contradiction)) (Nat.le_of_ble_eq_true rfl) (Nat.le_of_ble_eq_true rfl) rfl
                        · skip
                          have i_129 : ¬ (j.toInt < 0) := by have zz := mt i_lt.mpr c_129; exact zz
                          obtain ⟨jx, hjx, rfl⟩ := nat_nn (x := j) (by omega)
                          have tjx : (nI jx).toInt = (jx : Int) := nI_toInt (by omega)
                          refine lv_iload hxR hbR dX5_copy_132 (lv_at hl 5 rfl) ?_
                          refine lv_aload_n hxR hbR dX5_copy_134 rfl (lv_at hl 0 rfl) ?_
                          refine r_get hxR hbR hts hown hK hI okX5 (ci := 5) rfl 16 mW_o 2 (by decide) q1480 rfl (v := .ref (ad 2)) rfl dX5_copy_135 ?_
                          refine lv_iload_n hxR hbR dX5_copy_138 rfl (lv_at hl 1 rfl) ?_
                          refine r_iald hxR hbR hK hI 19 (n := 8) (J := P) (f := ia 2) (v := nI z9) (mW_g2 rfl) (by omega) (by decide) hz8 dX5_copy_139 ?_
                          refine lv_icmp_gt (tgt := 181) hxR hbR dX5_copy_140 (by decide) (fun c_140 => ?_) (fun c_140 => ?_)
                          · skip
                            have c_140 : z9 < nz := (n_lt (a := z9) (b := nz) (by omega) (by omega)).mp c_140
                            refine lv_aload_n hxR hbR dX5_copy_181 rfl (lv_at hl 0 rfl) ?_
                            refine lv_bipush (v := (-2)) hxR hbR dX5_copy_182 (by decide) ?_
                            refine kVI (n := 1) (As := [.int (-2)]) (rest := []) (fun w => w) hxR hbR hmlR hts hown hK hA hl.1 isCtx.id hI (c5_refuse l E ad kp tr iv ia K R mv (-2) 2 (by decide) (by decide)) (lw_V q1624 q1626 qs34 q86 q1627) ⟨rfl, by decide +kernel⟩ 16 5 rfl rfl mW_o rfl (Nat.le_of_ble_eq_true rfl) (Nat.le_of_ble_eq_true rfl) ⟨Nat.le_of_ble_eq_true rfl, Nat.le_of_ble_eq_true rfl⟩ (Nat.le_of_ble_eq_true rfl) dX5_copy_184 (fun r_184 u H locs hp hI hz => ?_)
                            have hI : wI E AR sR H locs (mW E ad kp tr iv (va_up ia 9 (va_up (ia 9) 2 (ia 9 2 + 1))) K R mv) := hI
                            have hp : r_184 = (-2) := hp
                            have hr_184 := hp
                            subst hr_184
                            have hC : copyC (ia 0) (ia 1) (ia 2) (nI P) (nI Q) (nI ix) (nI jx) (nI nz) = (-2) := by
                              clear hret hI
                              unfold copyC; simp only [nI_clamp (n := P) (by omega), nI_clamp (n := Q) (by omega), hzc, hzd]; rw [if_pos ⟨c_6, c_18⟩, if_neg hD, if_neg hZ]; exact if_pos (by omega)
                            have eia9 : bumpR (ia 9) (copyC (ia 0) (ia 1) (ia 2) (nI P) (nI Q) (nI ix) (nI jx) (nI nz)) = va_up (ia 9) 2 (ia 9 2 + 1) := by rw [hC]; exact bump_2 _
                            have eR : gd (copyC (ia 0) (ia 1) (ia 2) (nI P) (nI Q) (nI ix) (nI jx) (nI nz)) (va_up R (nI Q).toNatClampNeg (cpyL (R (nI P).toNatClampNeg) (R (nI Q).toNatClampNeg) (nI ix).toNatClampNeg (nI jx).toNatClampNeg (nI nz).toNatClampNeg)) R = R := by rw [hC]; first | rfl | (simp only [nI_clamp (n := P) (by omega), nI_clamp (n := Q) (by omega), nI_clamp (n := nz) (by omega), nI_clamp (n := ix) (by omega), nI_clamp (n := jx) (by omega)]; rfl) | (simp only [gd_0, nI_clamp (n := P) (by omega), nI_clamp (n := Q) (by omega), nI_clamp (n := nz) (by omega), nI_clamp (n := ix) (by omega), nI_clamp (n := jx) (by omega)]; split <;> first | rfl | contradiction)
                            have hI := wI_w (ws' := mW E ad kp tr iv (va_up ia 9 (bumpR (ia 9) (copyC (ia 0) (ia 1) (ia 2) (nI P) (nI Q) (nI ix) (nI jx) (nI nz)))) K (gd (copyC (ia 0) (ia 1) (ia 2) (nI P) (nI Q) (nI ix) (nI jx) (nI nz)) (va_up R (nI Q).toNatClampNeg (cpyL (R (nI P).toNatClampNeg) (R (nI Q).toNatClampNeg) (nI ix).toNatClampNeg (nI jx).toNatClampNeg (nI nz).toNatClampNeg)) R) mv) (by rw [eia9, eR]; try rfl) hI
                            exact hret mv (-2) _ _ 0 0 _ _ dX5_copy_187 hI (by show (-2) = gd (copyC (ia 0) (ia 1) (ia 2) (nI P) (nI Q) (nI ix) (nI jx) (nI nz)) (nI nz) (copyC (ia 0) (ia 1) (ia 2) (nI P) (nI Q) (nI ix) (nI jx) (nI nz)); rw [hC]; first | rfl | (simp only [nI_clamp (n := P) (by omega), nI_clamp (n := Q) (by omega), nI_clamp (n := nz) (by omega), nI_clamp (n := ix) (by omega), nI_clamp (n := jx) (by omega)]; rfl) | (simp only [gd_0, nI_clamp (n := P) (by omega), nI_clamp (n := Q) (by omega), nI_clamp (n := nz) (by omega), nI_clamp (n := ix) (by omega), nI_clamp (n := jx) (by omega)]; split <;> first | rfl | contradiction)) (Nat.le_of_ble_eq_true rfl) (Nat.le_of_ble_eq_true rfl) rfl
                          · skip
                            have c_140 : nz ≤ z9 := Nat.le_of_not_lt (fun zz => c_140 ((n_lt (a := z9) (b := nz) (by omega) (by omega)).mpr zz))
                            refine lv_iload hxR hbR dX5_copy_143 (lv_at hl 5 rfl) ?_
                            refine lv_aload_n hxR hbR dX5_copy_145 rfl (lv_at hl 0 rfl) ?_
                            refine r_get hxR hbR hts hown hK hI okX5 (ci := 5) rfl 16 mW_o 2 (by decide) q1480 rfl (v := .ref (ad 2)) rfl dX5_copy_146 ?_
                            refine lv_iload_n hxR hbR dX5_copy_149 rfl (lv_at hl 2 rfl) ?_
                            refine r_iald hxR hbR hK hI 19 (n := 8) (J := Q) (f := ia 2) (v := nI y9) (mW_g2 rfl) (by omega) (by decide) hy8 dX5_copy_150 ?_
                            refine lv_icmp_gt (tgt := 181) hxR hbR dX5_copy_151 (by decide) (fun c_151 => ?_) (fun c_151 => ?_)
                            · skip
                              have c_151 : y9 < nz := (n_lt (a := y9) (b := nz) (by omega) (by omega)).mp c_151
                              refine lv_aload_n hxR hbR dX5_copy_181 rfl (lv_at hl 0 rfl) ?_
                              refine lv_bipush (v := (-2)) hxR hbR dX5_copy_182 (by decide) ?_
                              refine kVI (n := 1) (As := [.int (-2)]) (rest := []) (fun w => w) hxR hbR hmlR hts hown hK hA hl.1 isCtx.id hI (c5_refuse l E ad kp tr iv ia K R mv (-2) 2 (by decide) (by decide)) (lw_V q1624 q1626 qs34 q86 q1627) ⟨rfl, by decide +kernel⟩ 16 5 rfl rfl mW_o rfl (Nat.le_of_ble_eq_true rfl) (Nat.le_of_ble_eq_true rfl) ⟨Nat.le_of_ble_eq_true rfl, Nat.le_of_ble_eq_true rfl⟩ (Nat.le_of_ble_eq_true rfl) dX5_copy_184 (fun r_184 u H locs hp hI hz => ?_)
                              have hI : wI E AR sR H locs (mW E ad kp tr iv (va_up ia 9 (va_up (ia 9) 2 (ia 9 2 + 1))) K R mv) := hI
                              have hp : r_184 = (-2) := hp
                              have hr_184 := hp
                              subst hr_184
                              have hC : copyC (ia 0) (ia 1) (ia 2) (nI P) (nI Q) (nI ix) (nI jx) (nI nz) = (-2) := by
                                clear hret hI
                                unfold copyC; simp only [nI_clamp (n := P) (by omega), nI_clamp (n := Q) (by omega), hzc, hzd]; rw [if_pos ⟨c_6, c_18⟩, if_neg hD, if_neg hZ]; exact if_pos (by omega)
                              have eia9 : bumpR (ia 9) (copyC (ia 0) (ia 1) (ia 2) (nI P) (nI Q) (nI ix) (nI jx) (nI nz)) = va_up (ia 9) 2 (ia 9 2 + 1) := by rw [hC]; exact bump_2 _
                              have eR : gd (copyC (ia 0) (ia 1) (ia 2) (nI P) (nI Q) (nI ix) (nI jx) (nI nz)) (va_up R (nI Q).toNatClampNeg (cpyL (R (nI P).toNatClampNeg) (R (nI Q).toNatClampNeg) (nI ix).toNatClampNeg (nI jx).toNatClampNeg (nI nz).toNatClampNeg)) R = R := by rw [hC]; first | rfl | (simp only [nI_clamp (n := P) (by omega), nI_clamp (n := Q) (by omega), nI_clamp (n := nz) (by omega), nI_clamp (n := ix) (by omega), nI_clamp (n := jx) (by omega)]; rfl) | (simp only [gd_0, nI_clamp (n := P) (by omega), nI_clamp (n := Q) (by omega), nI_clamp (n := nz) (by omega), nI_clamp (n := ix) (by omega), nI_clamp (n := jx) (by omega)]; split <;> first | rfl | contradiction)
                              have hI := wI_w (ws' := mW E ad kp tr iv (va_up ia 9 (bumpR (ia 9) (copyC (ia 0) (ia 1) (ia 2) (nI P) (nI Q) (nI ix) (nI jx) (nI nz)))) K (gd (copyC (ia 0) (ia 1) (ia 2) (nI P) (nI Q) (nI ix) (nI jx) (nI nz)) (va_up R (nI Q).toNatClampNeg (cpyL (R (nI P).toNatClampNeg) (R (nI Q).toNatClampNeg) (nI ix).toNatClampNeg (nI jx).toNatClampNeg (nI nz).toNatClampNeg)) R) mv) (by rw [eia9, eR]; try rfl) hI
                              exact hret mv (-2) _ _ 0 0 _ _ dX5_copy_187 hI (by show (-2) = gd (copyC (ia 0) (ia 1) (ia 2) (nI P) (nI Q) (nI ix) (nI jx) (nI nz)) (nI nz) (copyC (ia 0) (ia 1) (ia 2) (nI P) (nI Q) (nI ix) (nI jx) (nI nz)); rw [hC]; first | rfl | (simp only [nI_clamp (n := P) (by omega), nI_clamp (n := Q) (by omega), nI_clamp (n := nz) (by omega), nI_clamp (n := ix) (by omega), nI_clamp (n := jx) (by omega)]; rfl) | (simp only [gd_0, nI_clamp (n := P) (by omega), nI_clamp (n := Q) (by omega), nI_clamp (n := nz) (by omega), nI_clamp (n := ix) (by omega), nI_clamp (n := jx) (by omega)]; split <;> first | rfl | contradiction)) (Nat.le_of_ble_eq_true rfl) (Nat.le_of_ble_eq_true rfl) rfl
                            · skip
                              have c_151 : nz ≤ y9 := Nat.le_of_not_lt (fun zz => c_151 ((n_lt (a := y9) (b := nz) (by omega) (by omega)).mpr zz))
                              refine lv_iload_n hxR hbR dX5_copy_154 rfl (lv_at hl 3 rfl) ?_
                              refine lv_aload_n hxR hbR dX5_copy_155 rfl (lv_at hl 0 rfl) ?_
                              refine r_get hxR hbR hts hown hK hI okX5 (ci := 5) rfl 16 mW_o 2 (by decide) q1480 rfl (v := .ref (ad 2)) rfl dX5_copy_156 ?_
                              refine lv_iload_n hxR hbR dX5_copy_159 rfl (lv_at hl 1 rfl) ?_
                              refine r_iald hxR hbR hK hI 19 (n := 8) (J := P) (f := ia 2) (v := nI z9) (mW_g2 rfl) (by omega) (by decide) hz8 dX5_copy_160 ?_
                              refine lv_iload hxR hbR dX5_copy_161 (lv_at hl 5 rfl) ?_
                              refine lv_isub hxR hbR dX5_copy_163 ?_
                              refine lv_as (y := nI (z9 - nz)) (pk_sub (a := z9) (b := nz) (by omega)) ?_
                              refine lv_icmp_gt (tgt := 181) hxR hbR dX5_copy_164 (by decide) (fun c_164 => ?_) (fun c_164 => ?_)
                              · skip
                                have c_164 : (z9 - nz) < ix := (n_lt (a := (z9 - nz)) (b := ix) (by omega) (by omega)).mp c_164
                                refine lv_aload_n hxR hbR dX5_copy_181 rfl (lv_at hl 0 rfl) ?_
                                refine lv_bipush (v := (-2)) hxR hbR dX5_copy_182 (by decide) ?_
                                refine kVI (n := 1) (As := [.int (-2)]) (rest := []) (fun w => w) hxR hbR hmlR hts hown hK hA hl.1 isCtx.id hI (c5_refuse l E ad kp tr iv ia K R mv (-2) 2 (by decide) (by decide)) (lw_V q1624 q1626 qs34 q86 q1627) ⟨rfl, by decide +kernel⟩ 16 5 rfl rfl mW_o rfl (Nat.le_of_ble_eq_true rfl) (Nat.le_of_ble_eq_true rfl) ⟨Nat.le_of_ble_eq_true rfl, Nat.le_of_ble_eq_true rfl⟩ (Nat.le_of_ble_eq_true rfl) dX5_copy_184 (fun r_184 u H locs hp hI hz => ?_)
                                have hI : wI E AR sR H locs (mW E ad kp tr iv (va_up ia 9 (va_up (ia 9) 2 (ia 9 2 + 1))) K R mv) := hI
                                have hp : r_184 = (-2) := hp
                                have hr_184 := hp
                                subst hr_184
                                have hC : copyC (ia 0) (ia 1) (ia 2) (nI P) (nI Q) (nI ix) (nI jx) (nI nz) = (-2) := by
                                  clear hret hI
                                  unfold copyC; simp only [nI_clamp (n := P) (by omega), nI_clamp (n := Q) (by omega), hzc, hzd]; rw [if_pos ⟨c_6, c_18⟩, if_neg hD, if_neg hZ]; exact if_pos (by omega)
                                have eia9 : bumpR (ia 9) (copyC (ia 0) (ia 1) (ia 2) (nI P) (nI Q) (nI ix) (nI jx) (nI nz)) = va_up (ia 9) 2 (ia 9 2 + 1) := by rw [hC]; exact bump_2 _
                                have eR : gd (copyC (ia 0) (ia 1) (ia 2) (nI P) (nI Q) (nI ix) (nI jx) (nI nz)) (va_up R (nI Q).toNatClampNeg (cpyL (R (nI P).toNatClampNeg) (R (nI Q).toNatClampNeg) (nI ix).toNatClampNeg (nI jx).toNatClampNeg (nI nz).toNatClampNeg)) R = R := by rw [hC]; first | rfl | (simp only [nI_clamp (n := P) (by omega), nI_clamp (n := Q) (by omega), nI_clamp (n := nz) (by omega), nI_clamp (n := ix) (by omega), nI_clamp (n := jx) (by omega)]; rfl) | (simp only [gd_0, nI_clamp (n := P) (by omega), nI_clamp (n := Q) (by omega), nI_clamp (n := nz) (by omega), nI_clamp (n := ix) (by omega), nI_clamp (n := jx) (by omega)]; split <;> first | rfl | contradiction)
                                have hI := wI_w (ws' := mW E ad kp tr iv (va_up ia 9 (bumpR (ia 9) (copyC (ia 0) (ia 1) (ia 2) (nI P) (nI Q) (nI ix) (nI jx) (nI nz)))) K (gd (copyC (ia 0) (ia 1) (ia 2) (nI P) (nI Q) (nI ix) (nI jx) (nI nz)) (va_up R (nI Q).toNatClampNeg (cpyL (R (nI P).toNatClampNeg) (R (nI Q).toNatClampNeg) (nI ix).toNatClampNeg (nI jx).toNatClampNeg (nI nz).toNatClampNeg)) R) mv) (by rw [eia9, eR]; try rfl) hI
                                exact hret mv (-2) _ _ 0 0 _ _ dX5_copy_187 hI (by show (-2) = gd (copyC (ia 0) (ia 1) (ia 2) (nI P) (nI Q) (nI ix) (nI jx) (nI nz)) (nI nz) (copyC (ia 0) (ia 1) (ia 2) (nI P) (nI Q) (nI ix) (nI jx) (nI nz)); rw [hC]; first | rfl | (simp only [nI_clamp (n := P) (by omega), nI_clamp (n := Q) (by omega), nI_clamp (n := nz) (by omega), nI_clamp (n := ix) (by omega), nI_clamp (n := jx) (by omega)]; rfl) | (simp only [gd_0, nI_clamp (n := P) (by omega), nI_clamp (n := Q) (by omega), nI_clamp (n := nz) (by omega), nI_clamp (n := ix) (by omega), nI_clamp (n := jx) (by omega)]; split <;> first | rfl | contradiction)) (Nat.le_of_ble_eq_true rfl) (Nat.le_of_ble_eq_true rfl) rfl
                              · skip
                                have c_164 : ix ≤ (z9 - nz) := Nat.le_of_not_lt (fun zz => c_164 ((n_lt (a := (z9 - nz)) (b := ix) (by omega) (by omega)).mpr zz))
                                refine lv_iload hxR hbR dX5_copy_167 (lv_at hl 4 rfl) ?_
                                refine lv_aload_n hxR hbR dX5_copy_169 rfl (lv_at hl 0 rfl) ?_
                                refine r_get hxR hbR hts hown hK hI okX5 (ci := 5) rfl 16 mW_o 2 (by decide) q1480 rfl (v := .ref (ad 2)) rfl dX5_copy_170 ?_
                                refine lv_iload_n hxR hbR dX5_copy_173 rfl (lv_at hl 2 rfl) ?_
                                refine r_iald hxR hbR hK hI 19 (n := 8) (J := Q) (f := ia 2) (v := nI y9) (mW_g2 rfl) (by omega) (by decide) hy8 dX5_copy_174 ?_
                                refine lv_iload hxR hbR dX5_copy_175 (lv_at hl 5 rfl) ?_
                                refine lv_isub hxR hbR dX5_copy_177 ?_
                                refine lv_as (y := nI (y9 - nz)) (pk_sub (a := y9) (b := nz) (by omega)) ?_
                                refine lv_icmp_le (tgt := 188) hxR hbR dX5_copy_178 (by decide) (fun c_178 => ?_) (fun c_178 => ?_)
                                · skip
                                  have c_178 : jx ≤ (y9 - nz) := (n_le (a := jx) (b := (y9 - nz)) (by omega) (by omega)).mp c_178
                                  refine lv_iconst (v := 0) hxR hbR dX5_copy_188 (by decide) ?_
                                  refine lv_istore (lv' := [(6, .int 0), (0, .ref (ad 45)), (1, .int (nI P)), (2, .int (nI Q)), (3, .int (nI ix)), (4, .int (nI jx)), (5, .int (nI nz))]) hxR hbR dX5_copy_189 hl (by decide) rfl (fun ls hl => ?_)
                                  have lp_191 : ∀ (fu : Nat) (k1 : Nat) (m1 : Nat → Int64), (k1 ≤ nz) → (∀ z, z < k1 → m1 z = R P (ix + z)) → nz - k1 < fu → ∀ (H : Heap) (locs : List Loc), wI E AR sR H locs (mW E ad kp tr iv ia K R m1) → ∀ ls : Array Slot, lv_has ls 7 [(0, .ref (ad 45)), (1, .int (nI P)), (2, .int (nI Q)), (3, .int (nI ix)), (4, .int (nI jx)), (5, .int (nI nz)), (6, .int (nI k1))] → W pR l eR (rmF 2 0 0) sR mR aR bR tR cR H locs 0 0 QR (F0 mR 191 ls []) := by
                                    intro fu
                                    induction fu with
                                    | zero =>
                                      intro k1 m1 hk1 hm1 hfu
                                      exact absurd hfu (Nat.not_lt_zero _)
                                    | succ fu ih_191 =>
                                      intro k1 m1 hk1 hm1 hfu H locs hI ls hl
                                      refine lv_iload hxR hbR dX5_copy_191 (lv_at hl 6 rfl) ?_
                                      refine lv_iload hxR hbR dX5_copy_193 (lv_at hl 5 rfl) ?_
                                      refine lv_icmp_ge (tgt := 222) hxR hbR dX5_copy_195 (by decide) (fun c_195 => ?_) (fun c_195 => ?_)
                                      · skip
                                        have c_195 : nz ≤ k1 := (n_le (a := nz) (b := k1) (by omega) (by omega)).mp c_195
                                        refine lv_iconst (v := 0) hxR hbR dX5_copy_222 (by decide) ?_
                                        refine lv_istore (lv' := [(6, .int 0), (0, .ref (ad 45)), (1, .int (nI P)), (2, .int (nI Q)), (3, .int (nI ix)), (4, .int (nI jx)), (5, .int (nI nz))]) hxR hbR dX5_copy_223 hl (by decide) rfl (fun ls hl => ?_)
                                        have lp_225 : ∀ (fu : Nat) (k3 : Nat) (Rx : Nat → Nat → Int64), (k3 ≤ nz) → (∀ z, z ≠ Q → Rx z = R z) → (Rx Q = cpyL (R P) (R Q) ix jx k3) → nz - k3 < fu → ∀ (H : Heap) (locs : List Loc), wI E AR sR H locs (mW E ad kp tr iv ia K Rx m1) → ∀ ls : Array Slot, lv_has ls 7 [(0, .ref (ad 45)), (1, .int (nI P)), (2, .int (nI Q)), (3, .int (nI ix)), (4, .int (nI jx)), (5, .int (nI nz)), (6, .int (nI k3))] → W pR l eR (rmF 2 0 0) sR mR aR bR tR cR H locs 0 0 QR (F0 mR 225 ls []) := by
                                          intro fu
                                          induction fu with
                                          | zero =>
                                            intro k3 Rx hk3 hr1 hr2 hfu
                                            exact absurd hfu (Nat.not_lt_zero _)
                                          | succ fu ih_225 =>
                                            intro k3 Rx hk3 hr1 hr2 hfu H locs hI ls hl
                                            refine lv_iload hxR hbR dX5_copy_225 (lv_at hl 6 rfl) ?_
                                            refine lv_iload hxR hbR dX5_copy_227 (lv_at hl 5 rfl) ?_
                                            refine lv_icmp_ge (tgt := 257) hxR hbR dX5_copy_229 (by decide) (fun c_229 => ?_) (fun c_229 => ?_)
                                            · skip
                                              have c_229 : nz ≤ k3 := (n_le (a := nz) (b := k3) (by omega) (by omega)).mp c_229
                                              have hk2 : k3 = nz := by omega
                                              refine lv_iload hxR hbR dX5_copy_257 (lv_at hl 5 rfl) ?_
                                              have hC : copyC (ia 0) (ia 1) (ia 2) (nI P) (nI Q) (nI ix) (nI jx) (nI nz) = 0 := by
                                                clear hret hI
                                                unfold copyC; simp only [nI_clamp (n := P) (by omega), nI_clamp (n := Q) (by omega), hzc, hzd]; rw [if_pos ⟨c_6, c_18⟩, if_neg hD, if_neg hZ]; exact if_neg (by omega)
                                              have hRf : Rx = va_up R Q (cpyL (R P) (R Q) ix jx nz) := by rw [← hk2, ← hr2]; exact (mk_up hr1).symm
                                              rw [hRf] at hI
                                              have eia9 : bumpR (ia 9) (copyC (ia 0) (ia 1) (ia 2) (nI P) (nI Q) (nI ix) (nI jx) (nI nz)) = ia 9 := by rw [hC]; exact bump_0 _
                                              have eR : gd (copyC (ia 0) (ia 1) (ia 2) (nI P) (nI Q) (nI ix) (nI jx) (nI nz)) (va_up R (nI Q).toNatClampNeg (cpyL (R (nI P).toNatClampNeg) (R (nI Q).toNatClampNeg) (nI ix).toNatClampNeg (nI jx).toNatClampNeg (nI nz).toNatClampNeg)) R = va_up R Q (cpyL (R P) (R Q) ix jx nz) := by rw [hC]; simp only [nI_clamp (n := P) (by omega), nI_clamp (n := Q) (by omega), nI_clamp (n := ix) (by omega), nI_clamp (n := jx) (by omega), nI_clamp (n := nz) (by omega)]; rfl
                                              have hI := wI_w (ws' := mW E ad kp tr iv (va_up ia 9 (bumpR (ia 9) (copyC (ia 0) (ia 1) (ia 2) (nI P) (nI Q) (nI ix) (nI jx) (nI nz)))) K (gd (copyC (ia 0) (ia 1) (ia 2) (nI P) (nI Q) (nI ix) (nI jx) (nI nz)) (va_up R (nI Q).toNatClampNeg (cpyL (R (nI P).toNatClampNeg) (R (nI Q).toNatClampNeg) (nI ix).toNatClampNeg (nI jx).toNatClampNeg (nI nz).toNatClampNeg)) R) m1) (by rw [eia9, eR, va_up_id (f := ia) (k := 9) (v := ia 9) rfl]; try rfl) hI
                                              exact hret m1 (nI nz) _ _ 0 0 _ _ dX5_copy_259 hI (by show (nI nz) = gd (copyC (ia 0) (ia 1) (ia 2) (nI P) (nI Q) (nI ix) (nI jx) (nI nz)) (nI nz) (copyC (ia 0) (ia 1) (ia 2) (nI P) (nI Q) (nI ix) (nI jx) (nI nz)); rw [hC]; first | rfl | (simp only [nI_clamp (n := P) (by omega), nI_clamp (n := Q) (by omega), nI_clamp (n := nz) (by omega), nI_clamp (n := ix) (by omega), nI_clamp (n := jx) (by omega)]; rfl) | (simp only [gd_0, nI_clamp (n := P) (by omega), nI_clamp (n := Q) (by omega), nI_clamp (n := nz) (by omega), nI_clamp (n := ix) (by omega), nI_clamp (n := jx) (by omega)]; split <;> first | rfl | contradiction)) (Nat.le_of_ble_eq_true rfl) (Nat.le_of_ble_eq_true rfl) rfl
                                            · skip
                                              have c_229 : k3 < nz := Nat.lt_of_not_le (fun zz => c_229 ((n_le (a := nz) (b := k3) (by omega) (by omega)).mpr zz))
                                              refine lv_aload_n hxR hbR dX5_copy_232 rfl (lv_at hl 0 rfl) ?_
                                              refine r_get hxR hbR hts hown hK hI okX5 (ci := 5) rfl 16 mW_o 3 (by decide) q1481 rfl (v := .ref (ad 3)) rfl dX5_copy_233 ?_
                                              refine lv_iload_n hxR hbR dX5_copy_236 rfl (lv_at hl 2 rfl) ?_
                                              refine r_aald hxR hbR hK hI 20 3 (r := ad (60 + Q)) rfl rfl (n := 8) (J := Q) rfl (by omega) (by decide) rfl dX5_copy_237 ?_
                                              refine lv_iload hxR hbR dX5_copy_238 (lv_at hl 4 rfl) ?_
                                              refine lv_iload hxR hbR dX5_copy_240 (lv_at hl 6 rfl) ?_
                                              refine lv_iadd hxR hbR dX5_copy_242 ?_
                                              refine lv_as (y := nI (jx + k3)) (nI_add jx k3) ?_
                                              refine lv_aload_n hxR hbR dX5_copy_243 rfl (lv_at hl 0 rfl) ?_
                                              refine r_get hxR hbR hts hown hK hI okX5 (ci := 5) rfl 16 mW_o 4 (by decide) q1482 rfl (v := .ref (ad 4)) rfl dX5_copy_244 ?_
                                              refine lv_iload hxR hbR dX5_copy_247 (lv_at hl 6 rfl) ?_
                                              refine r_lald hxR hbR hK hI 21 (n := 40) (J := k3) (f := m1) (v := m1 k3) rfl (by omega) (by decide) rfl dX5_copy_249 ?_
                                              refine r_last (ws1 := mW E ad kp tr iv ia K (va_up Rx Q (va_up (Rx Q) (jx + k3) (m1 k3))) m1) hxR hbR hK hI (8 + Q) (n := 40) (J := jx + k3) (f := Rx Q) (mW_R Q (by omega)) (by omega) (by decide) (mW_Rs Q (by omega)) dX5_copy_250 (fun H locs hI => ?_)
                                              refine lv_iinc (v := nI (k3 + 1)) (lv' := [(6, .int (nI (k3 + 1))), (0, .ref (ad 45)), (1, .int (nI P)), (2, .int (nI Q)), (3, .int (nI ix)), (4, .int (nI jx)), (5, .int (nI nz))]) hxR hbR dX5_copy_251 hl (k := 6) rfl (show nI k3 + 1 = nI (k3 + 1) from nI_add _ 1) (by decide) rfl (fun ls hl => ?_)
                                              refine lv_goto (tgt := 225) hxR hbR dX5_copy_254 (by decide) ?_
                                              exact ih_225 (k3 + 1) (va_up Rx Q (va_up (Rx Q) (jx + k3) (m1 k3))) (by first | omega | with_reducible assumption) (fun z hz => (va_up_n hz).trans (hr1 z hz)) (by rw [va_up_s, hr2]; exact cpy_s (fun z hz => hm1 z (by omega)) (by omega)) (by omega) _ _ hI _ (lv_sub hl [1, 2, 3, 4, 5, 6, 0] rfl)
                                        exact lp_225 _ 0 R (by first | omega | with_reducible assumption) (fun _ _ => rfl) (cpy_0 _ _ _ _).symm (Nat.lt_succ_self _) _ _ hI _ (lv_sub hl [1, 2, 3, 4, 5, 6, 0] rfl)
                                      · skip
                                        have c_195 : k1 < nz := Nat.lt_of_not_le (fun zz => c_195 ((n_le (a := nz) (b := k1) (by omega) (by omega)).mpr zz))
                                        refine lv_aload_n hxR hbR dX5_copy_198 rfl (lv_at hl 0 rfl) ?_
                                        refine r_get hxR hbR hts hown hK hI okX5 (ci := 5) rfl 16 mW_o 4 (by decide) q1482 rfl (v := .ref (ad 4)) rfl dX5_copy_199 ?_
                                        refine lv_iload hxR hbR dX5_copy_202 (lv_at hl 6 rfl) ?_
                                        refine lv_aload_n hxR hbR dX5_copy_204 rfl (lv_at hl 0 rfl) ?_
                                        refine r_get hxR hbR hts hown hK hI okX5 (ci := 5) rfl 16 mW_o 3 (by decide) q1481 rfl (v := .ref (ad 3)) rfl dX5_copy_205 ?_
                                        refine lv_iload_n hxR hbR dX5_copy_208 rfl (lv_at hl 1 rfl) ?_
                                        refine r_aald hxR hbR hK hI 20 3 (r := ad (60 + P)) rfl rfl (n := 8) (J := P) rfl (by omega) (by decide) rfl dX5_copy_209 ?_
                                        refine lv_iload_n hxR hbR dX5_copy_210 rfl (lv_at hl 3 rfl) ?_
                                        refine lv_iload hxR hbR dX5_copy_211 (lv_at hl 6 rfl) ?_
                                        refine lv_iadd hxR hbR dX5_copy_213 ?_
                                        refine lv_as (y := nI (ix + k1)) (nI_add ix k1) ?_
                                        refine r_lald hxR hbR hK hI (8 + P) (n := 40) (J := ix + k1) (f := R P) (v := (R P) (ix + k1)) (mW_R P (by omega)) (by omega) (by decide) rfl dX5_copy_214 ?_
                                        refine r_last (ws1 := mW E ad kp tr iv ia K R (va_up m1 k1 ((R P) (ix + k1)))) hxR hbR hK hI 21 (n := 40) (J := k1) (f := m1) rfl (by omega) (by decide) mW_mv dX5_copy_215 (fun H locs hI => ?_)
                                        refine lv_iinc (v := nI (k1 + 1)) (lv' := [(6, .int (nI (k1 + 1))), (0, .ref (ad 45)), (1, .int (nI P)), (2, .int (nI Q)), (3, .int (nI ix)), (4, .int (nI jx)), (5, .int (nI nz))]) hxR hbR dX5_copy_216 hl (k := 6) rfl (show nI k1 + 1 = nI (k1 + 1) from nI_add _ 1) (by decide) rfl (fun ls hl => ?_)
                                        refine lv_goto (tgt := 191) hxR hbR dX5_copy_219 (by decide) ?_
                                        exact ih_191 (k1 + 1) (va_up m1 k1 ((R P) (ix + k1))) (by first | omega | with_reducible assumption) (cp_put hm1) (by omega) _ _ hI _ (lv_sub hl [1, 2, 3, 4, 5, 6, 0] rfl)
                                  exact lp_191 _ 0 mv (by first | omega | with_reducible assumption) (fun z h => absurd h (Nat.not_lt_zero _)) (Nat.lt_succ_self _) _ _ hI _ (lv_sub hl [1, 2, 3, 4, 5, 6, 0] rfl)
                                · skip
                                  have c_178 : (y9 - nz) < jx := Nat.lt_of_not_le (fun zz => c_178 ((n_le (a := jx) (b := (y9 - nz)) (by omega) (by omega)).mpr zz))
                                  refine lv_aload_n hxR hbR dX5_copy_181 rfl (lv_at hl 0 rfl) ?_
                                  refine lv_bipush (v := (-2)) hxR hbR dX5_copy_182 (by decide) ?_
                                  refine kVI (n := 1) (As := [.int (-2)]) (rest := []) (fun w => w) hxR hbR hmlR hts hown hK hA hl.1 isCtx.id hI (c5_refuse l E ad kp tr iv ia K R mv (-2) 2 (by decide) (by decide)) (lw_V q1624 q1626 qs34 q86 q1627) ⟨rfl, by decide +kernel⟩ 16 5 rfl rfl mW_o rfl (Nat.le_of_ble_eq_true rfl) (Nat.le_of_ble_eq_true rfl) ⟨Nat.le_of_ble_eq_true rfl, Nat.le_of_ble_eq_true rfl⟩ (Nat.le_of_ble_eq_true rfl) dX5_copy_184 (fun r_184 u H locs hp hI hz => ?_)
                                  have hI : wI E AR sR H locs (mW E ad kp tr iv (va_up ia 9 (va_up (ia 9) 2 (ia 9 2 + 1))) K R mv) := hI
                                  have hp : r_184 = (-2) := hp
                                  have hr_184 := hp
                                  subst hr_184
                                  have hC : copyC (ia 0) (ia 1) (ia 2) (nI P) (nI Q) (nI ix) (nI jx) (nI nz) = (-2) := by
                                    clear hret hI
                                    unfold copyC; simp only [nI_clamp (n := P) (by omega), nI_clamp (n := Q) (by omega), hzc, hzd]; rw [if_pos ⟨c_6, c_18⟩, if_neg hD, if_neg hZ]; exact if_pos (by omega)
                                  have eia9 : bumpR (ia 9) (copyC (ia 0) (ia 1) (ia 2) (nI P) (nI Q) (nI ix) (nI jx) (nI nz)) = va_up (ia 9) 2 (ia 9 2 + 1) := by rw [hC]; exact bump_2 _
                                  have eR : gd (copyC (ia 0) (ia 1) (ia 2) (nI P) (nI Q) (nI ix) (nI jx) (nI nz)) (va_up R (nI Q).toNatClampNeg (cpyL (R (nI P).toNatClampNeg) (R (nI Q).toNatClampNeg) (nI ix).toNatClampNeg (nI jx).toNatClampNeg (nI nz).toNatClampNeg)) R = R := by rw [hC]; first | rfl | (simp only [nI_clamp (n := P) (by omega), nI_clamp (n := Q) (by omega), nI_clamp (n := nz) (by omega), nI_clamp (n := ix) (by omega), nI_clamp (n := jx) (by omega)]; rfl) | (simp only [gd_0, nI_clamp (n := P) (by omega), nI_clamp (n := Q) (by omega), nI_clamp (n := nz) (by omega), nI_clamp (n := ix) (by omega), nI_clamp (n := jx) (by omega)]; split <;> first | rfl | contradiction)
                                  have hI := wI_w (ws' := mW E ad kp tr iv (va_up ia 9 (bumpR (ia 9) (copyC (ia 0) (ia 1) (ia 2) (nI P) (nI Q) (nI ix) (nI jx) (nI nz)))) K (gd (copyC (ia 0) (ia 1) (ia 2) (nI P) (nI Q) (nI ix) (nI jx) (nI nz)) (va_up R (nI Q).toNatClampNeg (cpyL (R (nI P).toNatClampNeg) (R (nI Q).toNatClampNeg) (nI ix).toNatClampNeg (nI jx).toNatClampNeg (nI nz).toNatClampNeg)) R) mv) (by rw [eia9, eR]; try rfl) hI
                                  exact hret mv (-2) _ _ 0 0 _ _ dX5_copy_187 hI (by show (-2) = gd (copyC (ia 0) (ia 1) (ia 2) (nI P) (nI Q) (nI ix) (nI jx) (nI nz)) (nI nz) (copyC (ia 0) (ia 1) (ia 2) (nI P) (nI Q) (nI ix) (nI jx) (nI nz)); rw [hC]; first | rfl | (simp only [nI_clamp (n := P) (by omega), nI_clamp (n := Q) (by omega), nI_clamp (n := nz) (by omega), nI_clamp (n := ix) (by omega), nI_clamp (n := jx) (by omega)]; rfl) | (simp only [gd_0, nI_clamp (n := P) (by omega), nI_clamp (n := Q) (by omega), nI_clamp (n := nz) (by omega), nI_clamp (n := ix) (by omega), nI_clamp (n := jx) (by omega)]; split <;> first | rfl | contradiction)) (Nat.le_of_ble_eq_true rfl) (Nat.le_of_ble_eq_true rfl) rfl
                  · skip
                    have i_108 : ((ia 0) Q).toInt = 0 := by have zz := i_eq.mp c_108; exact zz
                    have hZ : ia 0 P = 0 ∨ ia 0 Q = 0 := by first | exact Or.inl c_99 | exact Or.inr c_108
                    refine lv_aload_n hxR hbR dX5_copy_111 rfl (lv_at hl 0 rfl) ?_
                    refine lv_bipush (v := (-4)) hxR hbR dX5_copy_112 (by decide) ?_
                    refine kVI (n := 1) (As := [.int (-4)]) (rest := []) (fun w => w) hxR hbR hmlR hts hown hK hA hl.1 isCtx.id hI (c5_refuse l E ad kp tr iv ia K R mv (-4) 4 (by decide) (by decide)) (lw_V q1624 q1626 qs34 q86 q1627) ⟨rfl, by decide +kernel⟩ 16 5 rfl rfl mW_o rfl (Nat.le_of_ble_eq_true rfl) (Nat.le_of_ble_eq_true rfl) ⟨Nat.le_of_ble_eq_true rfl, Nat.le_of_ble_eq_true rfl⟩ (Nat.le_of_ble_eq_true rfl) dX5_copy_114 (fun r_114 u H locs hp hI hz => ?_)
                    have hI : wI E AR sR H locs (mW E ad kp tr iv (va_up ia 9 (va_up (ia 9) 4 (ia 9 4 + 1))) K R mv) := hI
                    have hp : r_114 = (-4) := hp
                    have hr_114 := hp
                    subst hr_114
                    have hC : copyC (ia 0) (ia 1) (ia 2) (nI P) (nI Q) i j k = (-4) := by
                      clear hret hI
                      unfold copyC; simp only [nI_clamp (n := P) (by omega), nI_clamp (n := Q) (by omega), hzc, hzd]; rw [if_pos ⟨c_6, c_18⟩, if_neg hD]; exact if_pos hZ
                    have eia9 : bumpR (ia 9) (copyC (ia 0) (ia 1) (ia 2) (nI P) (nI Q) i j k) = va_up (ia 9) 4 (ia 9 4 + 1) := by rw [hC]; exact bump_4 _
                    have eR : gd (copyC (ia 0) (ia 1) (ia 2) (nI P) (nI Q) i j k) (va_up R (nI Q).toNatClampNeg (cpyL (R (nI P).toNatClampNeg) (R (nI Q).toNatClampNeg) i.toNatClampNeg j.toNatClampNeg k.toNatClampNeg)) R = R := by rw [hC]; first | rfl | (simp only [nI_clamp (n := P) (by omega), nI_clamp (n := Q) (by omega)]; rfl) | (simp only [gd_0, nI_clamp (n := P) (by omega), nI_clamp (n := Q) (by omega)]; split <;> first | rfl | contradiction)
                    have hI := wI_w (ws' := mW E ad kp tr iv (va_up ia 9 (bumpR (ia 9) (copyC (ia 0) (ia 1) (ia 2) (nI P) (nI Q) i j k))) K (gd (copyC (ia 0) (ia 1) (ia 2) (nI P) (nI Q) i j k) (va_up R (nI Q).toNatClampNeg (cpyL (R (nI P).toNatClampNeg) (R (nI Q).toNatClampNeg) i.toNatClampNeg j.toNatClampNeg k.toNatClampNeg)) R) mv) (by rw [eia9, eR]; try rfl) hI
                    exact hret mv (-4) _ _ 0 0 _ _ dX5_copy_117 hI (by show (-4) = gd (copyC (ia 0) (ia 1) (ia 2) (nI P) (nI Q) i j k) k (copyC (ia 0) (ia 1) (ia 2) (nI P) (nI Q) i j k); rw [hC]; first | rfl | (simp only [nI_clamp (n := P) (by omega), nI_clamp (n := Q) (by omega)]; rfl) | (simp only [gd_0, nI_clamp (n := P) (by omega), nI_clamp (n := Q) (by omega)]; split <;> first | rfl | contradiction)) (Nat.le_of_ble_eq_true rfl) (Nat.le_of_ble_eq_true rfl) rfl
              · skip
                have i_83 : ¬ (((ia 1) P).toInt = ((ia 1) Q).toInt) := by have zz := mt i_eq.mpr c_83; exact zz
                have hD : ia 0 P = 2 ∨ ia 0 Q = 2 ∨ (ia 0 P = 1 ∧ ia 0 Q = 1 ∧ ¬ ia 1 P = ia 1 Q) := by first | exact Or.inl c_38 | exact Or.inr (Or.inl c_48) | exact Or.inr (Or.inr ⟨c_58, c_68, c_83⟩)
                refine lv_aload_n hxR hbR dX5_copy_86 rfl (lv_at hl 0 rfl) ?_
                refine lv_bipush (v := (-3)) hxR hbR dX5_copy_87 (by decide) ?_
                refine kVI (n := 1) (As := [.int (-3)]) (rest := []) (fun w => w) hxR hbR hmlR hts hown hK hA hl.1 isCtx.id hI (c5_refuse l E ad kp tr iv ia K R mv (-3) 3 (by decide) (by decide)) (lw_V q1624 q1626 qs34 q86 q1627) ⟨rfl, by decide +kernel⟩ 16 5 rfl rfl mW_o rfl (Nat.le_of_ble_eq_true rfl) (Nat.le_of_ble_eq_true rfl) ⟨Nat.le_of_ble_eq_true rfl, Nat.le_of_ble_eq_true rfl⟩ (Nat.le_of_ble_eq_true rfl) dX5_copy_89 (fun r_89 u H locs hp hI hz => ?_)
                have hI : wI E AR sR H locs (mW E ad kp tr iv (va_up ia 9 (va_up (ia 9) 3 (ia 9 3 + 1))) K R mv) := hI
                have hp : r_89 = (-3) := hp
                have hr_89 := hp
                subst hr_89
                have hC : copyC (ia 0) (ia 1) (ia 2) (nI P) (nI Q) i j k = (-3) := by
                  clear hret hI
                  unfold copyC; simp only [nI_clamp (n := P) (by omega), nI_clamp (n := Q) (by omega), hzc, hzd]; rw [if_pos ⟨c_6, c_18⟩]; exact if_pos hD
                have eia9 : bumpR (ia 9) (copyC (ia 0) (ia 1) (ia 2) (nI P) (nI Q) i j k) = va_up (ia 9) 3 (ia 9 3 + 1) := by rw [hC]; exact bump_3 _
                have eR : gd (copyC (ia 0) (ia 1) (ia 2) (nI P) (nI Q) i j k) (va_up R (nI Q).toNatClampNeg (cpyL (R (nI P).toNatClampNeg) (R (nI Q).toNatClampNeg) i.toNatClampNeg j.toNatClampNeg k.toNatClampNeg)) R = R := by rw [hC]; first | rfl | (simp only [nI_clamp (n := P) (by omega), nI_clamp (n := Q) (by omega)]; rfl) | (simp only [gd_0, nI_clamp (n := P) (by omega), nI_clamp (n := Q) (by omega)]; split <;> first | rfl | contradiction)
                have hI := wI_w (ws' := mW E ad kp tr iv (va_up ia 9 (bumpR (ia 9) (copyC (ia 0) (ia 1) (ia 2) (nI P) (nI Q) i j k))) K (gd (copyC (ia 0) (ia 1) (ia 2) (nI P) (nI Q) i j k) (va_up R (nI Q).toNatClampNeg (cpyL (R (nI P).toNatClampNeg) (R (nI Q).toNatClampNeg) i.toNatClampNeg j.toNatClampNeg k.toNatClampNeg)) R) mv) (by rw [eia9, eR]; try rfl) hI
                exact hret mv (-3) _ _ 0 0 _ _ dX5_copy_92 hI (by show (-3) = gd (copyC (ia 0) (ia 1) (ia 2) (nI P) (nI Q) i j k) k (copyC (ia 0) (ia 1) (ia 2) (nI P) (nI Q) i j k); rw [hC]; first | rfl | (simp only [nI_clamp (n := P) (by omega), nI_clamp (n := Q) (by omega)]; rfl) | (simp only [gd_0, nI_clamp (n := P) (by omega), nI_clamp (n := Q) (by omega)]; split <;> first | rfl | contradiction)) (Nat.le_of_ble_eq_true rfl) (Nat.le_of_ble_eq_true rfl) rfl
    · skip
      have c_18 : ¬ ((0 : Int64).toInt ≤ q.toInt64.toInt ∧ q.toInt64.toInt ≤ (7 : Int64).toInt) := of_decide_eq_false c_18
      have c_18 : ¬ (0 ≤ q.toInt ∧ q.toInt ≤ 7) := by simp only [Int32.toInt_toInt64] at c_18; exact c_18
      refine lv_if_ne (tgt := 31) hxR hbR dX5_copy_21 (by decide) (fun c => absurd c (by decide)) (fun _ => ?_)
      refine lv_aload_n hxR hbR dX5_copy_24 rfl (lv_at hl 0 rfl) ?_
      refine lv_bipush (v := (-2)) hxR hbR dX5_copy_25 (by decide) ?_
      refine kVI (n := 1) (As := [.int (-2)]) (rest := []) (fun w => w) hxR hbR hmlR hts hown hK hA hl.1 isCtx.id hI (c5_refuse l E ad kp tr iv ia K R mv (-2) 2 (by decide) (by decide)) (lw_V q1624 q1626 qs34 q86 q1627) ⟨rfl, by decide +kernel⟩ 16 5 rfl rfl mW_o rfl (Nat.le_of_ble_eq_true rfl) (Nat.le_of_ble_eq_true rfl) ⟨Nat.le_of_ble_eq_true rfl, Nat.le_of_ble_eq_true rfl⟩ (Nat.le_of_ble_eq_true rfl) dX5_copy_27 (fun r_27 u H locs hp hI hz => ?_)
      have hI : wI E AR sR H locs (mW E ad kp tr iv (va_up ia 9 (va_up (ia 9) 2 (ia 9 2 + 1))) K R mv) := hI
      have hp : r_27 = (-2) := hp
      have hr_27 := hp
      subst hr_27
      have hC : copyC (ia 0) (ia 1) (ia 2) (nI P) q i j k = (-2) := by
        clear hret hI
        unfold copyC
        try simp only [nI_clamp (n := P) (by omega)]
        repeat' split
        all_goals first | rfl | (exfalso; omega) | contradiction | (exfalso; simp_all; done) | simp_all
      have eia9 : bumpR (ia 9) (copyC (ia 0) (ia 1) (ia 2) (nI P) q i j k) = va_up (ia 9) 2 (ia 9 2 + 1) := by rw [hC]; exact bump_2 _
      have eR : gd (copyC (ia 0) (ia 1) (ia 2) (nI P) q i j k) (va_up R q.toNatClampNeg (cpyL (R (nI P).toNatClampNeg) (R q.toNatClampNeg) i.toNatClampNeg j.toNatClampNeg k.toNatClampNeg)) R = R := by rw [hC]; first | rfl | (simp only [nI_clamp (n := P) (by omega)]; rfl) | (simp only [gd_0, nI_clamp (n := P) (by omega)]; split <;> first | rfl | contradiction)
      have hI := wI_w (ws' := mW E ad kp tr iv (va_up ia 9 (bumpR (ia 9) (copyC (ia 0) (ia 1) (ia 2) (nI P) q i j k))) K (gd (copyC (ia 0) (ia 1) (ia 2) (nI P) q i j k) (va_up R q.toNatClampNeg (cpyL (R (nI P).toNatClampNeg) (R q.toNatClampNeg) i.toNatClampNeg j.toNatClampNeg k.toNatClampNeg)) R) mv) (by rw [eia9, eR]; try rfl) hI
      exact hret mv (-2) _ _ 0 0 _ _ dX5_copy_30 hI (by show (-2) = gd (copyC (ia 0) (ia 1) (ia 2) (nI P) q i j k) k (copyC (ia 0) (ia 1) (ia 2) (nI P) q i j k); rw [hC]; first | rfl | (simp only [nI_clamp (n := P) (by omega)]; rfl) | (simp only [gd_0, nI_clamp (n := P) (by omega)]; split <;> first | rfl | contradiction)) (Nat.le_of_ble_eq_true rfl) (Nat.le_of_ble_eq_true rfl) rfl
  · skip
    have c_6 : ¬ ((0 : Int64).toInt ≤ p.toInt64.toInt ∧ p.toInt64.toInt ≤ (7 : Int64).toInt) := of_decide_eq_false c_6
    have c_6 : ¬ (0 ≤ p.toInt ∧ p.toInt ≤ 7) := by simp only [Int32.toInt_toInt64] at c_6; exact c_6
    refine lv_if_eq (tgt := 24) hxR hbR dX5_copy_9 (by decide) (fun _ => ?_) (fun c => absurd c (by decide))
    refine lv_aload_n hxR hbR dX5_copy_24 rfl (lv_at hl 0 rfl) ?_
    refine lv_bipush (v := (-2)) hxR hbR dX5_copy_25 (by decide) ?_
    refine kVI (n := 1) (As := [.int (-2)]) (rest := []) (fun w => w) hxR hbR hmlR hts hown hK hA hl.1 isCtx.id hI (c5_refuse l E ad kp tr iv ia K R mv (-2) 2 (by decide) (by decide)) (lw_V q1624 q1626 qs34 q86 q1627) ⟨rfl, by decide +kernel⟩ 16 5 rfl rfl mW_o rfl (Nat.le_of_ble_eq_true rfl) (Nat.le_of_ble_eq_true rfl) ⟨Nat.le_of_ble_eq_true rfl, Nat.le_of_ble_eq_true rfl⟩ (Nat.le_of_ble_eq_true rfl) dX5_copy_27 (fun r_27 u H locs hp hI hz => ?_)
    have hI : wI E AR sR H locs (mW E ad kp tr iv (va_up ia 9 (va_up (ia 9) 2 (ia 9 2 + 1))) K R mv) := hI
    have hp : r_27 = (-2) := hp
    have hr_27 := hp
    subst hr_27
    have hC : copyC (ia 0) (ia 1) (ia 2) p q i j k = (-2) := by
      clear hret hI
      unfold copyC
      repeat' split
      all_goals first | rfl | (exfalso; omega) | contradiction | (exfalso; simp_all; done) | simp_all
    have eia9 : bumpR (ia 9) (copyC (ia 0) (ia 1) (ia 2) p q i j k) = va_up (ia 9) 2 (ia 9 2 + 1) := by rw [hC]; exact bump_2 _
    have eR : gd (copyC (ia 0) (ia 1) (ia 2) p q i j k) (va_up R q.toNatClampNeg (cpyL (R p.toNatClampNeg) (R q.toNatClampNeg) i.toNatClampNeg j.toNatClampNeg k.toNatClampNeg)) R = R := by rw [hC]; first | rfl | (simp only [gd_0]; split <;> first | rfl | contradiction)
    have hI := wI_w (ws' := mW E ad kp tr iv (va_up ia 9 (bumpR (ia 9) (copyC (ia 0) (ia 1) (ia 2) p q i j k))) K (gd (copyC (ia 0) (ia 1) (ia 2) p q i j k) (va_up R q.toNatClampNeg (cpyL (R p.toNatClampNeg) (R q.toNatClampNeg) i.toNatClampNeg j.toNatClampNeg k.toNatClampNeg)) R) mv) (by rw [eia9, eR]; try rfl) hI
    exact hret mv (-2) _ _ 0 0 _ _ dX5_copy_30 hI (by show (-2) = gd (copyC (ia 0) (ia 1) (ia 2) p q i j k) k (copyC (ia 0) (ia 1) (ia 2) p q i j k); rw [hC]; first | rfl | (simp only [gd_0]; split <;> first | rfl | contradiction)) (Nat.le_of_ble_eq_true rfl) (Nat.le_of_ble_eq_true rfl) rfl
