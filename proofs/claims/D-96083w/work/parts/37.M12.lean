theorem c5_least (l : Launch) (E : En) (ad : Nat → Nat) (kp tr : Option Nat) (iv : Nat → Int32) (ia K : Nat → Nat → Int32) (R : Nat → Nat → Int64) (mv : Nat → Int64) (n st : Nat) (x : Int32) (hn : iv 10 = nI n) (hst : iv 14 = nI st) (hn7 : n ≤ 7) (hs2 : 2 ≤ st) (hs4 : st ≤ 4) (hh : ∀ q, q < n → ∃ x, x < 24 ∧ ia 11 q = nI x) : CtI l E yX5_least cX5_least 3 .int 60 0 0 [.ref (ad 45), .int x] (mW E ad kp tr iv ia K R mv) (fun (r : Int32) (u : Int32 × (Nat → Int32) × (Nat → Int32) × (Nat → Int32)) => r = leastV K (ia 12) (ia 11) n st x) (fun (u : Int32 × (Nat → Int32) × (Nat → Int32) × (Nat → Int32)) => mW E ad kp tr (va_up iv 30 u.1) (va_up (va_up (va_up (va_up ia 9 (bumpR (ia 9) (everC x))) 29 u.2.1) 31 u.2.2.1) 36 u.2.2.2) K R mv) := by
  refine CtI.of (by decide +kernel) (Nat.le_of_ble_eq_true rfl) ?_
  intro pR eR sR mR aR bR tR cR AR ls QR hxR hbR hmlR hts hown hlk hnm hA hK hI hl hret
  have hl : lv_has ls 3 [(0, .ref (ad 45)), (1, .int x)] := hl
  refine lv_iload_n hxR hbR dX5_least_0 rfl (lv_at hl 1 rfl) ?_
  refine lv_i2l (v := x.toInt64) hxR hbR dX5_least_1 rfl ?_
  refine lv_lconst (v := 0) hxR hbR dX5_least_2 (by decide) ?_
  refine lv_lconst (v := 1) hxR hbR dX5_least_3 (by decide) ?_
  refine kSI (n := 3) (As := [.long x.toInt64, .long (0 : Int64), .long (1 : Int64)]) (rest := []) (fun w => w ++ (mW E ad kp tr iv ia K R mv)) hxR hbR hmlR hts hown hK hA hl.1 (isCtx.suf _) hI (c5_in l E  x.toInt64 (0 : Int64) (1 : Int64) ) (lw_S q1619 q1620 q86 q1621) (by decide +kernel) rfl (Nat.le_of_ble_eq_true rfl) (Nat.le_of_ble_eq_true rfl) ⟨Nat.le_of_ble_eq_true rfl, Nat.le_of_ble_eq_true rfl⟩ (Nat.le_of_ble_eq_true rfl) dX5_least_4 (fun r_4 u H locs hp hI hz => ?_)
  have hI : wI E AR sR H locs (mW E ad kp tr iv ia K R mv) := hI
  have hp : r_4 = b2i (inL x.toInt64 (0 : Int64) (1 : Int64)) := hp
  have hr_4 := hp
  rcases b2i_cases hr_4 with ⟨c_4, rfl⟩ | ⟨c_4, rfl⟩
  · skip
    have c_4 : (0 : Int64).toInt ≤ x.toInt64.toInt ∧ x.toInt64.toInt ≤ (1 : Int64).toInt := of_decide_eq_true c_4
    have c_4 : 0 ≤ x.toInt ∧ x.toInt ≤ 1 := by rw [Int32.toInt_toInt64] at c_4; exact c_4
    refine lv_if_ne (tgt := 17) hxR hbR dX5_least_7 (by decide) (fun _ => ?_) (fun c => absurd c (by decide))
    refine lv_aload_n hxR hbR dX5_least_17 rfl (lv_at hl 0 rfl) ?_
    refine kVV (n := 0) (As := []) (rest := []) (fun w => w) hxR hbR hmlR hts hown hK hA hl.1 isCtx.id hI (c5_findComing l E ad kp tr iv ia K R mv n hn (by first | omega | with_reducible assumption)) (lw_V q1906 q1908 qs68 q86 q1909) ⟨rfl, by decide +kernel⟩ 16 5 rfl rfl mW_o rfl (Nat.le_of_ble_eq_true rfl) (Nat.le_of_ble_eq_true rfl) ⟨Nat.le_of_ble_eq_true rfl, Nat.le_of_ble_eq_true rfl⟩ (Nat.le_of_ble_eq_true rfl) dX5_least_18 (fun u H locs hp hI hz => ?_)
    have hI : wI E AR sR H locs (mW E ad kp tr iv (va_up ia 31 (wrL (ia 31) 0 (comL (ia 11) n))) K R mv) := hI
    refine lv_aload_n hxR hbR dX5_least_21 rfl (lv_at hl 0 rfl) ?_
    refine kVV (n := 0) (As := []) (rest := []) (fun w => w) hxR hbR hmlR hts hown hK hA hl.1 isCtx.id hI (c5_listAll l E ad kp tr iv (va_up ia 31 (wrL (ia 31) 0 (comL (ia 11) n))) K R mv n st hn hst (by omega) (by first | omega | with_reducible assumption)) (lw_V q1672 q1674 qs38 q86 q1675) ⟨rfl, by decide +kernel⟩ 16 5 rfl rfl mW_o rfl (Nat.le_of_ble_eq_true rfl) (Nat.le_of_ble_eq_true rfl) ⟨Nat.le_of_ble_eq_true rfl, Nat.le_of_ble_eq_true rfl⟩ (Nat.le_of_ble_eq_true rfl) dX5_least_22 (fun u H locs hp hI hz => ?_)
    have hI : wI E AR sR H locs (mW E ad kp tr (va_up iv 30 (nI ((GL K n st).length))) (va_up (va_up ia 31 (wrL (ia 31) 0 (comL (ia 11) n))) 29 (wrL ((ia 29)) 0 (GL K n st))) K R mv) := hI
    have hI := wI_w (ws' := mW E ad kp tr (va_up iv 30 (nI ((GL K n st).length))) (va_up (va_up ia 29 (wrL ((ia 29)) 0 (GL K n st))) 31 (wrL (ia 31) 0 (comL (ia 11) n))) K R mv) (by rw [(show (va_up (va_up ia 29 (wrL ((ia 29)) 0 (GL K n st))) 31 (wrL (ia 31) 0 (comL (ia 11) n))) = (va_up (va_up ia 31 (wrL (ia 31) 0 (comL (ia 11) n))) 29 (wrL ((ia 29)) 0 (GL K n st))) from ((up_s (by decide) rfl)).symm)]) hI
    have hI : wI E AR sR H locs (mW E ad kp tr (va_up iv 30 (nI ((GL K n st).length))) (va_up (va_up ia 29 (wrL ((ia 29)) 0 (GL K n st))) 31 (wrL (ia 31) 0 (comL (ia 11) n))) K R mv) := hI
    have hL := isL_GL (f := ia 29) (K := K) (n := n) (by omega) hs2 hs4
    refine lv_iconst (v := 0) hxR hbR dX5_least_25 (by decide) ?_
    refine lv_istore_n (lv' := [(2, .int 0), (0, .ref (ad 45)), (1, .int x)]) hxR hbR dX5_least_26 rfl hl (by decide) rfl (fun ls hl => ?_)
    have hI := wI_w (ws' := mW E ad kp tr (va_up iv 30 (nI ((GL K n st).length))) (va_up (va_up (va_up ia 29 (wrL ((ia 29)) 0 (GL K n st))) 31 (wrL (ia 31) 0 (comL (ia 11) n))) 36 (ia 36)) K R mv) (by rw [va_up_id (f := (va_up (va_up ia 29 (wrL ((ia 29)) 0 (GL K n st))) 31 (wrL (ia 31) 0 (comL (ia 11) n)))) (k := 36) (v := ia 36) (up_n (by decide) (up_n (by decide) rfl))]) hI
    have lp_27 : ∀ (fu : Nat) (j : Nat) (m : Nat → Int32), (j ≤ 1024) → (∀ i, i < j → m i = -1) → 1024 - j < fu → ∀ (H : Heap) (locs : List Loc), wI E AR sR H locs (mW E ad kp tr (va_up iv 30 (nI ((GL K n st).length))) (va_up (va_up (va_up ia 29 (wrL ((ia 29)) 0 (GL K n st))) 31 (wrL (ia 31) 0 (comL (ia 11) n))) 36 m) K R mv) → ∀ ls : Array Slot, lv_has ls 3 [(0, .ref (ad 45)), (1, .int x), (2, .int (nI j))] → W pR l eR (rmF 60 0 0) sR mR aR bR tR cR H locs 0 0 QR (F0 mR 27 ls []) := by
      intro fu
      induction fu with
      | zero =>
        intro j m hj hm hfu
        exact absurd hfu (Nat.not_lt_zero _)
      | succ fu ih_27 =>
        intro j m hj hm hfu H locs hI ls hl
        refine lv_iload_n hxR hbR dX5_least_27 rfl (lv_at hl 2 rfl) ?_
        refine lv_aload_n hxR hbR dX5_least_28 rfl (lv_at hl 0 rfl) ?_
        refine r_get hxR hbR hts hown hK hI okX5 (ci := 5) rfl 16 mW_o 36 (by decide) q1514 rfl (v := .ref (ad 36)) rfl dX5_least_29 ?_
        refine r_alen (v := 1024) hxR hbR hK hI 34 0 rfl rfl rfl dX5_least_32 ?_
        refine lv_icmp_ge (tgt := 49) hxR hbR dX5_least_33 (by decide) (fun c_33 => ?_) (fun c_33 => ?_)
        · skip
          have c_33 : 1024 ≤ j := (n_le (a := 1024) (b := j) (by omega) (by omega)).mp c_33
          refine lv_aload_n hxR hbR dX5_least_49 rfl (lv_at hl 0 rfl) ?_
          refine lv_iconst (v := 0) hxR hbR dX5_least_50 (by decide) ?_
          refine lv_iconst (v := 0) hxR hbR dX5_least_51 (by decide) ?_
          have hb0 := bitsN_le 0 8
          refine kVI (n := 2) (As := [.int 0, .int 0]) (rest := []) (fun w => w) hxR hbR hmlR hts hown hK hA hl.1 isCtx.id hI (c5_leastFrom l E (2 * (n - 0) + bitsN 0 8) ad kp tr (va_up iv 30 (nI ((GL K n st).length))) (va_up (va_up (va_up ia 29 (wrL ((ia 29)) 0 (GL K n st))) 31 (wrL (ia 31) 0 (comL (ia 11) n))) 36 m) K R mv (GL K n st) (fun j => (comL (ia 11) n).getD j 0) n 0 0 (up_n (by decide) hn) va_up_s (isL.of (up_n (by decide) (up_n (by decide) va_up_s)) hL) (by first | omega | with_reducible assumption) rfl (by first | omega | with_reducible assumption) (by first | omega | with_reducible assumption) (cm_of (up_n (by decide) va_up_s) (comL_len hh)) (com_lt2 hh) (lsMm_neg hn7 (fun i hi => (congrFun va_up_s i).trans (hm i (by omega))))) (lw_V q1930 q1932 qs70 q86 q1933) ⟨rfl, by decide +kernel⟩ 16 5 rfl rfl mW_o rfl (by omega) (Nat.le_of_ble_eq_true rfl) ⟨Nat.le_of_ble_eq_true rfl, Nat.le_of_ble_eq_true rfl⟩ (Nat.le_of_ble_eq_true rfl) dX5_least_52 (fun r_52 u H locs hp hI hz => ?_)
          obtain ⟨m36_52, rfl⟩ : ∃ z, z = u := ⟨_, rfl⟩
          have hI : wI E AR sR H locs (mW E ad kp tr (va_up iv 30 (nI ((GL K n st).length))) (va_up (va_up (va_up (va_up ia 29 (wrL ((ia 29)) 0 (GL K n st))) 31 (wrL (ia 31) 0 (comL (ia 11) n))) 36 m) 36 m36_52) K R mv) := hI
          have hI := wI_w (ws' := mW E ad kp tr (va_up iv 30 (nI ((GL K n st).length))) (va_up (va_up (va_up ia 29 (wrL ((ia 29)) 0 (GL K n st))) 31 (wrL (ia 31) 0 (comL (ia 11) n))) 36 m36_52) K R mv) (by rw [(show (va_up (va_up (va_up ia 29 (wrL ((ia 29)) 0 (GL K n st))) 31 (wrL (ia 31) 0 (comL (ia 11) n))) 36 m36_52) = (va_up (va_up (va_up (va_up ia 29 (wrL ((ia 29)) 0 (GL K n st))) 31 (wrL (ia 31) 0 (comL (ia 11) n))) 36 m) 36 m36_52) from (up_0).symm)]) hI
          have hI : wI E AR sR H locs (mW E ad kp tr (va_up iv 30 (nI ((GL K n st).length))) (va_up (va_up (va_up ia 29 (wrL ((ia 29)) 0 (GL K n st))) 31 (wrL (ia 31) 0 (comL (ia 11) n))) 36 m36_52) K R mv) := hI
          have hp : r_52 = lsV (GL K n st) (fun j => (comL (ia 11) n).getD j 0) ((ia 12)) ((ia 11)) n 0 0 ∧ lsMm (GL K n st) (fun j => (comL (ia 11) n).getD j 0) ((ia 12)) ((ia 11)) n m36_52 := hp
          obtain ⟨hr_52, hm2_52⟩ := hp
          subst hr_52
          refine lv_istore_n (lv' := [(2, .int (lsV (GL K n st) (fun j => (comL (ia 11) n).getD j 0) ((ia 12)) ((ia 11)) n 0 0)), (0, .ref (ad 45)), (1, .int x)]) hxR hbR dX5_least_55 rfl hl (by decide) rfl (fun ls hl => ?_)
          refine lv_iload_n hxR hbR dX5_least_56 rfl (lv_at hl 2 rfl) ?_
          refine lv_if_ne (tgt := 67) hxR hbR dX5_least_57 (by decide) (fun c_57 => ?_) (fun c_57 => ?_)
          · skip
            refine lv_bipush (v := 9) hxR hbR dX5_least_67 (by decide) ?_
            refine lv_iload_n hxR hbR dX5_least_69 rfl (lv_at hl 0 rfl) ?_
            refine lv_bipush (v := 10) hxR hbR dX5_least_70 (by decide) ?_
            refine lv_irem hxR hbR dX5_least_72 (by decide) ?_
            refine lv_isub hxR hbR dX5_least_73 ?_
            generalize wrL (ia 31) 0 (comL (ia 11) n) = z31 at hI
            have hI : wI E AR sR H locs (mW E ad kp tr (va_up iv 30 (nI ((GL K n st).length))) (va_up (va_up (va_up (va_up ia 9 (bumpR (ia 9) (everC x))) 29 (wrL ((ia 29)) 0 (GL K n st))) 31 z31) 36 m36_52) K R mv) := by rw [everC_t c_4, bump_0, va_up_id (f := ia) (k := 9) rfl]; exact hI
            exact hret (nI ((GL K n st).length), wrL ((ia 29)) 0 (GL K n st), z31, m36_52) (9 - ((lsV (GL K n st) (fun j => (comL (ia 11) n).getD j 0) ((ia 12)) ((ia 11)) n 0 0) - (lsV (GL K n st) (fun j => (comL (ia 11) n).getD j 0) ((ia 12)) ((ia 11)) n 0 0) / 10 * 10)) _ _ _ _ _ _ dX5_least_74 hI (by show (9 - ((lsV (GL K n st) (fun j => (comL (ia 11) n).getD j 0) ((ia 12)) ((ia 11)) n 0 0) - (lsV (GL K n st) (fun j => (comL (ia 11) n).getD j 0) ((ia 12)) ((ia 11)) n 0 0) / 10 * 10)) = leastV K (ia 12) (ia 11) n st x; first | (rw [leastV_0 c_57]; unfold lsT; rfl) | (rw [leastV_1 c_4 c_57]; unfold lsT; rfl)) (Nat.le_of_ble_eq_true rfl) (Nat.le_of_ble_eq_true rfl) rfl
          · skip
            refine lv_iload_n hxR hbR dX5_least_60 rfl (lv_at hl 0 rfl) ?_
            refine lv_bipush (v := 10) hxR hbR dX5_least_61 (by decide) ?_
            refine lv_idiv hxR hbR dX5_least_63 (by decide) ?_
            refine lv_goto (tgt := 74) hxR hbR dX5_least_64 (by decide) ?_
            generalize wrL (ia 31) 0 (comL (ia 11) n) = z31 at hI
            have hI : wI E AR sR H locs (mW E ad kp tr (va_up iv 30 (nI ((GL K n st).length))) (va_up (va_up (va_up (va_up ia 9 (bumpR (ia 9) (everC x))) 29 (wrL ((ia 29)) 0 (GL K n st))) 31 z31) 36 m36_52) K R mv) := by rw [everC_t c_4, bump_0, va_up_id (f := ia) (k := 9) rfl]; exact hI
            exact hret (nI ((GL K n st).length), wrL ((ia 29)) 0 (GL K n st), z31, m36_52) ((lsV (GL K n st) (fun j => (comL (ia 11) n).getD j 0) ((ia 12)) ((ia 11)) n 0 0) / 10) _ _ _ _ _ _ dX5_least_74 hI (by show ((lsV (GL K n st) (fun j => (comL (ia 11) n).getD j 0) ((ia 12)) ((ia 11)) n 0 0) / 10) = leastV K (ia 12) (ia 11) n st x; first | (rw [leastV_0 c_57]; unfold lsT; rfl) | (rw [leastV_1 c_4 c_57]; unfold lsT; rfl)) (Nat.le_of_ble_eq_true rfl) (Nat.le_of_ble_eq_true rfl) rfl
        · skip
          have c_33 : j < 1024 := Nat.lt_of_not_le (fun zz => c_33 ((n_le (a := 1024) (b := j) (by omega) (by omega)).mpr zz))
          refine lv_aload_n hxR hbR dX5_least_36 rfl (lv_at hl 0 rfl) ?_
          refine r_get hxR hbR hts hown hK hI okX5 (ci := 5) rfl 16 mW_o 36 (by decide) q1514 rfl (v := .ref (ad 36)) rfl dX5_least_37 ?_
          refine lv_iload_n hxR hbR dX5_least_40 rfl (lv_at hl 2 rfl) ?_
          refine lv_iconst (v := (-1)) hxR hbR dX5_least_41 (by decide) ?_
          refine r_iast (ws1 := mW E ad kp tr (va_up iv 30 (nI ((GL K n st).length))) (va_up (va_up (va_up ia 29 (wrL ((ia 29)) 0 (GL K n st))) 31 (wrL (ia 31) 0 (comL (ia 11) n))) 36 (va_up m j (-1))) K R mv) hxR hbR hK hI 34 (n := 1024) (J := j) (f := m) (mW_g36 va_up_s) (by omega) (by decide) (Eq.trans mW_a36 (mW_c2 up_0)) dX5_least_42 (fun H locs hI => ?_)
          refine lv_iinc (v := nI (j + 1)) (lv' := [(2, .int (nI (j + 1))), (0, .ref (ad 45)), (1, .int x)]) hxR hbR dX5_least_43 hl (k := 2) rfl (show nI j + 1 = nI (j + 1) from nI_add _ 1) (by decide) rfl (fun ls hl => ?_)
          refine lv_goto (tgt := 27) hxR hbR dX5_least_46 (by decide) ?_
          exact ih_27 (j + 1) (va_up m j (-1)) (by first | omega | with_reducible assumption) (lt_s1 hm) (by omega) _ _ hI _ (lv_sub hl [1, 2, 0] rfl)
    exact lp_27 _ 0 (ia 36) (by first | omega | with_reducible assumption) (fun i h => absurd h (Nat.not_lt_zero _)) (Nat.lt_succ_self _) _ _ hI _ (lv_sub hl [1, 2, 0] rfl)
  · skip
    have c_4 : ¬ ((0 : Int64).toInt ≤ x.toInt64.toInt ∧ x.toInt64.toInt ≤ (1 : Int64).toInt) := of_decide_eq_false c_4
    have c_4 : ¬ (0 ≤ x.toInt ∧ x.toInt ≤ 1) := by rw [Int32.toInt_toInt64] at c_4; exact c_4
    refine lv_if_ne (tgt := 17) hxR hbR dX5_least_7 (by decide) (fun c => absurd c (by decide)) (fun _ => ?_)
    refine lv_aload_n hxR hbR dX5_least_10 rfl (lv_at hl 0 rfl) ?_
    refine lv_bipush (v := (-2)) hxR hbR dX5_least_11 (by decide) ?_
    refine kVI (n := 1) (As := [.int (-2)]) (rest := []) (fun w => w) hxR hbR hmlR hts hown hK hA hl.1 isCtx.id hI (c5_refuse l E ad kp tr iv ia K R mv (-2) 2 (by decide) (by decide)) (lw_V q1624 q1626 qs34 q86 q1627) ⟨rfl, by decide +kernel⟩ 16 5 rfl rfl mW_o rfl (Nat.le_of_ble_eq_true rfl) (Nat.le_of_ble_eq_true rfl) ⟨Nat.le_of_ble_eq_true rfl, Nat.le_of_ble_eq_true rfl⟩ (Nat.le_of_ble_eq_true rfl) dX5_least_13 (fun r_13 u H locs hp hI hz => ?_)
    have hI : wI E AR sR H locs (mW E ad kp tr iv (va_up ia 9 (va_up (ia 9) 2 (ia 9 2 + 1))) K R mv) := hI
    have hp : r_13 = (-2) := hp
    have hr_13 := hp
    subst hr_13
    have hI : wI E AR sR H locs (mW E ad kp tr (va_up iv 30 (iv 30)) (va_up (va_up (va_up (va_up ia 9 (bumpR (ia 9) (everC x))) 29 (ia 29)) 31 (ia 31)) 36 (ia 36)) K R mv) := by rw [everC_f c_4, bump_2, va_up_id (f := iv) (k := 30) rfl]; exact hI
    exact hret (iv 30, ia 29, ia 31, ia 36) (-2) _ _ _ _ _ _ dX5_least_16 hI (by show (-2) = leastV K (ia 12) (ia 11) n st x; rw [leastV_f c_4]) (Nat.le_of_ble_eq_true rfl) (Nat.le_of_ble_eq_true rfl) rfl

theorem c5_days (l : Launch) (E : En) (ad : Nat → Nat) (kp : Option Nat) (iv : Nat → Int32) (ia K : Nat → Nat → Int32) (R : Nat → Nat → Int64) (mv : Nat → Int64) (ob : Option (Nat → Nat)) (kpb trb : Option Nat) (ivb : Nat → Int32) (iab Kb : Nat → Nat → Int32) (Rb : Nat → Nat → Int64) (mvb : Nat → Int64) (n st : Nat) (x : Int32) (hn : iv 10 = nI n) (hst : iv 14 = nI st) (hn7 : n ≤ 7) (hs2 : 2 ≤ st) (hs4 : st ≤ 4) (hh : ∀ q, q < n → ∃ x, x < 24 ∧ ia 11 q = nI x) (hkd : ∀ P, P < 8 → ∃ k, k < 100 ∧ ia 5 P = nI k) (hby : ∀ P, P < 8 → ∃ k, k < 100 ∧ ia 6 P = nI k) : CtI l E yX5_days cX5_days 5 .int 300 38 1946 [.ref (ad 45), .int x] (mW E ad kp (oT ob) iv ia K R mv ++ (oM E ob kpb trb ivb iab Kb Rb mvb)) (fun (r : Int32) (u : (Option (Nat → Nat)) × (Option Nat) × (Option Nat) × (Nat → Int32) × (Nat → Nat → Int32) × (Nat → Nat → Int32) × (Nat → Nat → Int64) × (Nat → Int64)) => r = daysV (ia 0) (ia 5) (ia 6) K (ia 12) (ia 11) n st x) (fun (u : (Option (Nat → Nat)) × (Option Nat) × (Option Nat) × (Nat → Int32) × (Nat → Nat → Int32) × (Nat → Nat → Int32) × (Nat → Nat → Int64) × (Nat → Int64)) => mW E ad kp (oT u.1) iv (va_up ia 9 (bumpR (ia 9) (noManV (ia 0) x))) K R mv ++ (oM E u.1 u.2.1 u.2.2.1 u.2.2.2.1 u.2.2.2.2.1 u.2.2.2.2.2.1 u.2.2.2.2.2.2.1 u.2.2.2.2.2.2.2)) := by
  refine CtI.of (by decide +kernel) (Nat.le_of_ble_eq_true rfl) ?_
  intro pR eR sR mR aR bR tR cR AR ls QR hxR hbR hmlR hts hown hlk hnm hA hK hI hl hret
  have hl : lv_has ls 5 [(0, .ref (ad 45)), (1, .int x)] := hl
  refine lv_aload_n hxR hbR dX5_days_0 rfl (lv_at hl 0 rfl) ?_
  refine lv_iload_n hxR hbR dX5_days_1 rfl (lv_at hl 1 rfl) ?_
  refine kVI (n := 1) (As := [.int x]) (rest := []) (fun w => w ++ (oM E ob kpb trb ivb iab Kb Rb mvb)) hxR hbR hmlR hts hown hK hA hl.1 (isCtx.suf _) hI (c5_noMan l E ad kp (oT ob) iv ia K R mv x ) (lw_V q1894 q1896 qs66 q86 q1897) ⟨rfl, by decide +kernel⟩ 16 5 rfl rfl mW_o rfl (Nat.le_of_ble_eq_true rfl) (Nat.le_of_ble_eq_true rfl) ⟨Nat.le_of_ble_eq_true rfl, Nat.le_of_ble_eq_true rfl⟩ (Nat.le_of_ble_eq_true rfl) dX5_days_2 (fun r_2 u H locs hp hI hz => ?_)
  have hI : wI E AR sR H locs (mW E ad kp (oT ob) iv (va_up ia 9 (bumpR (ia 9) (noManV (ia 0) x))) K R mv ++ (oM E ob kpb trb ivb iab Kb Rb mvb)) := hI
  have hp : r_2 = noManV (ia 0) x := hp
  have hr_2 := hp
  subst hr_2
  refine lv_istore_n (lv' := [(2, .int (noManV (ia 0) x)), (0, .ref (ad 45)), (1, .int x)]) hxR hbR dX5_days_5 rfl hl (by decide) rfl (fun ls hl => ?_)
  refine lv_iload_n hxR hbR dX5_days_6 rfl (lv_at hl 0 rfl) ?_
  refine lv_if_eq (tgt := 12) hxR hbR dX5_days_7 (by decide) (fun c_7 => ?_) (fun c_7 => ?_)
  · skip
    obtain ⟨P, hP, rfl⟩ := nm8 c_7
    refine lv_aload_n hxR hbR dX5_days_12 rfl (lv_at hl 1 rfl) ?_
    obtain ⟨kd, hkd1, hkd2⟩ := hkd P hP
    obtain ⟨k9, hk91, hk92⟩ := hby P hP
    refine kVR (n := 0) (As := []) (rest := []) (fun w => w) hxR hbR hmlR hts hown hK hA hl.1 isCtx.id hI (c5_fresh l E ad kp iv (va_up ia 9 (bumpR (ia 9) (noManV (ia 0) (nI P)))) K R mv ob kpb trb ivb iab Kb Rb mvb) (lw_V q1759 q1761 qs50 q86 q1762) ⟨rfl, by decide +kernel⟩ 16 5 rfl rfl (he_l mW_o) rfl (Nat.le_of_ble_eq_true rfl) (Nat.le_of_ble_eq_true rfl) ⟨Nat.le_of_ble_eq_true rfl, Nat.le_of_ble_eq_true rfl⟩ (Nat.le_of_ble_eq_true rfl) dX5_days_13 (fun u r_13 H locs hp hI hz => ?_)
    obtain ⟨adN_13, kpN_13, trN_13, ivN_13, iaN_13, RN_13, mvN_13⟩ := u
    have hp : ivN_13 10 = iv 10 ∧ ivN_13 14 = iv 14 ∧ ivN_13 15 = iv 15 ∧ ivN_13 16 = iv 16 ∧ ivN_13 17 = iv 17 ∧ ivN_13 18 = iv 18 ∧ ivN_13 19 = iv 19 ∧ iaN_13 11 = ia 11 ∧ iaN_13 12 = ia 12 := hp
    obtain ⟨hv10_13, hv14_13, hv15_13, hv16_13, hv17_13, hv18_13, hv19_13, ha11_13, ha12_13⟩ := hp
    have hI : wI E AR sR H locs (mW E ad kp (some r_13) iv (va_up ia 9 (bumpR (ia 9) (noManV (ia 0) (nI P)))) K R mv ++ (mW E (va_up adN_13 45 r_13) kpN_13 trN_13 ivN_13 iaN_13 K RN_13 mvN_13)) := hI
    generalize hadb_13 : va_up adN_13 45 r_13 = adb_13 at hI
    have e_13 : r_13 = adb_13 45 := by rw [← hadb_13, va_up_s]
    clear hadb_13
    subst e_13
    refine lv_astore_n (lv' := [(3, .ref (adb_13 45)), (2, .int (noManV (ia 0) (nI P))), (0, .ref (ad 45)), (1, .int (nI P))]) hxR hbR dX5_days_16 rfl hl (by decide) rfl (fun ls hl => ?_)
    refine lv_iconst (v := 0) hxR hbR dX5_days_17 (by decide) ?_
    refine lv_istore (lv' := [(4, .int 0), (3, .ref (adb_13 45)), (2, .int (noManV (ia 0) (nI P))), (0, .ref (ad 45)), (1, .int (nI P))]) hxR hbR dX5_days_18 hl (by decide) rfl (fun ls hl => ?_)
    have lp_20 : ∀ (fu : Nat) (i : Nat) (ivx : Nat → Int32) (iax : Nat → Nat → Int32) (Kx : Nat → Nat → Int32), (i ≤ 30) → (ivx 10 = nI n) → (ivx 14 = nI st) → (iax 11 = ia 11) → (iax 12 = ia 12) → (i + daysN (ia 12) (ia 11) n st kd k9 (30 - i) Kx = daysN (ia 12) (ia 11) n st kd k9 30 K) → 30 - i < fu → ∀ (H : Heap) (locs : List Loc), wI E AR sR H locs (mW E ad kp (some (adb_13 45)) iv (va_up ia 9 (bumpR (ia 9) (noManV (ia 0) (nI P)))) K R mv ++ (mW E adb_13 kpN_13 trN_13 ivx iax Kx RN_13 mvN_13)) → ∀ ls : Array Slot, lv_has ls 5 [(0, .ref (ad 45)), (1, .int (nI P)), (2, .int (noManV (ia 0) (nI P))), (3, .ref (adb_13 45)), (4, .int (nI i))] → W pR l eR (rmF 300 38 1946) sR mR aR bR tR cR H locs 38 1946 QR (F0 mR 20 ls []) := by
      intro fu
      induction fu with
      | zero =>
        intro i ivx iax Kx hi hb10 hb14 hb11 hb12 hT hfu
        exact absurd hfu (Nat.not_lt_zero _)
      | succ fu ih_20 =>
        intro i ivx iax Kx hi hb10 hb14 hb11 hb12 hT hfu H locs hI ls hl
        refine lv_iload hxR hbR dX5_days_20 (lv_at hl 4 rfl) ?_
        refine lv_bipush (v := 30) hxR hbR dX5_days_22 (by decide) ?_
        refine lv_icmp_ge (tgt := 52) hxR hbR dX5_days_24 (by decide) (fun c_24 => ?_) (fun c_24 => ?_)
        · skip
          have c_24 : 30 ≤ i := (n_le (a := 30) (b := i) (by omega) (by omega)).mp c_24
          refine lv_iload hxR hbR dX5_days_52 (lv_at hl 4 rfl) ?_
          have hI : wI E AR sR H locs (mW E ad kp (oT (some adb_13)) iv (va_up ia 9 (bumpR (ia 9) (noManV (ia 0) (nI P)))) K R mv ++ (oM E (some adb_13) kpN_13 trN_13 ivx iax Kx RN_13 mvN_13)) := by exact hI
          exact hret ((some adb_13), kpN_13, trN_13, ivx, iax, Kx, RN_13, mvN_13) (nI i) _ _ _ _ _ _ dX5_days_54 hI (by show (nI i) = daysV (ia 0) (ia 5) (ia 6) K (ia 12) (ia 11) n st (nI P); rw [daysV_y c_7 hP hkd2 hkd1 hk92 hk91]; first | rw [daysN_t c_24 hT] | (rw [hb11, hb12] at c_43; rw [daysN_e c_24 hT c_43])) (Nat.le_of_ble_eq_true rfl) (Nat.le_of_ble_eq_true rfl) rfl
        · skip
          have c_24 : i < 30 := Nat.lt_of_not_le (fun zz => c_24 ((n_le (a := 30) (b := i) (by omega) (by omega)).mpr zz))
          refine lv_aload_n hxR hbR dX5_days_27 rfl (lv_at hl 3 rfl) ?_
          refine lv_aload_n hxR hbR dX5_days_28 rfl (lv_at hl 0 rfl) ?_
          refine r_get hxR hbR hts hown hK hI okX5 (ci := 5) rfl 16 (he_l mW_o) 5 (by decide) q1483 rfl (v := .ref (ad 5)) rfl dX5_days_29 ?_
          refine lv_iload_n hxR hbR dX5_days_32 rfl (lv_at hl 1 rfl) ?_
          refine r_iald hxR hbR hK hI 22 (n := 8) (J := P) (f := ia 5) (v := nI kd) (he_l (mW_g5 (up_n (by decide) rfl))) (by omega) (by decide) hkd2 dX5_days_33 ?_
          refine lv_aload_n hxR hbR dX5_days_34 rfl (lv_at hl 0 rfl) ?_
          refine r_get hxR hbR hts hown hK hI okX5 (ci := 5) rfl 16 (he_l mW_o) 6 (by decide) q1484 rfl (v := .ref (ad 6)) rfl dX5_days_35 ?_
          refine lv_iload_n hxR hbR dX5_days_38 rfl (lv_at hl 1 rfl) ?_
          refine r_iald hxR hbR hK hI 23 (n := 8) (J := P) (f := ia 6) (v := nI k9) (he_l (mW_g6 (up_n (by decide) rfl))) (by omega) (by decide) hk92 dX5_days_39 ?_
          have hdi := dayP_inv (K := Kx) (cost := iax 12) (hour := iax 11) (st := st) (kd := kd) (a := k9) (w0 := iax 35) hn7 (fun q hq => by rw [hb11]; exact hh q hq) n (Nat.le_refl n)
          refine kVI (n := 2) (As := [.int (nI kd), .int (nI k9)]) (rest := []) (fun w => (mW E ad kp (some (adb_13 45)) iv (va_up ia 9 (bumpR (ia 9) (noManV (ia 0) (nI P)))) K R mv) ++ w) hxR hbR hmlR hts hown hK hA hl.1 (isCtx.pre _) hI (c5_dayOf l E adb_13 kpN_13 trN_13 ivx iax Kx RN_13 mvN_13 n st kd k9 hb10 hb14 (by first | omega | with_reducible assumption) (by first | omega | with_reducible assumption) (by first | omega | with_reducible assumption) (by first | omega | with_reducible assumption) (by first | omega | with_reducible assumption) (fun q hq => by rw [hb11]; exact hh q hq)) (lw_V q1942 q1944 qs71 q86 q1945) ⟨rfl, by decide +kernel⟩ 16 5 rfl rfl mW_o rfl (Nat.le_of_ble_eq_true rfl) (Nat.le_of_ble_eq_true rfl) ⟨Nat.le_of_ble_eq_true rfl, Nat.le_of_ble_eq_true rfl⟩ (Nat.le_of_ble_eq_true rfl) dX5_days_40 (fun r_40 u H locs hp hI hz => ?_)
          obtain ⟨c30_40, g29_40⟩ := u
          have hI : wI E AR sR H locs (mW E ad kp (some (adb_13 45)) iv (va_up ia 9 (bumpR (ia 9) (noManV (ia 0) (nI P)))) K R mv ++ (mW E adb_13 kpN_13 trN_13 (va_up (va_up (va_up ivx 30 c30_40) 33 (nI ((dayP Kx (iax 12) (iax 11) n st kd k9 (iax 35) n).1.length))) 34 (nI ((dayP Kx (iax 12) (iax 11) n st kd k9 (iax 35) n).2.1))) (va_up (va_up (va_up (va_up iax 29 g29_40) 31 (wrL (iax 31) 0 (comL (iax 11) n))) 32 (wrL (iax 32) 0 (dayP Kx (iax 12) (iax 11) n st kd k9 (iax 35) n).1)) 35 (leaveW (iax 12) (iax 11) 24 (dayP Kx (iax 12) (iax 11) n st kd k9 (iax 35) n).2.1 n (dayP Kx (iax 12) (iax 11) n st kd k9 (iax 35) n).2.2)) (meetsK n Kx (dayP Kx (iax 12) (iax 11) n st kd k9 (iax 35) n).1) RN_13 mvN_13)) := hI
          have hp : r_40 = nI ((dayP Kx (iax 12) (iax 11) n st kd k9 (iax 35) n).1.length) := hp
          have hr_40 := hp
          subst hr_40
          refine lv_if_le (tgt := 52) hxR hbR dX5_days_43 (by decide) (fun c_43 => ?_) (fun c_43 => ?_)
          · skip
            have c_43 : ((dayP Kx (iax 12) (iax 11) n st kd k9 (iax 35) n).1.length) ≤ 0 := (n_le (a := ((dayP Kx (iax 12) (iax 11) n st kd k9 (iax 35) n).1.length)) (b := 0) (by omega) (by omega)).mp c_43
            refine lv_iload hxR hbR dX5_days_52 (lv_at hl 4 rfl) ?_
            have hI : wI E AR sR H locs (mW E ad kp (oT (some adb_13)) iv (va_up ia 9 (bumpR (ia 9) (noManV (ia 0) (nI P)))) K R mv ++ (oM E (some adb_13) kpN_13 trN_13 (va_up (va_up (va_up ivx 30 c30_40) 33 (nI ((dayP Kx (iax 12) (iax 11) n st kd k9 (iax 35) n).1.length))) 34 (nI ((dayP Kx (iax 12) (iax 11) n st kd k9 (iax 35) n).2.1))) (va_up (va_up (va_up (va_up iax 29 g29_40) 31 (wrL (iax 31) 0 (comL (iax 11) n))) 32 (wrL (iax 32) 0 (dayP Kx (iax 12) (iax 11) n st kd k9 (iax 35) n).1)) 35 (leaveW (iax 12) (iax 11) 24 (dayP Kx (iax 12) (iax 11) n st kd k9 (iax 35) n).2.1 n (dayP Kx (iax 12) (iax 11) n st kd k9 (iax 35) n).2.2)) (meetsK n Kx (dayP Kx (iax 12) (iax 11) n st kd k9 (iax 35) n).1) RN_13 mvN_13)) := by exact hI
            exact hret ((some adb_13), kpN_13, trN_13, (va_up (va_up (va_up ivx 30 c30_40) 33 (nI ((dayP Kx (iax 12) (iax 11) n st kd k9 (iax 35) n).1.length))) 34 (nI ((dayP Kx (iax 12) (iax 11) n st kd k9 (iax 35) n).2.1))), (va_up (va_up (va_up (va_up iax 29 g29_40) 31 (wrL (iax 31) 0 (comL (iax 11) n))) 32 (wrL (iax 32) 0 (dayP Kx (iax 12) (iax 11) n st kd k9 (iax 35) n).1)) 35 (leaveW (iax 12) (iax 11) 24 (dayP Kx (iax 12) (iax 11) n st kd k9 (iax 35) n).2.1 n (dayP Kx (iax 12) (iax 11) n st kd k9 (iax 35) n).2.2)), meetsK n Kx (dayP Kx (iax 12) (iax 11) n st kd k9 (iax 35) n).1, RN_13, mvN_13) (nI i) _ _ _ _ _ _ dX5_days_54 hI (by show (nI i) = daysV (ia 0) (ia 5) (ia 6) K (ia 12) (ia 11) n st (nI P); rw [daysV_y c_7 hP hkd2 hkd1 hk92 hk91]; first | rw [daysN_t c_24 hT] | (rw [hb11, hb12] at c_43; rw [daysN_e c_24 hT c_43])) (Nat.le_of_ble_eq_true rfl) (Nat.le_of_ble_eq_true rfl) rfl
          · skip
            have c_43 : 0 < ((dayP Kx (iax 12) (iax 11) n st kd k9 (iax 35) n).1.length) := Nat.lt_of_not_le (fun zz => c_43 ((n_le (a := ((dayP Kx (iax 12) (iax 11) n st kd k9 (iax 35) n).1.length)) (b := 0) (by omega) (by omega)).mpr zz))
            refine lv_iinc (v := nI (i + 1)) (lv' := [(4, .int (nI (i + 1))), (0, .ref (ad 45)), (1, .int (nI P)), (2, .int (noManV (ia 0) (nI P))), (3, .ref (adb_13 45))]) hxR hbR dX5_days_46 hl (k := 4) rfl (show nI i + 1 = nI (i + 1) from nI_add _ 1) (by decide) rfl (fun ls hl => ?_)
            refine lv_goto (tgt := 20) hxR hbR dX5_days_49 (by decide) ?_
            exact ih_20 (i + 1) (va_up (va_up (va_up ivx 30 c30_40) 33 (nI ((dayP Kx (iax 12) (iax 11) n st kd k9 (iax 35) n).1.length))) 34 (nI ((dayP Kx (iax 12) (iax 11) n st kd k9 (iax 35) n).2.1))) (va_up (va_up (va_up (va_up iax 29 g29_40) 31 (wrL (iax 31) 0 (comL (iax 11) n))) 32 (wrL (iax 32) 0 (dayP Kx (iax 12) (iax 11) n st kd k9 (iax 35) n).1)) 35 (leaveW (iax 12) (iax 11) 24 (dayP Kx (iax 12) (iax 11) n st kd k9 (iax 35) n).2.1 n (dayP Kx (iax 12) (iax 11) n st kd k9 (iax 35) n).2.2)) (meetsK n Kx (dayP Kx (iax 12) (iax 11) n st kd k9 (iax 35) n).1) (by first | omega | with_reducible assumption) (up_n (by decide) (up_n (by decide) (up_n (by decide) hb10))) (up_n (by decide) (up_n (by decide) (up_n (by decide) hb14))) (up_n (by decide) (up_n (by decide) (up_n (by decide) (up_n (by decide) hb11)))) (up_n (by decide) (up_n (by decide) (up_n (by decide) (up_n (by decide) hb12)))) (by rw [hb11, hb12] at c_43 ⊢; exact daysN_s c_24 hT c_43) (by omega) _ _ hI _ (lv_sub hl [1, 2, 3, 4, 0] rfl)
    exact lp_20 _ 0 ivN_13 iaN_13 K (by first | omega | with_reducible assumption) (Eq.trans hv10_13 hn) (Eq.trans hv14_13 hst) ha11_13 ha12_13 (Nat.zero_add _) (Nat.lt_succ_self _) _ _ hI _ (lv_sub hl [3, 4, 2, 1, 0] rfl)
  · skip
    refine lv_iload_n hxR hbR dX5_days_10 rfl (lv_at hl 0 rfl) ?_
    have hI : wI E AR sR H locs (mW E ad kp (oT ob) iv (va_up ia 9 (bumpR (ia 9) (noManV (ia 0) x))) K R mv ++ (oM E ob kpb trb ivb iab Kb Rb mvb)) := by exact hI
    exact hret (ob, kpb, trb, ivb, iab, Kb, Rb, mvb) (noManV (ia 0) x) _ _ _ _ _ _ dX5_days_11 hI (by show (noManV (ia 0) x) = daysV (ia 0) (ia 5) (ia 6) K (ia 12) (ia 11) n st x; rw [daysV_n c_7]) (Nat.le_of_ble_eq_true rfl) (Nat.le_of_ble_eq_true rfl) rfl
