theorem mW_sameR {E : En} {ad : Nat → Nat} {kp tr : Option Nat} {iv : Nat → Int32} {ia K : Nat → Nat → Int32} {R R' : Nat → Nat → Int64} {mv : Nat → Int64} (hR : ∀ p, p < 8 → ∀ j, j < 40 → R p j = R' p j) :
    sameW (mW E ad kp tr iv ia K R mv) (mW E ad kp tr iv ia K R' mv) := ⟨rfl, sameC.rf _, ⟨rfl, sameC.rf _, ⟨rfl, sameC.rf _, ⟨rfl, sameC.rf _, ⟨rfl, sameC.rf _, ⟨rfl, sameC.rf _, ⟨rfl, sameC.rf _, ⟨rfl, sameC.rf _, ⟨rfl, sameC.l (hR 0 (by decide)), ⟨rfl, sameC.l (hR 1 (by decide)), ⟨rfl, sameC.l (hR 2 (by decide)), ⟨rfl, sameC.l (hR 3 (by decide)), ⟨rfl, sameC.l (hR 4 (by decide)), ⟨rfl, sameC.l (hR 5 (by decide)), ⟨rfl, sameC.l (hR 6 (by decide)), ⟨rfl, sameC.l (hR 7 (by decide)), ⟨rfl, sameC.rf _, ⟨rfl, sameC.rf _, ⟨rfl, sameC.rf _, ⟨rfl, sameC.rf _, ⟨rfl, sameC.rf _, ⟨rfl, sameC.rf _, ⟨rfl, sameC.rf _, ⟨rfl, sameC.rf _, ⟨rfl, sameC.rf _, ⟨rfl, sameC.rf _, ⟨rfl, sameC.rf _, ⟨rfl, sameC.rf _, ⟨rfl, sameC.rf _, ⟨rfl, sameC.rf _, ⟨rfl, sameC.rf _, ⟨rfl, sameC.rf _, ⟨rfl, sameC.rf _, ⟨rfl, sameC.rf _, ⟨rfl, sameC.rf _, ⟨rfl, sameC.rf _, ⟨rfl, sameC.rf _, ⟨rfl, sameC.rf _, trivial⟩⟩⟩⟩⟩⟩⟩⟩⟩⟩⟩⟩⟩⟩⟩⟩⟩⟩⟩⟩⟩⟩⟩⟩⟩⟩⟩⟩⟩⟩⟩⟩⟩⟩⟩⟩⟩⟩

theorem c5_person (l : Launch) (E : En) (ad : Nat → Nat) (kp tr : Option Nat) (iv : Nat → Int32) (ia K : Nat → Nat → Int32) (R : Nat → Nat → Int64) (mv : Nat → Int64) (n : Nat) (x y : Int32) (hn : iv 10 = nI n) (hn7 : n ≤ 7) : CtI l E yX5_person cX5_person 3 .int 3 0 0 [.ref (ad 45), .int x, .int y] (mW E ad kp tr iv ia K R mv) (fun (r : Int32) (u : Unit) => r = gd (personC n x y) (nI n) (personC n x y)) (fun (u : Unit) => mW E ad kp tr (va_up iv 10 (gd (personC n x y) (nI (n + 1)) (iv 10))) (va_up (va_up (va_up ia 9 (bumpR (ia 9) (personC n x y))) 11 (gd (personC n x y) (va_up (ia 11) n x) (ia 11))) 12 (gd (personC n x y) (va_up (ia 12) n y) (ia 12))) (gd (personC n x y) (newK K n n) K) R mv) := by
  refine CtI.of (by decide +kernel) (Nat.le_of_ble_eq_true rfl) ?_
  intro pR eR sR mR aR bR tR cR AR ls QR hxR hbR hmlR hts hown hlk hnm hA hK hI hl hret
  have hl : lv_has ls 3 [(0, .ref (ad 45)), (1, .int x), (2, .int y)] := hl
  refine lv_iload_n hxR hbR dX5_person_0 rfl (lv_at hl 1 rfl) ?_
  refine lv_i2l (v := x.toInt64) hxR hbR dX5_person_1 rfl ?_
  refine lv_lconst (v := 0) hxR hbR dX5_person_2 (by decide) ?_
  refine lv_ldc2 (v := 23) hxR hbR hown (hts _ q1714) dX5_person_3 ?_
  refine kSI (n := 3) (As := [.long x.toInt64, .long (0 : Int64), .long (23 : Int64)]) (rest := []) (fun w => w ++ (mW E ad kp tr iv ia K R mv)) hxR hbR hmlR hts hown hK hA hl.1 (isCtx.suf _) hI (c5_in l E  x.toInt64 (0 : Int64) (23 : Int64) ) (lw_S q1619 q1620 q86 q1621) (by decide +kernel) rfl (Nat.le_of_ble_eq_true rfl) (Nat.le_of_ble_eq_true rfl) ⟨Nat.le_of_ble_eq_true rfl, Nat.le_of_ble_eq_true rfl⟩ (Nat.le_of_ble_eq_true rfl) dX5_person_6 (fun r_6 u H locs hp hI hz => ?_)
  have hI : wI E AR sR H locs (mW E ad kp tr iv ia K R mv) := hI
  have hp : r_6 = b2i (inL x.toInt64 (0 : Int64) (23 : Int64)) := hp
  have hr_6 := hp
  rcases b2i_cases hr_6 with ⟨c_6, rfl⟩ | ⟨c_6, rfl⟩
  · skip
    have c_6 : (0 : Int64).toInt ≤ x.toInt64.toInt ∧ x.toInt64.toInt ≤ (23 : Int64).toInt := of_decide_eq_true c_6
    have c_6 : 0 ≤ x.toInt ∧ x.toInt ≤ 23 := by simp only [Int32.toInt_toInt64] at c_6; exact c_6
    refine lv_if_eq (tgt := 24) hxR hbR dX5_person_9 (by decide) (fun c => absurd c (by decide)) (fun _ => ?_)
    refine lv_iload_n hxR hbR dX5_person_12 rfl (lv_at hl 2 rfl) ?_
    refine lv_i2l (v := y.toInt64) hxR hbR dX5_person_13 rfl ?_
    refine lv_lconst (v := 0) hxR hbR dX5_person_14 (by decide) ?_
    refine lv_ldc2 (v := 9) hxR hbR hown (hts _ q1656) dX5_person_15 ?_
    refine kSI (n := 3) (As := [.long y.toInt64, .long (0 : Int64), .long (9 : Int64)]) (rest := []) (fun w => w ++ (mW E ad kp tr iv ia K R mv)) hxR hbR hmlR hts hown hK hA hl.1 (isCtx.suf _) hI (c5_in l E  y.toInt64 (0 : Int64) (9 : Int64) ) (lw_S q1619 q1620 q86 q1621) (by decide +kernel) rfl (Nat.le_of_ble_eq_true rfl) (Nat.le_of_ble_eq_true rfl) ⟨Nat.le_of_ble_eq_true rfl, Nat.le_of_ble_eq_true rfl⟩ (Nat.le_of_ble_eq_true rfl) dX5_person_18 (fun r_18 u H locs hp hI hz => ?_)
    have hI : wI E AR sR H locs (mW E ad kp tr iv ia K R mv) := hI
    have hp : r_18 = b2i (inL y.toInt64 (0 : Int64) (9 : Int64)) := hp
    have hr_18 := hp
    rcases b2i_cases hr_18 with ⟨c_18, rfl⟩ | ⟨c_18, rfl⟩
    · skip
      have c_18 : (0 : Int64).toInt ≤ y.toInt64.toInt ∧ y.toInt64.toInt ≤ (9 : Int64).toInt := of_decide_eq_true c_18
      have c_18 : 0 ≤ y.toInt ∧ y.toInt ≤ 9 := by simp only [Int32.toInt_toInt64] at c_18; exact c_18
      refine lv_if_ne (tgt := 31) hxR hbR dX5_person_21 (by decide) (fun _ => ?_) (fun c => absurd c (by decide))
      refine lv_aload_n hxR hbR dX5_person_31 rfl (lv_at hl 0 rfl) ?_
      refine r_get hxR hbR hts hown hK hI okX5 (ci := 5) rfl 16 mW_o 10 (by decide) q1488 rfl (v := .int (nI n)) (al hn) dX5_person_32 ?_
      refine lv_bipush (v := 7) hxR hbR dX5_person_35 (by decide) ?_
      refine lv_icmp_ne (tgt := 47) hxR hbR dX5_person_37 (by decide) (fun c_37 => ?_) (fun c_37 => ?_)
      · skip
        have c_37 : ¬ n = 7 := fun zz => c_37 ((n_eq (a := n) (b := 7) (by omega) (by omega)).mpr zz)
        refine lv_aload_n hxR hbR dX5_person_47 rfl (lv_at hl 0 rfl) ?_
        refine lv_iload_n hxR hbR dX5_person_48 rfl (lv_at hl 1 rfl) ?_
        refine lv_iload_n hxR hbR dX5_person_49 rfl (lv_at hl 2 rfl) ?_
        refine kVV (n := 2) (As := [.int x, .int y]) (rest := []) (fun w => w) hxR hbR hmlR hts hown hK hA hl.1 isCtx.id hI (c5_addOne l E ad kp tr iv ia K R mv n x y hn hn7) (lw_V q1715 q1717 qs46 q86 q1718) ⟨rfl, by decide +kernel⟩ 16 5 rfl rfl mW_o rfl (Nat.le_of_ble_eq_true rfl) (Nat.le_of_ble_eq_true rfl) ⟨Nat.le_of_ble_eq_true rfl, Nat.le_of_ble_eq_true rfl⟩ (Nat.le_of_ble_eq_true rfl) dX5_person_50 (fun u H locs hp hI hz => ?_)
        have hI : wI E AR sR H locs (mW E ad kp tr (va_up iv 10 (nI (n + 1))) (va_up (va_up ia 11 (va_up (ia 11) n x)) 12 (va_up (ia 12) n y)) (newK K n n) R mv) := hI
        refine lv_aload_n hxR hbR dX5_person_53 rfl (lv_at hl 0 rfl) ?_
        refine r_get hxR hbR hts hown hK hI okX5 (ci := 5) rfl 16 mW_o 10 (by decide) q1488 rfl (v := .int (nI (n + 1))) (al va_up_s) dX5_person_54 ?_
        refine lv_iconst (v := 1) hxR hbR dX5_person_57 (by decide) ?_
        refine lv_isub hxR hbR dX5_person_58 ?_
        refine lv_as (y := nI n) (nI_sub1 n) ?_
        have hC : personC n x y = 0 := by
          clear hret hI
          unfold personC
          repeat' split
          all_goals first | rfl | (exfalso; omega) | contradiction | (exfalso; simp_all; done) | simp_all
        have eiv10 : gd (personC n x y) (nI (n + 1)) (iv 10) = nI (n + 1) := by rw [hC]; first | rfl | (simp only [gd_0]; split <;> first | rfl | contradiction)
        have eia9 : bumpR (ia 9) (personC n x y) = ia 9 := by rw [hC]; exact bump_0 _
        have eia11 : gd (personC n x y) (va_up (ia 11) n x) (ia 11) = va_up (ia 11) n x := by rw [hC]; first | rfl | (simp only [gd_0]; split <;> first | rfl | contradiction)
        have eia12 : gd (personC n x y) (va_up (ia 12) n y) (ia 12) = va_up (ia 12) n y := by rw [hC]; first | rfl | (simp only [gd_0]; split <;> first | rfl | contradiction)
        have eK : gd (personC n x y) (newK K n n) K = newK K n n := by rw [hC]; first | rfl | (simp only [gd_0]; split <;> first | rfl | contradiction)
        have hI := wI_w (ws' := mW E ad kp tr (va_up iv 10 (gd (personC n x y) (nI (n + 1)) (iv 10))) (va_up (va_up (va_up ia 9 (bumpR (ia 9) (personC n x y))) 11 (gd (personC n x y) (va_up (ia 11) n x) (ia 11))) 12 (gd (personC n x y) (va_up (ia 12) n y) (ia 12))) (gd (personC n x y) (newK K n n) K) R mv) (by rw [eiv10, eia9, eia11, eia12, eK, va_up_id (f := ia) (k := 9) (v := ia 9) rfl]; try rfl) hI
        exact hret () (nI n) _ _ 0 0 _ _ dX5_person_59 hI (by show (nI n) = gd (personC n x y) (nI n) (personC n x y); rw [hC]; first | rfl | (simp only [gd_0]; split <;> first | rfl | contradiction)) (Nat.le_of_ble_eq_true rfl) (Nat.le_of_ble_eq_true rfl) rfl
      · skip
        have c_37 : n = 7 := (n_eq (a := n) (b := 7) (by omega) (by omega)).mp c_37
        refine lv_aload_n hxR hbR dX5_person_40 rfl (lv_at hl 0 rfl) ?_
        refine lv_bipush (v := (-6)) hxR hbR dX5_person_41 (by decide) ?_
        refine kVI (n := 1) (As := [.int (-6)]) (rest := []) (fun w => w) hxR hbR hmlR hts hown hK hA hl.1 isCtx.id hI (c5_refuse l E ad kp tr iv ia K R mv (-6) 6 (by decide) (by decide)) (lw_V q1624 q1626 qs34 q86 q1627) ⟨rfl, by decide +kernel⟩ 16 5 rfl rfl mW_o rfl (Nat.le_of_ble_eq_true rfl) (Nat.le_of_ble_eq_true rfl) ⟨Nat.le_of_ble_eq_true rfl, Nat.le_of_ble_eq_true rfl⟩ (Nat.le_of_ble_eq_true rfl) dX5_person_43 (fun r_43 u H locs hp hI hz => ?_)
        have hI : wI E AR sR H locs (mW E ad kp tr iv (va_up ia 9 (va_up (ia 9) 6 (ia 9 6 + 1))) K R mv) := hI
        have hp : r_43 = (-6) := hp
        have hr_43 := hp
        subst hr_43
        have hC : personC n x y = (-6) := by
          clear hret hI
          unfold personC
          repeat' split
          all_goals first | rfl | (exfalso; omega) | contradiction | (exfalso; simp_all; done) | simp_all
        have eiv10 : gd (personC n x y) (nI (n + 1)) (iv 10) = iv 10 := by rw [hC]; first | rfl | (simp only [gd_0]; split <;> first | rfl | contradiction)
        have eia9 : bumpR (ia 9) (personC n x y) = va_up (ia 9) 6 (ia 9 6 + 1) := by rw [hC]; exact bump_6 _
        have eia11 : gd (personC n x y) (va_up (ia 11) n x) (ia 11) = ia 11 := by rw [hC]; first | rfl | (simp only [gd_0]; split <;> first | rfl | contradiction)
        have eia12 : gd (personC n x y) (va_up (ia 12) n y) (ia 12) = ia 12 := by rw [hC]; first | rfl | (simp only [gd_0]; split <;> first | rfl | contradiction)
        have eK : gd (personC n x y) (newK K n n) K = K := by rw [hC]; first | rfl | (simp only [gd_0]; split <;> first | rfl | contradiction)
        have hI := wI_w (ws' := mW E ad kp tr (va_up iv 10 (gd (personC n x y) (nI (n + 1)) (iv 10))) (va_up (va_up (va_up ia 9 (bumpR (ia 9) (personC n x y))) 11 (gd (personC n x y) (va_up (ia 11) n x) (ia 11))) 12 (gd (personC n x y) (va_up (ia 12) n y) (ia 12))) (gd (personC n x y) (newK K n n) K) R mv) (by rw [eiv10, eia9, eia11, eia12, eK, va_up_id (f := iv) (k := 10) (v := iv 10) rfl, va_up_id (f := (va_up ia 9 (va_up (ia 9) 6 (ia 9 6 + 1)))) (k := 11) (v := ia 11) (up_n (by decide) rfl), va_up_id (f := (va_up ia 9 (va_up (ia 9) 6 (ia 9 6 + 1)))) (k := 12) (v := ia 12) (up_n (by decide) rfl)]; try rfl) hI
        exact hret () (-6) _ _ 0 0 _ _ dX5_person_46 hI (by show (-6) = gd (personC n x y) (nI n) (personC n x y); rw [hC]; first | rfl | (simp only [gd_0]; split <;> first | rfl | contradiction)) (Nat.le_of_ble_eq_true rfl) (Nat.le_of_ble_eq_true rfl) rfl
    · skip
      have c_18 : ¬ ((0 : Int64).toInt ≤ y.toInt64.toInt ∧ y.toInt64.toInt ≤ (9 : Int64).toInt) := of_decide_eq_false c_18
      have c_18 : ¬ (0 ≤ y.toInt ∧ y.toInt ≤ 9) := by simp only [Int32.toInt_toInt64] at c_18; exact c_18
      refine lv_if_ne (tgt := 31) hxR hbR dX5_person_21 (by decide) (fun c => absurd c (by decide)) (fun _ => ?_)
      refine lv_aload_n hxR hbR dX5_person_24 rfl (lv_at hl 0 rfl) ?_
      refine lv_bipush (v := (-2)) hxR hbR dX5_person_25 (by decide) ?_
      refine kVI (n := 1) (As := [.int (-2)]) (rest := []) (fun w => w) hxR hbR hmlR hts hown hK hA hl.1 isCtx.id hI (c5_refuse l E ad kp tr iv ia K R mv (-2) 2 (by decide) (by decide)) (lw_V q1624 q1626 qs34 q86 q1627) ⟨rfl, by decide +kernel⟩ 16 5 rfl rfl mW_o rfl (Nat.le_of_ble_eq_true rfl) (Nat.le_of_ble_eq_true rfl) ⟨Nat.le_of_ble_eq_true rfl, Nat.le_of_ble_eq_true rfl⟩ (Nat.le_of_ble_eq_true rfl) dX5_person_27 (fun r_27 u H locs hp hI hz => ?_)
      have hI : wI E AR sR H locs (mW E ad kp tr iv (va_up ia 9 (va_up (ia 9) 2 (ia 9 2 + 1))) K R mv) := hI
      have hp : r_27 = (-2) := hp
      have hr_27 := hp
      subst hr_27
      have hC : personC n x y = (-2) := by
        clear hret hI
        unfold personC
        repeat' split
        all_goals first | rfl | (exfalso; omega) | contradiction | (exfalso; simp_all; done) | simp_all
      have eiv10 : gd (personC n x y) (nI (n + 1)) (iv 10) = iv 10 := by rw [hC]; first | rfl | (simp only [gd_0]; split <;> first | rfl | contradiction)
      have eia9 : bumpR (ia 9) (personC n x y) = va_up (ia 9) 2 (ia 9 2 + 1) := by rw [hC]; exact bump_2 _
      have eia11 : gd (personC n x y) (va_up (ia 11) n x) (ia 11) = ia 11 := by rw [hC]; first | rfl | (simp only [gd_0]; split <;> first | rfl | contradiction)
      have eia12 : gd (personC n x y) (va_up (ia 12) n y) (ia 12) = ia 12 := by rw [hC]; first | rfl | (simp only [gd_0]; split <;> first | rfl | contradiction)
      have eK : gd (personC n x y) (newK K n n) K = K := by rw [hC]; first | rfl | (simp only [gd_0]; split <;> first | rfl | contradiction)
      have hI := wI_w (ws' := mW E ad kp tr (va_up iv 10 (gd (personC n x y) (nI (n + 1)) (iv 10))) (va_up (va_up (va_up ia 9 (bumpR (ia 9) (personC n x y))) 11 (gd (personC n x y) (va_up (ia 11) n x) (ia 11))) 12 (gd (personC n x y) (va_up (ia 12) n y) (ia 12))) (gd (personC n x y) (newK K n n) K) R mv) (by rw [eiv10, eia9, eia11, eia12, eK, va_up_id (f := iv) (k := 10) (v := iv 10) rfl, va_up_id (f := (va_up ia 9 (va_up (ia 9) 2 (ia 9 2 + 1)))) (k := 11) (v := ia 11) (up_n (by decide) rfl), va_up_id (f := (va_up ia 9 (va_up (ia 9) 2 (ia 9 2 + 1)))) (k := 12) (v := ia 12) (up_n (by decide) rfl)]; try rfl) hI
      exact hret () (-2) _ _ 0 0 _ _ dX5_person_30 hI (by show (-2) = gd (personC n x y) (nI n) (personC n x y); rw [hC]; first | rfl | (simp only [gd_0]; split <;> first | rfl | contradiction)) (Nat.le_of_ble_eq_true rfl) (Nat.le_of_ble_eq_true rfl) rfl
  · skip
    have c_6 : ¬ ((0 : Int64).toInt ≤ x.toInt64.toInt ∧ x.toInt64.toInt ≤ (23 : Int64).toInt) := of_decide_eq_false c_6
    have c_6 : ¬ (0 ≤ x.toInt ∧ x.toInt ≤ 23) := by simp only [Int32.toInt_toInt64] at c_6; exact c_6
    refine lv_if_eq (tgt := 24) hxR hbR dX5_person_9 (by decide) (fun _ => ?_) (fun c => absurd c (by decide))
    refine lv_aload_n hxR hbR dX5_person_24 rfl (lv_at hl 0 rfl) ?_
    refine lv_bipush (v := (-2)) hxR hbR dX5_person_25 (by decide) ?_
    refine kVI (n := 1) (As := [.int (-2)]) (rest := []) (fun w => w) hxR hbR hmlR hts hown hK hA hl.1 isCtx.id hI (c5_refuse l E ad kp tr iv ia K R mv (-2) 2 (by decide) (by decide)) (lw_V q1624 q1626 qs34 q86 q1627) ⟨rfl, by decide +kernel⟩ 16 5 rfl rfl mW_o rfl (Nat.le_of_ble_eq_true rfl) (Nat.le_of_ble_eq_true rfl) ⟨Nat.le_of_ble_eq_true rfl, Nat.le_of_ble_eq_true rfl⟩ (Nat.le_of_ble_eq_true rfl) dX5_person_27 (fun r_27 u H locs hp hI hz => ?_)
    have hI : wI E AR sR H locs (mW E ad kp tr iv (va_up ia 9 (va_up (ia 9) 2 (ia 9 2 + 1))) K R mv) := hI
    have hp : r_27 = (-2) := hp
    have hr_27 := hp
    subst hr_27
    have hC : personC n x y = (-2) := by
      clear hret hI
      unfold personC
      repeat' split
      all_goals first | rfl | (exfalso; omega) | contradiction | (exfalso; simp_all; done) | simp_all
    have eiv10 : gd (personC n x y) (nI (n + 1)) (iv 10) = iv 10 := by rw [hC]; first | rfl | (simp only [gd_0]; split <;> first | rfl | contradiction)
    have eia9 : bumpR (ia 9) (personC n x y) = va_up (ia 9) 2 (ia 9 2 + 1) := by rw [hC]; exact bump_2 _
    have eia11 : gd (personC n x y) (va_up (ia 11) n x) (ia 11) = ia 11 := by rw [hC]; first | rfl | (simp only [gd_0]; split <;> first | rfl | contradiction)
    have eia12 : gd (personC n x y) (va_up (ia 12) n y) (ia 12) = ia 12 := by rw [hC]; first | rfl | (simp only [gd_0]; split <;> first | rfl | contradiction)
    have eK : gd (personC n x y) (newK K n n) K = K := by rw [hC]; first | rfl | (simp only [gd_0]; split <;> first | rfl | contradiction)
    have hI := wI_w (ws' := mW E ad kp tr (va_up iv 10 (gd (personC n x y) (nI (n + 1)) (iv 10))) (va_up (va_up (va_up ia 9 (bumpR (ia 9) (personC n x y))) 11 (gd (personC n x y) (va_up (ia 11) n x) (ia 11))) 12 (gd (personC n x y) (va_up (ia 12) n y) (ia 12))) (gd (personC n x y) (newK K n n) K) R mv) (by rw [eiv10, eia9, eia11, eia12, eK, va_up_id (f := iv) (k := 10) (v := iv 10) rfl, va_up_id (f := (va_up ia 9 (va_up (ia 9) 2 (ia 9 2 + 1)))) (k := 11) (v := ia 11) (up_n (by decide) rfl), va_up_id (f := (va_up ia 9 (va_up (ia 9) 2 (ia 9 2 + 1)))) (k := 12) (v := ia 12) (up_n (by decide) rfl)]; try rfl) hI
    exact hret () (-2) _ _ 0 0 _ _ dX5_person_30 hI (by show (-2) = gd (personC n x y) (nI n) (personC n x y); rw [hC]; first | rfl | (simp only [gd_0]; split <;> first | rfl | contradiction)) (Nat.le_of_ble_eq_true rfl) (Nat.le_of_ble_eq_true rfl) rfl

theorem c5_change (l : Launch) (E : En) (ad : Nat → Nat) (kp tr : Option Nat) (iv : Nat → Int32) (ia K : Nat → Nat → Int32) (R : Nat → Nat → Int64) (mv : Nat → Int64) (n : Nat) (x w v : Int32) (hn : iv 10 = nI n) (hn7 : n ≤ 7) : CtI l E yX5_change cX5_change 5 .int 3 0 0 [.ref (ad 45), .int x, .int w, .int v] (mW E ad kp tr iv ia K R mv) (fun (r : Int32) (u : Unit) => r = gd (changeC n x w v) ((if w = 0 then ia 11 else ia 12) x.toNatClampNeg) (changeC n x w v)) (fun (u : Unit) => mW E ad kp tr iv (va_up (va_up (va_up ia 9 (bumpR (ia 9) (changeC n x w v))) 11 (gd (changeC n x w v) (if w = 0 then va_up (ia 11) x.toNatClampNeg v else ia 11) (ia 11))) 12 (gd (changeC n x w v) (if w = 0 then ia 12 else va_up (ia 12) x.toNatClampNeg v) (ia 12))) K R mv) := by
  refine CtI.of (by decide +kernel) (Nat.le_of_ble_eq_true rfl) ?_
  intro pR eR sR mR aR bR tR cR AR ls QR hxR hbR hmlR hts hown hlk hnm hA hK hI hl hret
  have hl : lv_has ls 5 [(0, .ref (ad 45)), (1, .int x), (2, .int w), (3, .int v)] := hl
  refine lv_aload_n hxR hbR dX5_change_0 rfl (lv_at hl 0 rfl) ?_
  refine lv_iload_n hxR hbR dX5_change_1 rfl (lv_at hl 1 rfl) ?_
  refine kVI (n := 1) (As := [.int x]) (rest := []) (fun w => w) hxR hbR hmlR hts hown hK hA hl.1 isCtx.id hI (c5_isOne l E ad kp tr iv ia K R mv n x hn (by omega)) (lw_V q1723 q1725 qs47 q86 q1726) ⟨rfl, by decide +kernel⟩ 16 5 rfl rfl mW_o rfl (Nat.le_of_ble_eq_true rfl) (Nat.le_of_ble_eq_true rfl) ⟨Nat.le_of_ble_eq_true rfl, Nat.le_of_ble_eq_true rfl⟩ (Nat.le_of_ble_eq_true rfl) dX5_change_2 (fun r_2 u H locs hp hI hz => ?_)
  have hI : wI E AR sR H locs (mW E ad kp tr iv ia K R mv) := hI
  have hp : r_2 = b2i (decide (0 ≤ x.toInt ∧ x.toInt < (n : Int))) := hp
  have hr_2 := hp
  rcases b2i_cases hr_2 with ⟨c_2, rfl⟩ | ⟨c_2, rfl⟩
  · skip
    have c_2 : 0 ≤ x.toInt ∧ x.toInt < (n : Int) := of_decide_eq_true c_2
    obtain ⟨P, hP, rfl⟩ := nat_of c_2 (by omega)
    have tP : (nI P).toInt = (P : Int) := nI_toInt (by omega)
    refine lv_if_eq (tgt := 40) hxR hbR dX5_change_5 (by decide) (fun c => absurd c (by decide)) (fun _ => ?_)
    refine lv_iload_n hxR hbR dX5_change_8 rfl (lv_at hl 2 rfl) ?_
    refine lv_i2l (v := w.toInt64) hxR hbR dX5_change_9 rfl ?_
    refine lv_lconst (v := 0) hxR hbR dX5_change_10 (by decide) ?_
    refine lv_lconst (v := 1) hxR hbR dX5_change_11 (by decide) ?_
    refine kSI (n := 3) (As := [.long w.toInt64, .long (0 : Int64), .long (1 : Int64)]) (rest := []) (fun w => w ++ (mW E ad kp tr iv ia K R mv)) hxR hbR hmlR hts hown hK hA hl.1 (isCtx.suf _) hI (c5_in l E  w.toInt64 (0 : Int64) (1 : Int64) ) (lw_S q1619 q1620 q86 q1621) (by decide +kernel) rfl (Nat.le_of_ble_eq_true rfl) (Nat.le_of_ble_eq_true rfl) ⟨Nat.le_of_ble_eq_true rfl, Nat.le_of_ble_eq_true rfl⟩ (Nat.le_of_ble_eq_true rfl) dX5_change_12 (fun r_12 u H locs hp hI hz => ?_)
    have hI : wI E AR sR H locs (mW E ad kp tr iv ia K R mv) := hI
    have hp : r_12 = b2i (inL w.toInt64 (0 : Int64) (1 : Int64)) := hp
    have hr_12 := hp
    rcases b2i_cases hr_12 with ⟨c_12, rfl⟩ | ⟨c_12, rfl⟩
    · skip
      have c_12 : (0 : Int64).toInt ≤ w.toInt64.toInt ∧ w.toInt64.toInt ≤ (1 : Int64).toInt := of_decide_eq_true c_12
      have c_12 : 0 ≤ w.toInt ∧ w.toInt ≤ 1 := by simp only [Int32.toInt_toInt64] at c_12; exact c_12
      refine lv_if_eq (tgt := 40) hxR hbR dX5_change_15 (by decide) (fun c => absurd c (by decide)) (fun _ => ?_)
      refine lv_iload_n hxR hbR dX5_change_18 rfl (lv_at hl 3 rfl) ?_
      refine lv_i2l (v := v.toInt64) hxR hbR dX5_change_19 rfl ?_
      refine lv_lconst (v := 0) hxR hbR dX5_change_20 (by decide) ?_
      refine lv_iload_n hxR hbR dX5_change_21 rfl (lv_at hl 2 rfl) ?_
      refine lv_if_ne (tgt := 31) hxR hbR dX5_change_22 (by decide) (fun c_22 => ?_) (fun c_22 => ?_)
      · skip
        have i_22 : ¬ (w.toInt = 0) := by have zz := mt i_eq.mpr c_22; exact zz
        refine lv_ldc2 (v := 9) hxR hbR hown (hts _ q1656) dX5_change_31 ?_
        refine kSI (n := 3) (As := [.long v.toInt64, .long (0 : Int64), .long (9 : Int64)]) (rest := []) (fun w => w ++ (mW E ad kp tr iv ia K R mv)) hxR hbR hmlR hts hown hK hA hl.1 (isCtx.suf _) hI (c5_in l E  v.toInt64 (0 : Int64) (9 : Int64) ) (lw_S q1619 q1620 q86 q1621) (by decide +kernel) rfl (Nat.le_of_ble_eq_true rfl) (Nat.le_of_ble_eq_true rfl) ⟨Nat.le_of_ble_eq_true rfl, Nat.le_of_ble_eq_true rfl⟩ (Nat.le_of_ble_eq_true rfl) dX5_change_34 (fun r_34 u H locs hp hI hz => ?_)
        have hI : wI E AR sR H locs (mW E ad kp tr iv ia K R mv) := hI
        have hp : r_34 = b2i (inL v.toInt64 (0 : Int64) (9 : Int64)) := hp
        have hr_34 := hp
        rcases b2i_cases hr_34 with ⟨c_34, rfl⟩ | ⟨c_34, rfl⟩
        · skip
          have c_34 : (0 : Int64).toInt ≤ v.toInt64.toInt ∧ v.toInt64.toInt ≤ (9 : Int64).toInt := of_decide_eq_true c_34
          have c_34 : 0 ≤ v.toInt ∧ v.toInt ≤ 9 := by simp only [Int32.toInt_toInt64] at c_34; exact c_34
          refine lv_if_ne (tgt := 47) hxR hbR dX5_change_37 (by decide) (fun _ => ?_) (fun c => absurd c (by decide))
          refine lv_iload_n hxR hbR dX5_change_47 rfl (lv_at hl 2 rfl) ?_
          refine lv_if_ne (tgt := 60) hxR hbR dX5_change_48 (by decide) (fun c_48 => ?_) (fun c_48 => ?_)
          · skip
            have i_48 : ¬ (w.toInt = 0) := by have zz := mt i_eq.mpr c_48; exact zz
            refine lv_aload_n hxR hbR dX5_change_60 rfl (lv_at hl 0 rfl) ?_
            refine r_get hxR hbR hts hown hK hI okX5 (ci := 5) rfl 16 mW_o 12 (by decide) q1490 rfl (v := .ref (ad 12)) rfl dX5_change_61 ?_
            refine lv_iload_n hxR hbR dX5_change_64 rfl (lv_at hl 1 rfl) ?_
            refine r_iald hxR hbR hK hI 27 (n := 8) (J := P) (f := ia 12) (v := (ia 12) P) (mW_g12 rfl) (by omega) (by decide) rfl dX5_change_65 ?_
            refine lv_istore (lv' := [(4, .int ((ia 12) P)), (0, .ref (ad 45)), (1, .int (nI P)), (2, .int w), (3, .int v)]) hxR hbR dX5_change_66 hl (by decide) rfl (fun ls hl => ?_)
            refine lv_iload_n hxR hbR dX5_change_68 rfl (lv_at hl 3 rfl) ?_
            refine lv_if_ne (tgt := 82) hxR hbR dX5_change_69 (by decide) (fun c_69 => ?_) (fun c_69 => ?_)
            · skip
              have i_69 : ¬ (w.toInt = 0) := by have zz := mt i_eq.mpr c_69; exact zz
              refine lv_aload_n hxR hbR dX5_change_82 rfl (lv_at hl 1 rfl) ?_
              refine r_get hxR hbR hts hown hK hI okX5 (ci := 5) rfl 16 mW_o 12 (by decide) q1490 rfl (v := .ref (ad 12)) rfl dX5_change_83 ?_
              refine lv_iload_n hxR hbR dX5_change_86 rfl (lv_at hl 2 rfl) ?_
              refine lv_iload_n hxR hbR dX5_change_87 rfl (lv_at hl 4 rfl) ?_
              refine r_iast (ws1 := mW E ad kp tr iv (va_up ia 12 (va_up (ia 12) P v)) K R mv) hxR hbR hK hI 27 (n := 8) (J := P) (f := ia 12) (mW_g12 rfl) (by omega) (by decide) mW_a12 dX5_change_88 (fun H locs hI => ?_)
              refine lv_iload hxR hbR dX5_change_89 (lv_at hl 0 rfl) ?_
              have hC : changeC n (nI P) w v = 0 := by
                clear hret hI
                unfold changeC
                try simp only [nI_clamp (n := P) (by omega)]
                repeat' split
                all_goals first | rfl | (exfalso; omega) | contradiction | (exfalso; simp_all; done) | simp_all
              have eia9 : bumpR (ia 9) (changeC n (nI P) w v) = ia 9 := by rw [hC]; exact bump_0 _
              have eia11 : gd (changeC n (nI P) w v) (if w = 0 then va_up (ia 11) (nI P).toNatClampNeg v else ia 11) (ia 11) = ia 11 := by rw [hC]; first | rfl | (simp only [nI_clamp (n := P) (by omega)]; rfl) | (simp only [gd_0, nI_clamp (n := P) (by omega)]; split <;> first | rfl | contradiction)
              have eia12 : gd (changeC n (nI P) w v) (if w = 0 then ia 12 else va_up (ia 12) (nI P).toNatClampNeg v) (ia 12) = va_up (ia 12) P v := by rw [hC]; first | rfl | (simp only [nI_clamp (n := P) (by omega)]; rfl) | (simp only [gd_0, nI_clamp (n := P) (by omega)]; split <;> first | rfl | contradiction)
              have hI := wI_w (ws' := mW E ad kp tr iv (va_up (va_up (va_up ia 9 (bumpR (ia 9) (changeC n (nI P) w v))) 11 (gd (changeC n (nI P) w v) (if w = 0 then va_up (ia 11) (nI P).toNatClampNeg v else ia 11) (ia 11))) 12 (gd (changeC n (nI P) w v) (if w = 0 then ia 12 else va_up (ia 12) (nI P).toNatClampNeg v) (ia 12))) K R mv) (by rw [eia9, eia11, eia12, va_up_id (f := ia) (k := 9) (v := ia 9) rfl, va_up_id (f := ia) (k := 11) (v := ia 11) rfl]; try rfl) hI
              exact hret () ((ia 12) P) _ _ 0 0 _ _ dX5_change_91 hI (by show ((ia 12) P) = gd (changeC n (nI P) w v) ((if w = 0 then ia 11 else ia 12) (nI P).toNatClampNeg) (changeC n (nI P) w v); rw [hC]; first | rfl | (simp only [nI_clamp (n := P) (by omega)]; rfl) | (simp only [gd_0, nI_clamp (n := P) (by omega)]; split <;> first | rfl | contradiction)) (Nat.le_of_ble_eq_true rfl) (Nat.le_of_ble_eq_true rfl) rfl
            · skip
              have i_69 : w.toInt = 0 := by have zz := i_eq.mp c_69; exact zz
              refine lv_aload_n hxR hbR dX5_change_72 rfl (lv_at hl 1 rfl) ?_
              refine r_get hxR hbR hts hown hK hI okX5 (ci := 5) rfl 16 mW_o 11 (by decide) q1489 rfl (v := .ref (ad 11)) rfl dX5_change_73 ?_
              refine lv_iload_n hxR hbR dX5_change_76 rfl (lv_at hl 2 rfl) ?_
              refine lv_iload_n hxR hbR dX5_change_77 rfl (lv_at hl 4 rfl) ?_
              refine r_iast (ws1 := mW E ad kp tr iv (va_up ia 11 (va_up (ia 11) P v)) K R mv) hxR hbR hK hI 26 (n := 8) (J := P) (f := ia 11) (mW_g11 rfl) (by omega) (by decide) mW_a11 dX5_change_78 (fun H locs hI => ?_)
              refine lv_goto (tgt := 89) hxR hbR dX5_change_79 (by decide) ?_
              refine lv_iload hxR hbR dX5_change_89 (lv_at hl 0 rfl) ?_
              have hC : changeC n (nI P) w v = 0 := by
                clear hret hI
                unfold changeC
                try simp only [nI_clamp (n := P) (by omega)]
                repeat' split
                all_goals first | rfl | (exfalso; omega) | contradiction | (exfalso; simp_all; done) | simp_all
              have eia9 : bumpR (ia 9) (changeC n (nI P) w v) = ia 9 := by rw [hC]; exact bump_0 _
              have eia11 : gd (changeC n (nI P) w v) (if w = 0 then va_up (ia 11) (nI P).toNatClampNeg v else ia 11) (ia 11) = va_up (ia 11) P v := by rw [hC]; first | rfl | (simp only [nI_clamp (n := P) (by omega)]; rfl) | (simp only [gd_0, nI_clamp (n := P) (by omega)]; split <;> first | rfl | contradiction)
              have eia12 : gd (changeC n (nI P) w v) (if w = 0 then ia 12 else va_up (ia 12) (nI P).toNatClampNeg v) (ia 12) = ia 12 := by rw [hC]; first | rfl | (simp only [nI_clamp (n := P) (by omega)]; rfl) | (simp only [gd_0, nI_clamp (n := P) (by omega)]; split <;> first | rfl | contradiction)
              have hI := wI_w (ws' := mW E ad kp tr iv (va_up (va_up (va_up ia 9 (bumpR (ia 9) (changeC n (nI P) w v))) 11 (gd (changeC n (nI P) w v) (if w = 0 then va_up (ia 11) (nI P).toNatClampNeg v else ia 11) (ia 11))) 12 (gd (changeC n (nI P) w v) (if w = 0 then ia 12 else va_up (ia 12) (nI P).toNatClampNeg v) (ia 12))) K R mv) (by rw [eia9, eia11, eia12, va_up_id (f := ia) (k := 9) (v := ia 9) rfl, va_up_id (f := (va_up ia 11 (va_up (ia 11) P v))) (k := 12) (v := ia 12) (up_n (by decide) rfl)]; try rfl) hI
              exact hret () ((ia 12) P) _ _ 0 0 _ _ dX5_change_91 hI (by show ((ia 12) P) = gd (changeC n (nI P) w v) ((if w = 0 then ia 11 else ia 12) (nI P).toNatClampNeg) (changeC n (nI P) w v); rw [hC]; first | rfl | (simp only [nI_clamp (n := P) (by omega)]; rfl) | (simp only [gd_0, nI_clamp (n := P) (by omega)]; split <;> first | rfl | contradiction)) (Nat.le_of_ble_eq_true rfl) (Nat.le_of_ble_eq_true rfl) rfl
          · skip
            have i_48 : w.toInt = 0 := by have zz := i_eq.mp c_48; exact zz
            refine lv_aload_n hxR hbR dX5_change_51 rfl (lv_at hl 0 rfl) ?_
            refine r_get hxR hbR hts hown hK hI okX5 (ci := 5) rfl 16 mW_o 11 (by decide) q1489 rfl (v := .ref (ad 11)) rfl dX5_change_52 ?_
            refine lv_iload_n hxR hbR dX5_change_55 rfl (lv_at hl 1 rfl) ?_
            refine r_iald hxR hbR hK hI 26 (n := 8) (J := P) (f := ia 11) (v := (ia 11) P) (mW_g11 rfl) (by omega) (by decide) rfl dX5_change_56 ?_
            refine lv_goto (tgt := 66) hxR hbR dX5_change_57 (by decide) ?_
            refine lv_istore (lv' := [(4, .int ((ia 11) P)), (0, .ref (ad 45)), (1, .int (nI P)), (2, .int w), (3, .int v)]) hxR hbR dX5_change_66 hl (by decide) rfl (fun ls hl => ?_)
            refine lv_iload_n hxR hbR dX5_change_68 rfl (lv_at hl 3 rfl) ?_
            refine lv_if_ne (tgt := 82) hxR hbR dX5_change_69 (by decide) (fun c_69 => ?_) (fun c_69 => ?_)
            · skip
              have i_69 : ¬ (w.toInt = 0) := by have zz := mt i_eq.mpr c_69; exact zz
              refine lv_aload_n hxR hbR dX5_change_82 rfl (lv_at hl 1 rfl) ?_
              refine r_get hxR hbR hts hown hK hI okX5 (ci := 5) rfl 16 mW_o 12 (by decide) q1490 rfl (v := .ref (ad 12)) rfl dX5_change_83 ?_
              refine lv_iload_n hxR hbR dX5_change_86 rfl (lv_at hl 2 rfl) ?_
              refine lv_iload_n hxR hbR dX5_change_87 rfl (lv_at hl 4 rfl) ?_
              refine r_iast (ws1 := mW E ad kp tr iv (va_up ia 12 (va_up (ia 12) P v)) K R mv) hxR hbR hK hI 27 (n := 8) (J := P) (f := ia 12) (mW_g12 rfl) (by omega) (by decide) mW_a12 dX5_change_88 (fun H locs hI => ?_)
              refine lv_iload hxR hbR dX5_change_89 (lv_at hl 0 rfl) ?_
              have hC : changeC n (nI P) w v = 0 := by
                clear hret hI
                unfold changeC
                try simp only [nI_clamp (n := P) (by omega)]
                repeat' split
                all_goals first | rfl | (exfalso; omega) | contradiction | (exfalso; simp_all; done) | simp_all
              have eia9 : bumpR (ia 9) (changeC n (nI P) w v) = ia 9 := by rw [hC]; exact bump_0 _
              have eia11 : gd (changeC n (nI P) w v) (if w = 0 then va_up (ia 11) (nI P).toNatClampNeg v else ia 11) (ia 11) = ia 11 := by rw [hC]; first | rfl | (simp only [nI_clamp (n := P) (by omega)]; rfl) | (simp only [gd_0, nI_clamp (n := P) (by omega)]; split <;> first | rfl | contradiction)
              have eia12 : gd (changeC n (nI P) w v) (if w = 0 then ia 12 else va_up (ia 12) (nI P).toNatClampNeg v) (ia 12) = va_up (ia 12) P v := by rw [hC]; first | rfl | (simp only [nI_clamp (n := P) (by omega)]; rfl) | (simp only [gd_0, nI_clamp (n := P) (by omega)]; split <;> first | rfl | contradiction)
              have hI := wI_w (ws' := mW E ad kp tr iv (va_up (va_up (va_up ia 9 (bumpR (ia 9) (changeC n (nI P) w v))) 11 (gd (changeC n (nI P) w v) (if w = 0 then va_up (ia 11) (nI P).toNatClampNeg v else ia 11) (ia 11))) 12 (gd (changeC n (nI P) w v) (if w = 0 then ia 12 else va_up (ia 12) (nI P).toNatClampNeg v) (ia 12))) K R mv) (by rw [eia9, eia11, eia12, va_up_id (f := ia) (k := 9) (v := ia 9) rfl, va_up_id (f := ia) (k := 11) (v := ia 11) rfl]; try rfl) hI
              exact hret () ((ia 11) P) _ _ 0 0 _ _ dX5_change_91 hI (by show ((ia 11) P) = gd (changeC n (nI P) w v) ((if w = 0 then ia 11 else ia 12) (nI P).toNatClampNeg) (changeC n (nI P) w v); rw [hC]; first | rfl | (simp only [nI_clamp (n := P) (by omega)]; rfl) | (simp only [gd_0, nI_clamp (n := P) (by omega)]; split <;> first | rfl | contradiction)) (Nat.le_of_ble_eq_true rfl) (Nat.le_of_ble_eq_true rfl) rfl
            · skip
              have i_69 : w.toInt = 0 := by have zz := i_eq.mp c_69; exact zz
              refine lv_aload_n hxR hbR dX5_change_72 rfl (lv_at hl 1 rfl) ?_
              refine r_get hxR hbR hts hown hK hI okX5 (ci := 5) rfl 16 mW_o 11 (by decide) q1489 rfl (v := .ref (ad 11)) rfl dX5_change_73 ?_
              refine lv_iload_n hxR hbR dX5_change_76 rfl (lv_at hl 2 rfl) ?_
              refine lv_iload_n hxR hbR dX5_change_77 rfl (lv_at hl 4 rfl) ?_
              refine r_iast (ws1 := mW E ad kp tr iv (va_up ia 11 (va_up (ia 11) P v)) K R mv) hxR hbR hK hI 26 (n := 8) (J := P) (f := ia 11) (mW_g11 rfl) (by omega) (by decide) mW_a11 dX5_change_78 (fun H locs hI => ?_)
              refine lv_goto (tgt := 89) hxR hbR dX5_change_79 (by decide) ?_
              refine lv_iload hxR hbR dX5_change_89 (lv_at hl 0 rfl) ?_
              have hC : changeC n (nI P) w v = 0 := by
                clear hret hI
                unfold changeC
                try simp only [nI_clamp (n := P) (by omega)]
                repeat' split
                all_goals first | rfl | (exfalso; omega) | contradiction | (exfalso; simp_all; done) | simp_all
              have eia9 : bumpR (ia 9) (changeC n (nI P) w v) = ia 9 := by rw [hC]; exact bump_0 _
              have eia11 : gd (changeC n (nI P) w v) (if w = 0 then va_up (ia 11) (nI P).toNatClampNeg v else ia 11) (ia 11) = va_up (ia 11) P v := by rw [hC]; first | rfl | (simp only [nI_clamp (n := P) (by omega)]; rfl) | (simp only [gd_0, nI_clamp (n := P) (by omega)]; split <;> first | rfl | contradiction)
              have eia12 : gd (changeC n (nI P) w v) (if w = 0 then ia 12 else va_up (ia 12) (nI P).toNatClampNeg v) (ia 12) = ia 12 := by rw [hC]; first | rfl | (simp only [nI_clamp (n := P) (by omega)]; rfl) | (simp only [gd_0, nI_clamp (n := P) (by omega)]; split <;> first | rfl | contradiction)
              have hI := wI_w (ws' := mW E ad kp tr iv (va_up (va_up (va_up ia 9 (bumpR (ia 9) (changeC n (nI P) w v))) 11 (gd (changeC n (nI P) w v) (if w = 0 then va_up (ia 11) (nI P).toNatClampNeg v else ia 11) (ia 11))) 12 (gd (changeC n (nI P) w v) (if w = 0 then ia 12 else va_up (ia 12) (nI P).toNatClampNeg v) (ia 12))) K R mv) (by rw [eia9, eia11, eia12, va_up_id (f := ia) (k := 9) (v := ia 9) rfl, va_up_id (f := (va_up ia 11 (va_up (ia 11) P v))) (k := 12) (v := ia 12) (up_n (by decide) rfl)]; try rfl) hI
              exact hret () ((ia 11) P) _ _ 0 0 _ _ dX5_change_91 hI (by show ((ia 11) P) = gd (changeC n (nI P) w v) ((if w = 0 then ia 11 else ia 12) (nI P).toNatClampNeg) (changeC n (nI P) w v); rw [hC]; first | rfl | (simp only [nI_clamp (n := P) (by omega)]; rfl) | (simp only [gd_0, nI_clamp (n := P) (by omega)]; split <;> first | rfl | contradiction)) (Nat.le_of_ble_eq_true rfl) (Nat.le_of_ble_eq_true rfl) rfl
        · skip
          have c_34 : ¬ ((0 : Int64).toInt ≤ v.toInt64.toInt ∧ v.toInt64.toInt ≤ (9 : Int64).toInt) := of_decide_eq_false c_34
          have c_34 : ¬ (0 ≤ v.toInt ∧ v.toInt ≤ 9) := by simp only [Int32.toInt_toInt64] at c_34; exact c_34
          refine lv_if_ne (tgt := 47) hxR hbR dX5_change_37 (by decide) (fun c => absurd c (by decide)) (fun _ => ?_)
          refine lv_aload_n hxR hbR dX5_change_40 rfl (lv_at hl 0 rfl) ?_
          refine lv_bipush (v := (-2)) hxR hbR dX5_change_41 (by decide) ?_
          refine kVI (n := 1) (As := [.int (-2)]) (rest := []) (fun w => w) hxR hbR hmlR hts hown hK hA hl.1 isCtx.id hI (c5_refuse l E ad kp tr iv ia K R mv (-2) 2 (by decide) (by decide)) (lw_V q1624 q1626 qs34 q86 q1627) ⟨rfl, by decide +kernel⟩ 16 5 rfl rfl mW_o rfl (Nat.le_of_ble_eq_true rfl) (Nat.le_of_ble_eq_true rfl) ⟨Nat.le_of_ble_eq_true rfl, Nat.le_of_ble_eq_true rfl⟩ (Nat.le_of_ble_eq_true rfl) dX5_change_43 (fun r_43 u H locs hp hI hz => ?_)
          have hI : wI E AR sR H locs (mW E ad kp tr iv (va_up ia 9 (va_up (ia 9) 2 (ia 9 2 + 1))) K R mv) := hI
          have hp : r_43 = (-2) := hp
          have hr_43 := hp
          subst hr_43
          have hC : changeC n (nI P) w v = (-2) := by
            clear hret hI
            unfold changeC
            try simp only [nI_clamp (n := P) (by omega)]
            repeat' split
            all_goals first | rfl | (exfalso; omega) | contradiction | (exfalso; simp_all; done) | simp_all
          have eia9 : bumpR (ia 9) (changeC n (nI P) w v) = va_up (ia 9) 2 (ia 9 2 + 1) := by rw [hC]; exact bump_2 _
          have eia11 : gd (changeC n (nI P) w v) (if w = 0 then va_up (ia 11) (nI P).toNatClampNeg v else ia 11) (ia 11) = ia 11 := by rw [hC]; first | rfl | (simp only [nI_clamp (n := P) (by omega)]; rfl) | (simp only [gd_0, nI_clamp (n := P) (by omega)]; split <;> first | rfl | contradiction)
          have eia12 : gd (changeC n (nI P) w v) (if w = 0 then ia 12 else va_up (ia 12) (nI P).toNatClampNeg v) (ia 12) = ia 12 := by rw [hC]; first | rfl | (simp only [nI_clamp (n := P) (by omega)]; rfl) | (simp only [gd_0, nI_clamp (n := P) (by omega)]; split <;> first | rfl | contradiction)
          have hI := wI_w (ws' := mW E ad kp tr iv (va_up (va_up (va_up ia 9 (bumpR (ia 9) (changeC n (nI P) w v))) 11 (gd (changeC n (nI P) w v) (if w = 0 then va_up (ia 11) (nI P).toNatClampNeg v else ia 11) (ia 11))) 12 (gd (changeC n (nI P) w v) (if w = 0 then ia 12 else va_up (ia 12) (nI P).toNatClampNeg v) (ia 12))) K R mv) (by rw [eia9, eia11, eia12, va_up_id (f := (va_up ia 9 (va_up (ia 9) 2 (ia 9 2 + 1)))) (k := 11) (v := ia 11) (up_n (by decide) rfl), va_up_id (f := (va_up ia 9 (va_up (ia 9) 2 (ia 9 2 + 1)))) (k := 12) (v := ia 12) (up_n (by decide) rfl)]; try rfl) hI
          exact hret () (-2) _ _ 0 0 _ _ dX5_change_46 hI (by show (-2) = gd (changeC n (nI P) w v) ((if w = 0 then ia 11 else ia 12) (nI P).toNatClampNeg) (changeC n (nI P) w v); rw [hC]; first | rfl | (simp only [nI_clamp (n := P) (by omega)]; rfl) | (simp only [gd_0, nI_clamp (n := P) (by omega)]; split <;> first | rfl | contradiction)) (Nat.le_of_ble_eq_true rfl) (Nat.le_of_ble_eq_true rfl) rfl
      · skip
        have i_22 : w.toInt = 0 := by have zz := i_eq.mp c_22; exact zz
        refine lv_ldc2 (v := 23) hxR hbR hown (hts _ q1714) dX5_change_25 ?_
        refine lv_goto (tgt := 34) hxR hbR dX5_change_28 (by decide) ?_
        refine kSI (n := 3) (As := [.long v.toInt64, .long (0 : Int64), .long (23 : Int64)]) (rest := []) (fun w => w ++ (mW E ad kp tr iv ia K R mv)) hxR hbR hmlR hts hown hK hA hl.1 (isCtx.suf _) hI (c5_in l E  v.toInt64 (0 : Int64) (23 : Int64) ) (lw_S q1619 q1620 q86 q1621) (by decide +kernel) rfl (Nat.le_of_ble_eq_true rfl) (Nat.le_of_ble_eq_true rfl) ⟨Nat.le_of_ble_eq_true rfl, Nat.le_of_ble_eq_true rfl⟩ (Nat.le_of_ble_eq_true rfl) dX5_change_34 (fun r_34 u H locs hp hI hz => ?_)
        have hI : wI E AR sR H locs (mW E ad kp tr iv ia K R mv) := hI
        have hp : r_34 = b2i (inL v.toInt64 (0 : Int64) (23 : Int64)) := hp
        have hr_34 := hp
        rcases b2i_cases hr_34 with ⟨c_34, rfl⟩ | ⟨c_34, rfl⟩
        · skip
          have c_34 : (0 : Int64).toInt ≤ v.toInt64.toInt ∧ v.toInt64.toInt ≤ (23 : Int64).toInt := of_decide_eq_true c_34
          have c_34 : 0 ≤ v.toInt ∧ v.toInt ≤ 23 := by simp only [Int32.toInt_toInt64] at c_34; exact c_34
          refine lv_if_ne (tgt := 47) hxR hbR dX5_change_37 (by decide) (fun _ => ?_) (fun c => absurd c (by decide))
          refine lv_iload_n hxR hbR dX5_change_47 rfl (lv_at hl 2 rfl) ?_
          refine lv_if_ne (tgt := 60) hxR hbR dX5_change_48 (by decide) (fun c_48 => ?_) (fun c_48 => ?_)
          · skip
            have i_48 : ¬ (w.toInt = 0) := by have zz := mt i_eq.mpr c_48; exact zz
            refine lv_aload_n hxR hbR dX5_change_60 rfl (lv_at hl 0 rfl) ?_
            refine r_get hxR hbR hts hown hK hI okX5 (ci := 5) rfl 16 mW_o 12 (by decide) q1490 rfl (v := .ref (ad 12)) rfl dX5_change_61 ?_
            refine lv_iload_n hxR hbR dX5_change_64 rfl (lv_at hl 1 rfl) ?_
            refine r_iald hxR hbR hK hI 27 (n := 8) (J := P) (f := ia 12) (v := (ia 12) P) (mW_g12 rfl) (by omega) (by decide) rfl dX5_change_65 ?_
            refine lv_istore (lv' := [(4, .int ((ia 12) P)), (0, .ref (ad 45)), (1, .int (nI P)), (2, .int w), (3, .int v)]) hxR hbR dX5_change_66 hl (by decide) rfl (fun ls hl => ?_)
            refine lv_iload_n hxR hbR dX5_change_68 rfl (lv_at hl 3 rfl) ?_
            refine lv_if_ne (tgt := 82) hxR hbR dX5_change_69 (by decide) (fun c_69 => ?_) (fun c_69 => ?_)
            · skip
              have i_69 : ¬ (w.toInt = 0) := by have zz := mt i_eq.mpr c_69; exact zz
              refine lv_aload_n hxR hbR dX5_change_82 rfl (lv_at hl 1 rfl) ?_
              refine r_get hxR hbR hts hown hK hI okX5 (ci := 5) rfl 16 mW_o 12 (by decide) q1490 rfl (v := .ref (ad 12)) rfl dX5_change_83 ?_
              refine lv_iload_n hxR hbR dX5_change_86 rfl (lv_at hl 2 rfl) ?_
              refine lv_iload_n hxR hbR dX5_change_87 rfl (lv_at hl 4 rfl) ?_
              refine r_iast (ws1 := mW E ad kp tr iv (va_up ia 12 (va_up (ia 12) P v)) K R mv) hxR hbR hK hI 27 (n := 8) (J := P) (f := ia 12) (mW_g12 rfl) (by omega) (by decide) mW_a12 dX5_change_88 (fun H locs hI => ?_)
              refine lv_iload hxR hbR dX5_change_89 (lv_at hl 0 rfl) ?_
              have hC : changeC n (nI P) w v = 0 := by
                clear hret hI
                unfold changeC
                try simp only [nI_clamp (n := P) (by omega)]
                repeat' split
                all_goals first | rfl | (exfalso; omega) | contradiction | (exfalso; simp_all; done) | simp_all
              have eia9 : bumpR (ia 9) (changeC n (nI P) w v) = ia 9 := by rw [hC]; exact bump_0 _
              have eia11 : gd (changeC n (nI P) w v) (if w = 0 then va_up (ia 11) (nI P).toNatClampNeg v else ia 11) (ia 11) = ia 11 := by rw [hC]; first | rfl | (simp only [nI_clamp (n := P) (by omega)]; rfl) | (simp only [gd_0, nI_clamp (n := P) (by omega)]; split <;> first | rfl | contradiction)
              have eia12 : gd (changeC n (nI P) w v) (if w = 0 then ia 12 else va_up (ia 12) (nI P).toNatClampNeg v) (ia 12) = va_up (ia 12) P v := by rw [hC]; first | rfl | (simp only [nI_clamp (n := P) (by omega)]; rfl) | (simp only [gd_0, nI_clamp (n := P) (by omega)]; split <;> first | rfl | contradiction)
              have hI := wI_w (ws' := mW E ad kp tr iv (va_up (va_up (va_up ia 9 (bumpR (ia 9) (changeC n (nI P) w v))) 11 (gd (changeC n (nI P) w v) (if w = 0 then va_up (ia 11) (nI P).toNatClampNeg v else ia 11) (ia 11))) 12 (gd (changeC n (nI P) w v) (if w = 0 then ia 12 else va_up (ia 12) (nI P).toNatClampNeg v) (ia 12))) K R mv) (by rw [eia9, eia11, eia12, va_up_id (f := ia) (k := 9) (v := ia 9) rfl, va_up_id (f := ia) (k := 11) (v := ia 11) rfl]; try rfl) hI
              exact hret () ((ia 12) P) _ _ 0 0 _ _ dX5_change_91 hI (by show ((ia 12) P) = gd (changeC n (nI P) w v) ((if w = 0 then ia 11 else ia 12) (nI P).toNatClampNeg) (changeC n (nI P) w v); rw [hC]; first | rfl | (simp only [nI_clamp (n := P) (by omega)]; rfl) | (simp only [gd_0, nI_clamp (n := P) (by omega)]; split <;> first | rfl | contradiction)) (Nat.le_of_ble_eq_true rfl) (Nat.le_of_ble_eq_true rfl) rfl
            · skip
              have i_69 : w.toInt = 0 := by have zz := i_eq.mp c_69; exact zz
              refine lv_aload_n hxR hbR dX5_change_72 rfl (lv_at hl 1 rfl) ?_
              refine r_get hxR hbR hts hown hK hI okX5 (ci := 5) rfl 16 mW_o 11 (by decide) q1489 rfl (v := .ref (ad 11)) rfl dX5_change_73 ?_
              refine lv_iload_n hxR hbR dX5_change_76 rfl (lv_at hl 2 rfl) ?_
              refine lv_iload_n hxR hbR dX5_change_77 rfl (lv_at hl 4 rfl) ?_
              refine r_iast (ws1 := mW E ad kp tr iv (va_up ia 11 (va_up (ia 11) P v)) K R mv) hxR hbR hK hI 26 (n := 8) (J := P) (f := ia 11) (mW_g11 rfl) (by omega) (by decide) mW_a11 dX5_change_78 (fun H locs hI => ?_)
              refine lv_goto (tgt := 89) hxR hbR dX5_change_79 (by decide) ?_
              refine lv_iload hxR hbR dX5_change_89 (lv_at hl 0 rfl) ?_
              have hC : changeC n (nI P) w v = 0 := by
                clear hret hI
                unfold changeC
                try simp only [nI_clamp (n := P) (by omega)]
                repeat' split
                all_goals first | rfl | (exfalso; omega) | contradiction | (exfalso; simp_all; done) | simp_all
              have eia9 : bumpR (ia 9) (changeC n (nI P) w v) = ia 9 := by rw [hC]; exact bump_0 _
              have eia11 : gd (changeC n (nI P) w v) (if w = 0 then va_up (ia 11) (nI P).toNatClampNeg v else ia 11) (ia 11) = va_up (ia 11) P v := by rw [hC]; first | rfl | (simp only [nI_clamp (n := P) (by omega)]; rfl) | (simp only [gd_0, nI_clamp (n := P) (by omega)]; split <;> first | rfl | contradiction)
              have eia12 : gd (changeC n (nI P) w v) (if w = 0 then ia 12 else va_up (ia 12) (nI P).toNatClampNeg v) (ia 12) = ia 12 := by rw [hC]; first | rfl | (simp only [nI_clamp (n := P) (by omega)]; rfl) | (simp only [gd_0, nI_clamp (n := P) (by omega)]; split <;> first | rfl | contradiction)
              have hI := wI_w (ws' := mW E ad kp tr iv (va_up (va_up (va_up ia 9 (bumpR (ia 9) (changeC n (nI P) w v))) 11 (gd (changeC n (nI P) w v) (if w = 0 then va_up (ia 11) (nI P).toNatClampNeg v else ia 11) (ia 11))) 12 (gd (changeC n (nI P) w v) (if w = 0 then ia 12 else va_up (ia 12) (nI P).toNatClampNeg v) (ia 12))) K R mv) (by rw [eia9, eia11, eia12, va_up_id (f := ia) (k := 9) (v := ia 9) rfl, va_up_id (f := (va_up ia 11 (va_up (ia 11) P v))) (k := 12) (v := ia 12) (up_n (by decide) rfl)]; try rfl) hI
              exact hret () ((ia 12) P) _ _ 0 0 _ _ dX5_change_91 hI (by show ((ia 12) P) = gd (changeC n (nI P) w v) ((if w = 0 then ia 11 else ia 12) (nI P).toNatClampNeg) (changeC n (nI P) w v); rw [hC]; first | rfl | (simp only [nI_clamp (n := P) (by omega)]; rfl) | (simp only [gd_0, nI_clamp (n := P) (by omega)]; split <;> first | rfl | contradiction)) (Nat.le_of_ble_eq_true rfl) (Nat.le_of_ble_eq_true rfl) rfl
          · skip
            have i_48 : w.toInt = 0 := by have zz := i_eq.mp c_48; exact zz
            refine lv_aload_n hxR hbR dX5_change_51 rfl (lv_at hl 0 rfl) ?_
            refine r_get hxR hbR hts hown hK hI okX5 (ci := 5) rfl 16 mW_o 11 (by decide) q1489 rfl (v := .ref (ad 11)) rfl dX5_change_52 ?_
            refine lv_iload_n hxR hbR dX5_change_55 rfl (lv_at hl 1 rfl) ?_
            refine r_iald hxR hbR hK hI 26 (n := 8) (J := P) (f := ia 11) (v := (ia 11) P) (mW_g11 rfl) (by omega) (by decide) rfl dX5_change_56 ?_
            refine lv_goto (tgt := 66) hxR hbR dX5_change_57 (by decide) ?_
            refine lv_istore (lv' := [(4, .int ((ia 11) P)), (0, .ref (ad 45)), (1, .int (nI P)), (2, .int w), (3, .int v)]) hxR hbR dX5_change_66 hl (by decide) rfl (fun ls hl => ?_)
            refine lv_iload_n hxR hbR dX5_change_68 rfl (lv_at hl 3 rfl) ?_
            refine lv_if_ne (tgt := 82) hxR hbR dX5_change_69 (by decide) (fun c_69 => ?_) (fun c_69 => ?_)
            · skip
              have i_69 : ¬ (w.toInt = 0) := by have zz := mt i_eq.mpr c_69; exact zz
              refine lv_aload_n hxR hbR dX5_change_82 rfl (lv_at hl 1 rfl) ?_
              refine r_get hxR hbR hts hown hK hI okX5 (ci := 5) rfl 16 mW_o 12 (by decide) q1490 rfl (v := .ref (ad 12)) rfl dX5_change_83 ?_
              refine lv_iload_n hxR hbR dX5_change_86 rfl (lv_at hl 2 rfl) ?_
              refine lv_iload_n hxR hbR dX5_change_87 rfl (lv_at hl 4 rfl) ?_
              refine r_iast (ws1 := mW E ad kp tr iv (va_up ia 12 (va_up (ia 12) P v)) K R mv) hxR hbR hK hI 27 (n := 8) (J := P) (f := ia 12) (mW_g12 rfl) (by omega) (by decide) mW_a12 dX5_change_88 (fun H locs hI => ?_)
              refine lv_iload hxR hbR dX5_change_89 (lv_at hl 0 rfl) ?_
              have hC : changeC n (nI P) w v = 0 := by
                clear hret hI
                unfold changeC
                try simp only [nI_clamp (n := P) (by omega)]
                repeat' split
                all_goals first | rfl | (exfalso; omega) | contradiction | (exfalso; simp_all; done) | simp_all
              have eia9 : bumpR (ia 9) (changeC n (nI P) w v) = ia 9 := by rw [hC]; exact bump_0 _
              have eia11 : gd (changeC n (nI P) w v) (if w = 0 then va_up (ia 11) (nI P).toNatClampNeg v else ia 11) (ia 11) = ia 11 := by rw [hC]; first | rfl | (simp only [nI_clamp (n := P) (by omega)]; rfl) | (simp only [gd_0, nI_clamp (n := P) (by omega)]; split <;> first | rfl | contradiction)
              have eia12 : gd (changeC n (nI P) w v) (if w = 0 then ia 12 else va_up (ia 12) (nI P).toNatClampNeg v) (ia 12) = va_up (ia 12) P v := by rw [hC]; first | rfl | (simp only [nI_clamp (n := P) (by omega)]; rfl) | (simp only [gd_0, nI_clamp (n := P) (by omega)]; split <;> first | rfl | contradiction)
              have hI := wI_w (ws' := mW E ad kp tr iv (va_up (va_up (va_up ia 9 (bumpR (ia 9) (changeC n (nI P) w v))) 11 (gd (changeC n (nI P) w v) (if w = 0 then va_up (ia 11) (nI P).toNatClampNeg v else ia 11) (ia 11))) 12 (gd (changeC n (nI P) w v) (if w = 0 then ia 12 else va_up (ia 12) (nI P).toNatClampNeg v) (ia 12))) K R mv) (by rw [eia9, eia11, eia12, va_up_id (f := ia) (k := 9) (v := ia 9) rfl, va_up_id (f := ia) (k := 11) (v := ia 11) rfl]; try rfl) hI
              exact hret () ((ia 11) P) _ _ 0 0 _ _ dX5_change_91 hI (by show ((ia 11) P) = gd (changeC n (nI P) w v) ((if w = 0 then ia 11 else ia 12) (nI P).toNatClampNeg) (changeC n (nI P) w v); rw [hC]; first | rfl | (simp only [nI_clamp (n := P) (by omega)]; rfl) | (simp only [gd_0, nI_clamp (n := P) (by omega)]; split <;> first | rfl | contradiction)) (Nat.le_of_ble_eq_true rfl) (Nat.le_of_ble_eq_true rfl) rfl
            · skip
              have i_69 : w.toInt = 0 := by have zz := i_eq.mp c_69; exact zz
              refine lv_aload_n hxR hbR dX5_change_72 rfl (lv_at hl 1 rfl) ?_
              refine r_get hxR hbR hts hown hK hI okX5 (ci := 5) rfl 16 mW_o 11 (by decide) q1489 rfl (v := .ref (ad 11)) rfl dX5_change_73 ?_
              refine lv_iload_n hxR hbR dX5_change_76 rfl (lv_at hl 2 rfl) ?_
              refine lv_iload_n hxR hbR dX5_change_77 rfl (lv_at hl 4 rfl) ?_
              refine r_iast (ws1 := mW E ad kp tr iv (va_up ia 11 (va_up (ia 11) P v)) K R mv) hxR hbR hK hI 26 (n := 8) (J := P) (f := ia 11) (mW_g11 rfl) (by omega) (by decide) mW_a11 dX5_change_78 (fun H locs hI => ?_)
              refine lv_goto (tgt := 89) hxR hbR dX5_change_79 (by decide) ?_
              refine lv_iload hxR hbR dX5_change_89 (lv_at hl 0 rfl) ?_
              have hC : changeC n (nI P) w v = 0 := by
                clear hret hI
                unfold changeC
                try simp only [nI_clamp (n := P) (by omega)]
                repeat' split
                all_goals first | rfl | (exfalso; omega) | contradiction | (exfalso; simp_all; done) | simp_all
              have eia9 : bumpR (ia 9) (changeC n (nI P) w v) = ia 9 := by rw [hC]; exact bump_0 _
              have eia11 : gd (changeC n (nI P) w v) (if w = 0 then va_up (ia 11) (nI P).toNatClampNeg v else ia 11) (ia 11) = va_up (ia 11) P v := by rw [hC]; first | rfl | (simp only [nI_clamp (n := P) (by omega)]; rfl) | (simp only [gd_0, nI_clamp (n := P) (by omega)]; split <;> first | rfl | contradiction)
              have eia12 : gd (changeC n (nI P) w v) (if w = 0 then ia 12 else va_up (ia 12) (nI P).toNatClampNeg v) (ia 12) = ia 12 := by rw [hC]; first | rfl | (simp only [nI_clamp (n := P) (by omega)]; rfl) | (simp only [gd_0, nI_clamp (n := P) (by omega)]; split <;> first | rfl | contradiction)
              have hI := wI_w (ws' := mW E ad kp tr iv (va_up (va_up (va_up ia 9 (bumpR (ia 9) (changeC n (nI P) w v))) 11 (gd (changeC n (nI P) w v) (if w = 0 then va_up (ia 11) (nI P).toNatClampNeg v else ia 11) (ia 11))) 12 (gd (changeC n (nI P) w v) (if w = 0 then ia 12 else va_up (ia 12) (nI P).toNatClampNeg v) (ia 12))) K R mv) (by rw [eia9, eia11, eia12, va_up_id (f := ia) (k := 9) (v := ia 9) rfl, va_up_id (f := (va_up ia 11 (va_up (ia 11) P v))) (k := 12) (v := ia 12) (up_n (by decide) rfl)]; try rfl) hI
              exact hret () ((ia 11) P) _ _ 0 0 _ _ dX5_change_91 hI (by show ((ia 11) P) = gd (changeC n (nI P) w v) ((if w = 0 then ia 11 else ia 12) (nI P).toNatClampNeg) (changeC n (nI P) w v); rw [hC]; first | rfl | (simp only [nI_clamp (n := P) (by omega)]; rfl) | (simp only [gd_0, nI_clamp (n := P) (by omega)]; split <;> first | rfl | contradiction)) (Nat.le_of_ble_eq_true rfl) (Nat.le_of_ble_eq_true rfl) rfl
        · skip
          have c_34 : ¬ ((0 : Int64).toInt ≤ v.toInt64.toInt ∧ v.toInt64.toInt ≤ (23 : Int64).toInt) := of_decide_eq_false c_34
          have c_34 : ¬ (0 ≤ v.toInt ∧ v.toInt ≤ 23) := by simp only [Int32.toInt_toInt64] at c_34; exact c_34
          refine lv_if_ne (tgt := 47) hxR hbR dX5_change_37 (by decide) (fun c => absurd c (by decide)) (fun _ => ?_)
          refine lv_aload_n hxR hbR dX5_change_40 rfl (lv_at hl 0 rfl) ?_
          refine lv_bipush (v := (-2)) hxR hbR dX5_change_41 (by decide) ?_
          refine kVI (n := 1) (As := [.int (-2)]) (rest := []) (fun w => w) hxR hbR hmlR hts hown hK hA hl.1 isCtx.id hI (c5_refuse l E ad kp tr iv ia K R mv (-2) 2 (by decide) (by decide)) (lw_V q1624 q1626 qs34 q86 q1627) ⟨rfl, by decide +kernel⟩ 16 5 rfl rfl mW_o rfl (Nat.le_of_ble_eq_true rfl) (Nat.le_of_ble_eq_true rfl) ⟨Nat.le_of_ble_eq_true rfl, Nat.le_of_ble_eq_true rfl⟩ (Nat.le_of_ble_eq_true rfl) dX5_change_43 (fun r_43 u H locs hp hI hz => ?_)
          have hI : wI E AR sR H locs (mW E ad kp tr iv (va_up ia 9 (va_up (ia 9) 2 (ia 9 2 + 1))) K R mv) := hI
          have hp : r_43 = (-2) := hp
          have hr_43 := hp
          subst hr_43
          have hC : changeC n (nI P) w v = (-2) := by
            clear hret hI
            unfold changeC
            try simp only [nI_clamp (n := P) (by omega)]
            repeat' split
            all_goals first | rfl | (exfalso; omega) | contradiction | (exfalso; simp_all; done) | simp_all
          have eia9 : bumpR (ia 9) (changeC n (nI P) w v) = va_up (ia 9) 2 (ia 9 2 + 1) := by rw [hC]; exact bump_2 _
          have eia11 : gd (changeC n (nI P) w v) (if w = 0 then va_up (ia 11) (nI P).toNatClampNeg v else ia 11) (ia 11) = ia 11 := by rw [hC]; first | rfl | (simp only [nI_clamp (n := P) (by omega)]; rfl) | (simp only [gd_0, nI_clamp (n := P) (by omega)]; split <;> first | rfl | contradiction)
          have eia12 : gd (changeC n (nI P) w v) (if w = 0 then ia 12 else va_up (ia 12) (nI P).toNatClampNeg v) (ia 12) = ia 12 := by rw [hC]; first | rfl | (simp only [nI_clamp (n := P) (by omega)]; rfl) | (simp only [gd_0, nI_clamp (n := P) (by omega)]; split <;> first | rfl | contradiction)
          have hI := wI_w (ws' := mW E ad kp tr iv (va_up (va_up (va_up ia 9 (bumpR (ia 9) (changeC n (nI P) w v))) 11 (gd (changeC n (nI P) w v) (if w = 0 then va_up (ia 11) (nI P).toNatClampNeg v else ia 11) (ia 11))) 12 (gd (changeC n (nI P) w v) (if w = 0 then ia 12 else va_up (ia 12) (nI P).toNatClampNeg v) (ia 12))) K R mv) (by rw [eia9, eia11, eia12, va_up_id (f := (va_up ia 9 (va_up (ia 9) 2 (ia 9 2 + 1)))) (k := 11) (v := ia 11) (up_n (by decide) rfl), va_up_id (f := (va_up ia 9 (va_up (ia 9) 2 (ia 9 2 + 1)))) (k := 12) (v := ia 12) (up_n (by decide) rfl)]; try rfl) hI
          exact hret () (-2) _ _ 0 0 _ _ dX5_change_46 hI (by show (-2) = gd (changeC n (nI P) w v) ((if w = 0 then ia 11 else ia 12) (nI P).toNatClampNeg) (changeC n (nI P) w v); rw [hC]; first | rfl | (simp only [nI_clamp (n := P) (by omega)]; rfl) | (simp only [gd_0, nI_clamp (n := P) (by omega)]; split <;> first | rfl | contradiction)) (Nat.le_of_ble_eq_true rfl) (Nat.le_of_ble_eq_true rfl) rfl
    · skip
      have c_12 : ¬ ((0 : Int64).toInt ≤ w.toInt64.toInt ∧ w.toInt64.toInt ≤ (1 : Int64).toInt) := of_decide_eq_false c_12
      have c_12 : ¬ (0 ≤ w.toInt ∧ w.toInt ≤ 1) := by simp only [Int32.toInt_toInt64] at c_12; exact c_12
      refine lv_if_eq (tgt := 40) hxR hbR dX5_change_15 (by decide) (fun _ => ?_) (fun c => absurd c (by decide))
      refine lv_aload_n hxR hbR dX5_change_40 rfl (lv_at hl 0 rfl) ?_
      refine lv_bipush (v := (-2)) hxR hbR dX5_change_41 (by decide) ?_
      refine kVI (n := 1) (As := [.int (-2)]) (rest := []) (fun w => w) hxR hbR hmlR hts hown hK hA hl.1 isCtx.id hI (c5_refuse l E ad kp tr iv ia K R mv (-2) 2 (by decide) (by decide)) (lw_V q1624 q1626 qs34 q86 q1627) ⟨rfl, by decide +kernel⟩ 16 5 rfl rfl mW_o rfl (Nat.le_of_ble_eq_true rfl) (Nat.le_of_ble_eq_true rfl) ⟨Nat.le_of_ble_eq_true rfl, Nat.le_of_ble_eq_true rfl⟩ (Nat.le_of_ble_eq_true rfl) dX5_change_43 (fun r_43 u H locs hp hI hz => ?_)
      have hI : wI E AR sR H locs (mW E ad kp tr iv (va_up ia 9 (va_up (ia 9) 2 (ia 9 2 + 1))) K R mv) := hI
      have hp : r_43 = (-2) := hp
      have hr_43 := hp
      subst hr_43
      have hC : changeC n (nI P) w v = (-2) := by
        clear hret hI
        unfold changeC
        try simp only [nI_clamp (n := P) (by omega)]
        repeat' split
        all_goals first | rfl | (exfalso; omega) | contradiction | (exfalso; simp_all; done) | simp_all
      have eia9 : bumpR (ia 9) (changeC n (nI P) w v) = va_up (ia 9) 2 (ia 9 2 + 1) := by rw [hC]; exact bump_2 _
      have eia11 : gd (changeC n (nI P) w v) (if w = 0 then va_up (ia 11) (nI P).toNatClampNeg v else ia 11) (ia 11) = ia 11 := by rw [hC]; first | rfl | (simp only [nI_clamp (n := P) (by omega)]; rfl) | (simp only [gd_0, nI_clamp (n := P) (by omega)]; split <;> first | rfl | contradiction)
      have eia12 : gd (changeC n (nI P) w v) (if w = 0 then ia 12 else va_up (ia 12) (nI P).toNatClampNeg v) (ia 12) = ia 12 := by rw [hC]; first | rfl | (simp only [nI_clamp (n := P) (by omega)]; rfl) | (simp only [gd_0, nI_clamp (n := P) (by omega)]; split <;> first | rfl | contradiction)
      have hI := wI_w (ws' := mW E ad kp tr iv (va_up (va_up (va_up ia 9 (bumpR (ia 9) (changeC n (nI P) w v))) 11 (gd (changeC n (nI P) w v) (if w = 0 then va_up (ia 11) (nI P).toNatClampNeg v else ia 11) (ia 11))) 12 (gd (changeC n (nI P) w v) (if w = 0 then ia 12 else va_up (ia 12) (nI P).toNatClampNeg v) (ia 12))) K R mv) (by rw [eia9, eia11, eia12, va_up_id (f := (va_up ia 9 (va_up (ia 9) 2 (ia 9 2 + 1)))) (k := 11) (v := ia 11) (up_n (by decide) rfl), va_up_id (f := (va_up ia 9 (va_up (ia 9) 2 (ia 9 2 + 1)))) (k := 12) (v := ia 12) (up_n (by decide) rfl)]; try rfl) hI
      exact hret () (-2) _ _ 0 0 _ _ dX5_change_46 hI (by show (-2) = gd (changeC n (nI P) w v) ((if w = 0 then ia 11 else ia 12) (nI P).toNatClampNeg) (changeC n (nI P) w v); rw [hC]; first | rfl | (simp only [nI_clamp (n := P) (by omega)]; rfl) | (simp only [gd_0, nI_clamp (n := P) (by omega)]; split <;> first | rfl | contradiction)) (Nat.le_of_ble_eq_true rfl) (Nat.le_of_ble_eq_true rfl) rfl
  · skip
    have c_2 : ¬ (0 ≤ x.toInt ∧ x.toInt < (n : Int)) := of_decide_eq_false c_2
    refine lv_if_eq (tgt := 40) hxR hbR dX5_change_5 (by decide) (fun _ => ?_) (fun c => absurd c (by decide))
    refine lv_aload_n hxR hbR dX5_change_40 rfl (lv_at hl 0 rfl) ?_
    refine lv_bipush (v := (-2)) hxR hbR dX5_change_41 (by decide) ?_
    refine kVI (n := 1) (As := [.int (-2)]) (rest := []) (fun w => w) hxR hbR hmlR hts hown hK hA hl.1 isCtx.id hI (c5_refuse l E ad kp tr iv ia K R mv (-2) 2 (by decide) (by decide)) (lw_V q1624 q1626 qs34 q86 q1627) ⟨rfl, by decide +kernel⟩ 16 5 rfl rfl mW_o rfl (Nat.le_of_ble_eq_true rfl) (Nat.le_of_ble_eq_true rfl) ⟨Nat.le_of_ble_eq_true rfl, Nat.le_of_ble_eq_true rfl⟩ (Nat.le_of_ble_eq_true rfl) dX5_change_43 (fun r_43 u H locs hp hI hz => ?_)
    have hI : wI E AR sR H locs (mW E ad kp tr iv (va_up ia 9 (va_up (ia 9) 2 (ia 9 2 + 1))) K R mv) := hI
    have hp : r_43 = (-2) := hp
    have hr_43 := hp
    subst hr_43
    have hC : changeC n x w v = (-2) := by
      clear hret hI
      unfold changeC
      repeat' split
      all_goals first | rfl | (exfalso; omega) | contradiction | (exfalso; simp_all; done) | simp_all
    have eia9 : bumpR (ia 9) (changeC n x w v) = va_up (ia 9) 2 (ia 9 2 + 1) := by rw [hC]; exact bump_2 _
    have eia11 : gd (changeC n x w v) (if w = 0 then va_up (ia 11) x.toNatClampNeg v else ia 11) (ia 11) = ia 11 := by rw [hC]; first | rfl | (simp only [gd_0]; split <;> first | rfl | contradiction)
    have eia12 : gd (changeC n x w v) (if w = 0 then ia 12 else va_up (ia 12) x.toNatClampNeg v) (ia 12) = ia 12 := by rw [hC]; first | rfl | (simp only [gd_0]; split <;> first | rfl | contradiction)
    have hI := wI_w (ws' := mW E ad kp tr iv (va_up (va_up (va_up ia 9 (bumpR (ia 9) (changeC n x w v))) 11 (gd (changeC n x w v) (if w = 0 then va_up (ia 11) x.toNatClampNeg v else ia 11) (ia 11))) 12 (gd (changeC n x w v) (if w = 0 then ia 12 else va_up (ia 12) x.toNatClampNeg v) (ia 12))) K R mv) (by rw [eia9, eia11, eia12, va_up_id (f := (va_up ia 9 (va_up (ia 9) 2 (ia 9 2 + 1)))) (k := 11) (v := ia 11) (up_n (by decide) rfl), va_up_id (f := (va_up ia 9 (va_up (ia 9) 2 (ia 9 2 + 1)))) (k := 12) (v := ia 12) (up_n (by decide) rfl)]; try rfl) hI
    exact hret () (-2) _ _ 0 0 _ _ dX5_change_46 hI (by show (-2) = gd (changeC n x w v) ((if w = 0 then ia 11 else ia 12) x.toNatClampNeg) (changeC n x w v); rw [hC]; first | rfl | (simp only [gd_0]; split <;> first | rfl | contradiction)) (Nat.le_of_ble_eq_true rfl) (Nat.le_of_ble_eq_true rfl) rfl

theorem c5_know (l : Launch) (E : En) (ad : Nat → Nat) (kp tr : Option Nat) (iv : Nat → Int32) (ia K : Nat → Nat → Int32) (R : Nat → Nat → Int64) (mv : Nat → Int64) (n : Nat) (x y v : Int32) (hn : iv 10 = nI n) (hn7 : n ≤ 7) : CtI l E yX5_know cX5_know 5 .int 3 0 0 [.ref (ad 45), .int x, .int y, .int v] (mW E ad kp tr iv ia K R mv) (fun (r : Int32) (u : Unit) => r = gd (knowC n x y v) (K x.toNatClampNeg y.toNatClampNeg) (knowC n x y v)) (fun (u : Unit) => mW E ad kp tr iv (va_up ia 9 (bumpR (ia 9) (knowC n x y v))) (gd (knowC n x y v) (knF K x.toNatClampNeg y.toNatClampNeg v) K) R mv) := by
  refine CtI.of (by decide +kernel) (Nat.le_of_ble_eq_true rfl) ?_
  intro pR eR sR mR aR bR tR cR AR ls QR hxR hbR hmlR hts hown hlk hnm hA hK hI hl hret
  have hl : lv_has ls 5 [(0, .ref (ad 45)), (1, .int x), (2, .int y), (3, .int v)] := hl
  refine lv_aload_n hxR hbR dX5_know_0 rfl (lv_at hl 0 rfl) ?_
  refine lv_iload_n hxR hbR dX5_know_1 rfl (lv_at hl 1 rfl) ?_
  refine lv_iload_n hxR hbR dX5_know_2 rfl (lv_at hl 2 rfl) ?_
  refine kVI (n := 2) (As := [.int x, .int y]) (rest := []) (fun w => w) hxR hbR hmlR hts hown hK hA hl.1 isCtx.id hI (c5_areTwo l E ad kp tr iv ia K R mv n x y hn (by omega)) (lw_V q1731 q1733 qs48 q86 q1734) ⟨rfl, by decide +kernel⟩ 16 5 rfl rfl mW_o rfl (Nat.le_of_ble_eq_true rfl) (Nat.le_of_ble_eq_true rfl) ⟨Nat.le_of_ble_eq_true rfl, Nat.le_of_ble_eq_true rfl⟩ (Nat.le_of_ble_eq_true rfl) dX5_know_3 (fun r_3 u H locs hp hI hz => ?_)
  have hI : wI E AR sR H locs (mW E ad kp tr iv ia K R mv) := hI
  have hp : r_3 = b2i (decide ((0 ≤ x.toInt ∧ x.toInt < (n : Int)) ∧ (0 ≤ y.toInt ∧ y.toInt < (n : Int)) ∧ ¬ x = y)) := hp
  have hr_3 := hp
  rcases b2i_cases hr_3 with ⟨c_3, rfl⟩ | ⟨c_3, rfl⟩
  · skip
    have c_3 : (0 ≤ x.toInt ∧ x.toInt < (n : Int)) ∧ (0 ≤ y.toInt ∧ y.toInt < (n : Int)) ∧ ¬ x = y := of_decide_eq_true c_3
    obtain ⟨P, hP, rfl⟩ := nat_of c_3.1 (by omega)
    have tP : (nI P).toInt = (P : Int) := nI_toInt (by omega)
    obtain ⟨Q, hQ, rfl⟩ := nat_of c_3.2.1 (by omega)
    have tQ : (nI Q).toInt = (Q : Int) := nI_toInt (by omega)
    refine lv_if_eq (tgt := 23) hxR hbR dX5_know_6 (by decide) (fun c => absurd c (by decide)) (fun _ => ?_)
    refine lv_iload_n hxR hbR dX5_know_9 rfl (lv_at hl 3 rfl) ?_
    refine lv_i2l (v := v.toInt64) hxR hbR dX5_know_10 rfl ?_
    refine lv_ldc2 (v := -1) hxR hbR hown (hts _ q1735) dX5_know_11 ?_
    refine lv_ldc2 (v := 99) hxR hbR hown (hts _ q1736) dX5_know_14 ?_
    refine kSI (n := 3) (As := [.long v.toInt64, .long (-1 : Int64), .long (99 : Int64)]) (rest := []) (fun w => w ++ (mW E ad kp tr iv ia K R mv)) hxR hbR hmlR hts hown hK hA hl.1 (isCtx.suf _) hI (c5_in l E  v.toInt64 (-1 : Int64) (99 : Int64) ) (lw_S q1619 q1620 q86 q1621) (by decide +kernel) rfl (Nat.le_of_ble_eq_true rfl) (Nat.le_of_ble_eq_true rfl) ⟨Nat.le_of_ble_eq_true rfl, Nat.le_of_ble_eq_true rfl⟩ (Nat.le_of_ble_eq_true rfl) dX5_know_17 (fun r_17 u H locs hp hI hz => ?_)
    have hI : wI E AR sR H locs (mW E ad kp tr iv ia K R mv) := hI
    have hp : r_17 = b2i (inL v.toInt64 (-1 : Int64) (99 : Int64)) := hp
    have hr_17 := hp
    rcases b2i_cases hr_17 with ⟨c_17, rfl⟩ | ⟨c_17, rfl⟩
    · skip
      have c_17 : (-1 : Int64).toInt ≤ v.toInt64.toInt ∧ v.toInt64.toInt ≤ (99 : Int64).toInt := of_decide_eq_true c_17
      have c_17 : (-1) ≤ v.toInt ∧ v.toInt ≤ 99 := by simp only [Int32.toInt_toInt64] at c_17; exact c_17
      refine lv_if_ne (tgt := 30) hxR hbR dX5_know_20 (by decide) (fun _ => ?_) (fun c => absurd c (by decide))
      refine lv_aload_n hxR hbR dX5_know_30 rfl (lv_at hl 0 rfl) ?_
      refine r_get hxR hbR hts hown hK hI okX5 (ci := 5) rfl 16 mW_o 13 (by decide) q1491 rfl (v := .ref (ad 13)) rfl dX5_know_31 ?_
      refine lv_iload_n hxR hbR dX5_know_34 rfl (lv_at hl 1 rfl) ?_
      refine r_aald hxR hbR hK hI 28 2 (r := ad (50 + P)) rfl rfl (n := 8) (J := P) rfl (by omega) (by decide) rfl dX5_know_35 ?_
      refine lv_iload_n hxR hbR dX5_know_36 rfl (lv_at hl 2 rfl) ?_
      refine r_iald hxR hbR hK hI P (n := 8) (J := Q) (f := K P) (v := (K P) Q) (mW_K P (by omega)) (by omega) (by decide) rfl dX5_know_37 ?_
      refine lv_istore (lv' := [(4, .int ((K P) Q)), (0, .ref (ad 45)), (1, .int (nI P)), (2, .int (nI Q)), (3, .int v)]) hxR hbR dX5_know_38 hl (by decide) rfl (fun ls hl => ?_)
      refine lv_aload_n hxR hbR dX5_know_40 rfl (lv_at hl 1 rfl) ?_
      refine lv_iload_n hxR hbR dX5_know_41 rfl (lv_at hl 2 rfl) ?_
      refine lv_iload_n hxR hbR dX5_know_42 rfl (lv_at hl 3 rfl) ?_
      refine lv_iload_n hxR hbR dX5_know_43 rfl (lv_at hl 4 rfl) ?_
      refine kVV (n := 3) (As := [.int (nI P), .int (nI Q), .int v]) (rest := []) (fun w => w) hxR hbR hmlR hts hown hK hA hl.1 isCtx.id hI (c5_knows l E ad kp tr iv ia K R mv P Q v (by first | omega | with_reducible assumption) (by first | omega | with_reducible assumption)) (lw_V q1737 q1739 qs49 q86 q1740) ⟨rfl, by decide +kernel⟩ 16 5 rfl rfl mW_o rfl (Nat.le_of_ble_eq_true rfl) (Nat.le_of_ble_eq_true rfl) ⟨Nat.le_of_ble_eq_true rfl, Nat.le_of_ble_eq_true rfl⟩ (Nat.le_of_ble_eq_true rfl) dX5_know_44 (fun u H locs hp hI hz => ?_)
      have hI : wI E AR sR H locs (mW E ad kp tr iv ia (knF K P Q v) R mv) := hI
      refine lv_iload hxR hbR dX5_know_47 (lv_at hl 0 rfl) ?_
      have hC : knowC n (nI P) (nI Q) v = 0 := by
        clear hret hI
        unfold knowC
        try simp only [nI_clamp (n := P) (by omega), nI_clamp (n := Q) (by omega)]
        repeat' split
        all_goals first | rfl | (exfalso; omega) | contradiction | (exfalso; simp_all; done) | simp_all
      have eia9 : bumpR (ia 9) (knowC n (nI P) (nI Q) v) = ia 9 := by rw [hC]; exact bump_0 _
      have eK : gd (knowC n (nI P) (nI Q) v) (knF K (nI P).toNatClampNeg (nI Q).toNatClampNeg v) K = knF K P Q v := by rw [hC]; first | rfl | (simp only [nI_clamp (n := P) (by omega), nI_clamp (n := Q) (by omega)]; rfl) | (simp only [gd_0, nI_clamp (n := P) (by omega), nI_clamp (n := Q) (by omega)]; split <;> first | rfl | contradiction)
      have hI := wI_w (ws' := mW E ad kp tr iv (va_up ia 9 (bumpR (ia 9) (knowC n (nI P) (nI Q) v))) (gd (knowC n (nI P) (nI Q) v) (knF K (nI P).toNatClampNeg (nI Q).toNatClampNeg v) K) R mv) (by rw [eia9, eK, va_up_id (f := ia) (k := 9) (v := ia 9) rfl]; try rfl) hI
      exact hret () ((K P) Q) _ _ 0 0 _ _ dX5_know_49 hI (by show ((K P) Q) = gd (knowC n (nI P) (nI Q) v) (K (nI P).toNatClampNeg (nI Q).toNatClampNeg) (knowC n (nI P) (nI Q) v); rw [hC]; first | rfl | (simp only [nI_clamp (n := P) (by omega), nI_clamp (n := Q) (by omega)]; rfl) | (simp only [gd_0, nI_clamp (n := P) (by omega), nI_clamp (n := Q) (by omega)]; split <;> first | rfl | contradiction)) (Nat.le_of_ble_eq_true rfl) (Nat.le_of_ble_eq_true rfl) rfl
    · skip
      have c_17 : ¬ ((-1 : Int64).toInt ≤ v.toInt64.toInt ∧ v.toInt64.toInt ≤ (99 : Int64).toInt) := of_decide_eq_false c_17
      have c_17 : ¬ ((-1) ≤ v.toInt ∧ v.toInt ≤ 99) := by simp only [Int32.toInt_toInt64] at c_17; exact c_17
      refine lv_if_ne (tgt := 30) hxR hbR dX5_know_20 (by decide) (fun c => absurd c (by decide)) (fun _ => ?_)
      refine lv_aload_n hxR hbR dX5_know_23 rfl (lv_at hl 0 rfl) ?_
      refine lv_bipush (v := (-2)) hxR hbR dX5_know_24 (by decide) ?_
      refine kVI (n := 1) (As := [.int (-2)]) (rest := []) (fun w => w) hxR hbR hmlR hts hown hK hA hl.1 isCtx.id hI (c5_refuse l E ad kp tr iv ia K R mv (-2) 2 (by decide) (by decide)) (lw_V q1624 q1626 qs34 q86 q1627) ⟨rfl, by decide +kernel⟩ 16 5 rfl rfl mW_o rfl (Nat.le_of_ble_eq_true rfl) (Nat.le_of_ble_eq_true rfl) ⟨Nat.le_of_ble_eq_true rfl, Nat.le_of_ble_eq_true rfl⟩ (Nat.le_of_ble_eq_true rfl) dX5_know_26 (fun r_26 u H locs hp hI hz => ?_)
      have hI : wI E AR sR H locs (mW E ad kp tr iv (va_up ia 9 (va_up (ia 9) 2 (ia 9 2 + 1))) K R mv) := hI
      have hp : r_26 = (-2) := hp
      have hr_26 := hp
      subst hr_26
      have hC : knowC n (nI P) (nI Q) v = (-2) := by
        clear hret hI
        unfold knowC
        try simp only [nI_clamp (n := P) (by omega), nI_clamp (n := Q) (by omega)]
        repeat' split
        all_goals first | rfl | (exfalso; omega) | contradiction | (exfalso; simp_all; done) | simp_all
      have eia9 : bumpR (ia 9) (knowC n (nI P) (nI Q) v) = va_up (ia 9) 2 (ia 9 2 + 1) := by rw [hC]; exact bump_2 _
      have eK : gd (knowC n (nI P) (nI Q) v) (knF K (nI P).toNatClampNeg (nI Q).toNatClampNeg v) K = K := by rw [hC]; first | rfl | (simp only [nI_clamp (n := P) (by omega), nI_clamp (n := Q) (by omega)]; rfl) | (simp only [gd_0, nI_clamp (n := P) (by omega), nI_clamp (n := Q) (by omega)]; split <;> first | rfl | contradiction)
      have hI := wI_w (ws' := mW E ad kp tr iv (va_up ia 9 (bumpR (ia 9) (knowC n (nI P) (nI Q) v))) (gd (knowC n (nI P) (nI Q) v) (knF K (nI P).toNatClampNeg (nI Q).toNatClampNeg v) K) R mv) (by rw [eia9, eK]; try rfl) hI
      exact hret () (-2) _ _ 0 0 _ _ dX5_know_29 hI (by show (-2) = gd (knowC n (nI P) (nI Q) v) (K (nI P).toNatClampNeg (nI Q).toNatClampNeg) (knowC n (nI P) (nI Q) v); rw [hC]; first | rfl | (simp only [nI_clamp (n := P) (by omega), nI_clamp (n := Q) (by omega)]; rfl) | (simp only [gd_0, nI_clamp (n := P) (by omega), nI_clamp (n := Q) (by omega)]; split <;> first | rfl | contradiction)) (Nat.le_of_ble_eq_true rfl) (Nat.le_of_ble_eq_true rfl) rfl
  · skip
    have c_3 : ¬ ((0 ≤ x.toInt ∧ x.toInt < (n : Int)) ∧ (0 ≤ y.toInt ∧ y.toInt < (n : Int)) ∧ ¬ x = y) := of_decide_eq_false c_3
    refine lv_if_eq (tgt := 23) hxR hbR dX5_know_6 (by decide) (fun _ => ?_) (fun c => absurd c (by decide))
    refine lv_aload_n hxR hbR dX5_know_23 rfl (lv_at hl 0 rfl) ?_
    refine lv_bipush (v := (-2)) hxR hbR dX5_know_24 (by decide) ?_
    refine kVI (n := 1) (As := [.int (-2)]) (rest := []) (fun w => w) hxR hbR hmlR hts hown hK hA hl.1 isCtx.id hI (c5_refuse l E ad kp tr iv ia K R mv (-2) 2 (by decide) (by decide)) (lw_V q1624 q1626 qs34 q86 q1627) ⟨rfl, by decide +kernel⟩ 16 5 rfl rfl mW_o rfl (Nat.le_of_ble_eq_true rfl) (Nat.le_of_ble_eq_true rfl) ⟨Nat.le_of_ble_eq_true rfl, Nat.le_of_ble_eq_true rfl⟩ (Nat.le_of_ble_eq_true rfl) dX5_know_26 (fun r_26 u H locs hp hI hz => ?_)
    have hI : wI E AR sR H locs (mW E ad kp tr iv (va_up ia 9 (va_up (ia 9) 2 (ia 9 2 + 1))) K R mv) := hI
    have hp : r_26 = (-2) := hp
    have hr_26 := hp
    subst hr_26
    have hC : knowC n x y v = (-2) := by
      clear hret hI
      unfold knowC
      repeat' split
      all_goals first | rfl | (exfalso; omega) | contradiction | (exfalso; simp_all; done) | simp_all
    have eia9 : bumpR (ia 9) (knowC n x y v) = va_up (ia 9) 2 (ia 9 2 + 1) := by rw [hC]; exact bump_2 _
    have eK : gd (knowC n x y v) (knF K x.toNatClampNeg y.toNatClampNeg v) K = K := by rw [hC]; first | rfl | (simp only [gd_0]; split <;> first | rfl | contradiction)
    have hI := wI_w (ws' := mW E ad kp tr iv (va_up ia 9 (bumpR (ia 9) (knowC n x y v))) (gd (knowC n x y v) (knF K x.toNatClampNeg y.toNatClampNeg v) K) R mv) (by rw [eia9, eK]; try rfl) hI
    exact hret () (-2) _ _ 0 0 _ _ dX5_know_29 hI (by show (-2) = gd (knowC n x y v) (K x.toNatClampNeg y.toNatClampNeg) (knowC n x y v); rw [hC]; first | rfl | (simp only [gd_0]; split <;> first | rfl | contradiction)) (Nat.le_of_ble_eq_true rfl) (Nat.le_of_ble_eq_true rfl) rfl

theorem c5_knownOf (l : Launch) (E : En) (ad : Nat → Nat) (kp tr : Option Nat) (iv : Nat → Int32) (ia K : Nat → Nat → Int32) (R : Nat → Nat → Int64) (mv : Nat → Int64) (n : Nat) (x y : Int32) (hn : iv 10 = nI n) (hn7 : n ≤ 7) : CtI l E yX5_knownOf cX5_knownOf 3 .int 3 0 0 [.ref (ad 45), .int x, .int y] (mW E ad kp tr iv ia K R mv) (fun (r : Int32) (u : Unit) => r = gd (twoC n x y) (K x.toNatClampNeg y.toNatClampNeg) (twoC n x y)) (fun (u : Unit) => mW E ad kp tr iv (va_up ia 9 (bumpR (ia 9) (twoC n x y))) K R mv) := by
  refine CtI.of (by decide +kernel) (Nat.le_of_ble_eq_true rfl) ?_
  intro pR eR sR mR aR bR tR cR AR ls QR hxR hbR hmlR hts hown hlk hnm hA hK hI hl hret
  have hl : lv_has ls 3 [(0, .ref (ad 45)), (1, .int x), (2, .int y)] := hl
  refine lv_aload_n hxR hbR dX5_knownOf_0 rfl (lv_at hl 0 rfl) ?_
  refine lv_iload_n hxR hbR dX5_knownOf_1 rfl (lv_at hl 1 rfl) ?_
  refine lv_iload_n hxR hbR dX5_knownOf_2 rfl (lv_at hl 2 rfl) ?_
  refine kVI (n := 2) (As := [.int x, .int y]) (rest := []) (fun w => w) hxR hbR hmlR hts hown hK hA hl.1 isCtx.id hI (c5_areTwo l E ad kp tr iv ia K R mv n x y hn (by omega)) (lw_V q1731 q1733 qs48 q86 q1734) ⟨rfl, by decide +kernel⟩ 16 5 rfl rfl mW_o rfl (Nat.le_of_ble_eq_true rfl) (Nat.le_of_ble_eq_true rfl) ⟨Nat.le_of_ble_eq_true rfl, Nat.le_of_ble_eq_true rfl⟩ (Nat.le_of_ble_eq_true rfl) dX5_knownOf_3 (fun r_3 u H locs hp hI hz => ?_)
  have hI : wI E AR sR H locs (mW E ad kp tr iv ia K R mv) := hI
  have hp : r_3 = b2i (decide ((0 ≤ x.toInt ∧ x.toInt < (n : Int)) ∧ (0 ≤ y.toInt ∧ y.toInt < (n : Int)) ∧ ¬ x = y)) := hp
  have hr_3 := hp
  rcases b2i_cases hr_3 with ⟨c_3, rfl⟩ | ⟨c_3, rfl⟩
  · skip
    have c_3 : (0 ≤ x.toInt ∧ x.toInt < (n : Int)) ∧ (0 ≤ y.toInt ∧ y.toInt < (n : Int)) ∧ ¬ x = y := of_decide_eq_true c_3
    obtain ⟨P, hP, rfl⟩ := nat_of c_3.1 (by omega)
    have tP : (nI P).toInt = (P : Int) := nI_toInt (by omega)
    obtain ⟨Q, hQ, rfl⟩ := nat_of c_3.2.1 (by omega)
    have tQ : (nI Q).toInt = (Q : Int) := nI_toInt (by omega)
    refine lv_if_eq (tgt := 20) hxR hbR dX5_knownOf_6 (by decide) (fun c => absurd c (by decide)) (fun _ => ?_)
    refine lv_aload_n hxR hbR dX5_knownOf_9 rfl (lv_at hl 0 rfl) ?_
    refine r_get hxR hbR hts hown hK hI okX5 (ci := 5) rfl 16 mW_o 13 (by decide) q1491 rfl (v := .ref (ad 13)) rfl dX5_knownOf_10 ?_
    refine lv_iload_n hxR hbR dX5_knownOf_13 rfl (lv_at hl 1 rfl) ?_
    refine r_aald hxR hbR hK hI 28 2 (r := ad (50 + P)) rfl rfl (n := 8) (J := P) rfl (by omega) (by decide) rfl dX5_knownOf_14 ?_
    refine lv_iload_n hxR hbR dX5_knownOf_15 rfl (lv_at hl 2 rfl) ?_
    refine r_iald hxR hbR hK hI P (n := 8) (J := Q) (f := K P) (v := (K P) Q) (mW_K P (by omega)) (by omega) (by decide) rfl dX5_knownOf_16 ?_
    refine lv_goto (tgt := 26) hxR hbR dX5_knownOf_17 (by decide) ?_
    have hC : twoC n (nI P) (nI Q) = 0 := by
      clear hret hI
      unfold twoC
      try simp only [nI_clamp (n := P) (by omega), nI_clamp (n := Q) (by omega)]
      repeat' split
      all_goals first | rfl | (exfalso; omega) | contradiction | (exfalso; simp_all; done) | simp_all
    have eia9 : bumpR (ia 9) (twoC n (nI P) (nI Q)) = ia 9 := by rw [hC]; exact bump_0 _
    have hI := wI_w (ws' := mW E ad kp tr iv (va_up ia 9 (bumpR (ia 9) (twoC n (nI P) (nI Q)))) K R mv) (by rw [eia9, va_up_id (f := ia) (k := 9) (v := ia 9) rfl]; try rfl) hI
    exact hret () ((K P) Q) _ _ 0 0 _ _ dX5_knownOf_26 hI (by show ((K P) Q) = gd (twoC n (nI P) (nI Q)) (K (nI P).toNatClampNeg (nI Q).toNatClampNeg) (twoC n (nI P) (nI Q)); rw [hC]; first | rfl | (simp only [nI_clamp (n := P) (by omega), nI_clamp (n := Q) (by omega)]; rfl) | (simp only [gd_0, nI_clamp (n := P) (by omega), nI_clamp (n := Q) (by omega)]; split <;> first | rfl | contradiction)) (Nat.le_of_ble_eq_true rfl) (Nat.le_of_ble_eq_true rfl) rfl
  · skip
    have c_3 : ¬ ((0 ≤ x.toInt ∧ x.toInt < (n : Int)) ∧ (0 ≤ y.toInt ∧ y.toInt < (n : Int)) ∧ ¬ x = y) := of_decide_eq_false c_3
    refine lv_if_eq (tgt := 20) hxR hbR dX5_knownOf_6 (by decide) (fun _ => ?_) (fun c => absurd c (by decide))
    refine lv_aload_n hxR hbR dX5_knownOf_20 rfl (lv_at hl 0 rfl) ?_
    refine lv_bipush (v := (-2)) hxR hbR dX5_knownOf_21 (by decide) ?_
    refine kVI (n := 1) (As := [.int (-2)]) (rest := []) (fun w => w) hxR hbR hmlR hts hown hK hA hl.1 isCtx.id hI (c5_refuse l E ad kp tr iv ia K R mv (-2) 2 (by decide) (by decide)) (lw_V q1624 q1626 qs34 q86 q1627) ⟨rfl, by decide +kernel⟩ 16 5 rfl rfl mW_o rfl (Nat.le_of_ble_eq_true rfl) (Nat.le_of_ble_eq_true rfl) ⟨Nat.le_of_ble_eq_true rfl, Nat.le_of_ble_eq_true rfl⟩ (Nat.le_of_ble_eq_true rfl) dX5_knownOf_23 (fun r_23 u H locs hp hI hz => ?_)
    have hI : wI E AR sR H locs (mW E ad kp tr iv (va_up ia 9 (va_up (ia 9) 2 (ia 9 2 + 1))) K R mv) := hI
    have hp : r_23 = (-2) := hp
    have hr_23 := hp
    subst hr_23
    have hC : twoC n x y = (-2) := by
      clear hret hI
      unfold twoC
      repeat' split
      all_goals first | rfl | (exfalso; omega) | contradiction | (exfalso; simp_all; done) | simp_all
    have eia9 : bumpR (ia 9) (twoC n x y) = va_up (ia 9) 2 (ia 9 2 + 1) := by rw [hC]; exact bump_2 _
    have hI := wI_w (ws' := mW E ad kp tr iv (va_up ia 9 (bumpR (ia 9) (twoC n x y))) K R mv) (by rw [eia9]; try rfl) hI
    exact hret () (-2) _ _ 0 0 _ _ dX5_knownOf_26 hI (by show (-2) = gd (twoC n x y) (K x.toNatClampNeg y.toNatClampNeg) (twoC n x y); rw [hC]; first | rfl | (simp only [gd_0]; split <;> first | rfl | contradiction)) (Nat.le_of_ble_eq_true rfl) (Nat.le_of_ble_eq_true rfl) rfl

theorem c5_ask (l : Launch) (E : En) (ad : Nat → Nat) (kp tr : Option Nat) (iv : Nat → Int32) (ia K : Nat → Nat → Int32) (R : Nat → Nat → Int64) (mv : Nat → Int64) (w v : Int32)  : CtI l E yX5_ask cX5_ask 4 .int 2 0 0 [.ref (ad 45), .int w, .int v] (mW E ad kp tr iv ia K R mv) (fun (r : Int32) (u : Unit) => r = gd (askC w v) (if w = 0 then iv 14 else iv 15) (askC w v)) (fun (u : Unit) => mW E ad kp tr (va_up (va_up iv 14 (gd (askC w v) (if w = 0 then v else iv 14) (iv 14))) 15 (gd (askC w v) (if w = 0 then iv 15 else v) (iv 15))) (va_up ia 9 (bumpR (ia 9) (askC w v))) K R mv) := by
  refine CtI.of (by decide +kernel) (Nat.le_of_ble_eq_true rfl) ?_
  intro pR eR sR mR aR bR tR cR AR ls QR hxR hbR hmlR hts hown hlk hnm hA hK hI hl hret
  have hl : lv_has ls 4 [(0, .ref (ad 45)), (1, .int w), (2, .int v)] := hl
  refine lv_iload_n hxR hbR dX5_ask_0 rfl (lv_at hl 1 rfl) ?_
  refine lv_i2l (v := w.toInt64) hxR hbR dX5_ask_1 rfl ?_
  refine lv_lconst (v := 0) hxR hbR dX5_ask_2 (by decide) ?_
  refine lv_lconst (v := 1) hxR hbR dX5_ask_3 (by decide) ?_
  refine kSI (n := 3) (As := [.long w.toInt64, .long (0 : Int64), .long (1 : Int64)]) (rest := []) (fun w => w ++ (mW E ad kp tr iv ia K R mv)) hxR hbR hmlR hts hown hK hA hl.1 (isCtx.suf _) hI (c5_in l E  w.toInt64 (0 : Int64) (1 : Int64) ) (lw_S q1619 q1620 q86 q1621) (by decide +kernel) rfl (Nat.le_of_ble_eq_true rfl) (Nat.le_of_ble_eq_true rfl) ⟨Nat.le_of_ble_eq_true rfl, Nat.le_of_ble_eq_true rfl⟩ (Nat.le_of_ble_eq_true rfl) dX5_ask_4 (fun r_4 u H locs hp hI hz => ?_)
  have hI : wI E AR sR H locs (mW E ad kp tr iv ia K R mv) := hI
  have hp : r_4 = b2i (inL w.toInt64 (0 : Int64) (1 : Int64)) := hp
  have hr_4 := hp
  rcases b2i_cases hr_4 with ⟨c_4, rfl⟩ | ⟨c_4, rfl⟩
  · skip
    have c_4 : (0 : Int64).toInt ≤ w.toInt64.toInt ∧ w.toInt64.toInt ≤ (1 : Int64).toInt := of_decide_eq_true c_4
    have c_4 : 0 ≤ w.toInt ∧ w.toInt ≤ 1 := by simp only [Int32.toInt_toInt64] at c_4; exact c_4
    refine lv_if_eq (tgt := 42) hxR hbR dX5_ask_7 (by decide) (fun c => absurd c (by decide)) (fun _ => ?_)
    refine lv_iload_n hxR hbR dX5_ask_10 rfl (lv_at hl 2 rfl) ?_
    refine lv_i2l (v := v.toInt64) hxR hbR dX5_ask_11 rfl ?_
    refine lv_iload_n hxR hbR dX5_ask_12 rfl (lv_at hl 1 rfl) ?_
    refine lv_if_ne (tgt := 22) hxR hbR dX5_ask_13 (by decide) (fun c_13 => ?_) (fun c_13 => ?_)
    · skip
      have i_13 : ¬ (w.toInt = 0) := by have zz := mt i_eq.mpr c_13; exact zz
      refine lv_lconst (v := 0) hxR hbR dX5_ask_22 (by decide) ?_
      refine lv_iload_n hxR hbR dX5_ask_23 rfl (lv_at hl 1 rfl) ?_
      refine lv_if_ne (tgt := 33) hxR hbR dX5_ask_24 (by decide) (fun c_24 => ?_) (fun c_24 => ?_)
      · skip
        have i_24 : ¬ (w.toInt = 0) := by have zz := mt i_eq.mpr c_24; exact zz
        refine lv_ldc2 (v := 99) hxR hbR hown (hts _ q1736) dX5_ask_33 ?_
        refine kSI (n := 3) (As := [.long v.toInt64, .long (0 : Int64), .long (99 : Int64)]) (rest := []) (fun w => w ++ (mW E ad kp tr iv ia K R mv)) hxR hbR hmlR hts hown hK hA hl.1 (isCtx.suf _) hI (c5_in l E  v.toInt64 (0 : Int64) (99 : Int64) ) (lw_S q1619 q1620 q86 q1621) (by decide +kernel) rfl (Nat.le_of_ble_eq_true rfl) (Nat.le_of_ble_eq_true rfl) ⟨Nat.le_of_ble_eq_true rfl, Nat.le_of_ble_eq_true rfl⟩ (Nat.le_of_ble_eq_true rfl) dX5_ask_36 (fun r_36 u H locs hp hI hz => ?_)
        have hI : wI E AR sR H locs (mW E ad kp tr iv ia K R mv) := hI
        have hp : r_36 = b2i (inL v.toInt64 (0 : Int64) (99 : Int64)) := hp
        have hr_36 := hp
        rcases b2i_cases hr_36 with ⟨c_36, rfl⟩ | ⟨c_36, rfl⟩
        · skip
          have c_36 : (0 : Int64).toInt ≤ v.toInt64.toInt ∧ v.toInt64.toInt ≤ (99 : Int64).toInt := of_decide_eq_true c_36
          have c_36 : 0 ≤ v.toInt ∧ v.toInt ≤ 99 := by simp only [Int32.toInt_toInt64] at c_36; exact c_36
          refine lv_if_ne (tgt := 49) hxR hbR dX5_ask_39 (by decide) (fun _ => ?_) (fun c => absurd c (by decide))
          refine lv_iload_n hxR hbR dX5_ask_49 rfl (lv_at hl 1 rfl) ?_
          refine lv_if_ne (tgt := 60) hxR hbR dX5_ask_50 (by decide) (fun c_50 => ?_) (fun c_50 => ?_)
          · skip
            have i_50 : ¬ (w.toInt = 0) := by have zz := mt i_eq.mpr c_50; exact zz
            refine lv_aload_n hxR hbR dX5_ask_60 rfl (lv_at hl 0 rfl) ?_
            refine r_get hxR hbR hts hown hK hI okX5 (ci := 5) rfl 16 mW_o 15 (by decide) q1493 rfl (v := .int (iv 15)) (al rfl) dX5_ask_61 ?_
            refine lv_istore_n (lv' := [(3, .int (iv 15)), (0, .ref (ad 45)), (1, .int w), (2, .int v)]) hxR hbR dX5_ask_64 rfl hl (by decide) rfl (fun ls hl => ?_)
            refine lv_iload_n hxR hbR dX5_ask_65 rfl (lv_at hl 2 rfl) ?_
            refine lv_if_ne (tgt := 77) hxR hbR dX5_ask_66 (by decide) (fun c_66 => ?_) (fun c_66 => ?_)
            · skip
              have i_66 : ¬ (w.toInt = 0) := by have zz := mt i_eq.mpr c_66; exact zz
              refine lv_aload_n hxR hbR dX5_ask_77 rfl (lv_at hl 1 rfl) ?_
              refine lv_iload_n hxR hbR dX5_ask_78 rfl (lv_at hl 3 rfl) ?_
              refine r_put (v := .int v) (ws1 := mW E ad kp tr (va_up iv 15 v) ia K R mv) hxR hbR hts hown hK hI okX5 (ci := 5) rfl 16 mW_o 15 (by decide) q1493 rfl rfl rfl rfl (Nat.le_of_ble_eq_true rfl) mW_i15 dX5_ask_79 (fun H locs hI => ?_)
              refine lv_iload_n hxR hbR dX5_ask_82 rfl (lv_at hl 0 rfl) ?_
              have hC : askC w v = 0 := by
                clear hret hI
                unfold askC
                repeat' split
                all_goals first | rfl | (exfalso; omega) | contradiction | (exfalso; simp_all; done) | simp_all
              have eiv14 : gd (askC w v) (if w = 0 then v else iv 14) (iv 14) = iv 14 := by rw [hC]; first | rfl | (simp only [gd_0]; split <;> first | rfl | contradiction)
              have eiv15 : gd (askC w v) (if w = 0 then iv 15 else v) (iv 15) = v := by rw [hC]; first | rfl | (simp only [gd_0]; split <;> first | rfl | contradiction)
              have eia9 : bumpR (ia 9) (askC w v) = ia 9 := by rw [hC]; exact bump_0 _
              have hI := wI_w (ws' := mW E ad kp tr (va_up (va_up iv 14 (gd (askC w v) (if w = 0 then v else iv 14) (iv 14))) 15 (gd (askC w v) (if w = 0 then iv 15 else v) (iv 15))) (va_up ia 9 (bumpR (ia 9) (askC w v))) K R mv) (by rw [eiv14, eiv15, eia9, va_up_id (f := iv) (k := 14) (v := iv 14) rfl, va_up_id (f := ia) (k := 9) (v := ia 9) rfl]; try rfl) hI
              exact hret () (iv 15) _ _ 0 0 _ _ dX5_ask_83 hI (by show (iv 15) = gd (askC w v) (if w = 0 then iv 14 else iv 15) (askC w v); rw [hC]; first | rfl | (simp only [gd_0]; split <;> first | rfl | contradiction)) (Nat.le_of_ble_eq_true rfl) (Nat.le_of_ble_eq_true rfl) rfl
            · skip
              have i_66 : w.toInt = 0 := by have zz := i_eq.mp c_66; exact zz
              refine lv_aload_n hxR hbR dX5_ask_69 rfl (lv_at hl 1 rfl) ?_
              refine lv_iload_n hxR hbR dX5_ask_70 rfl (lv_at hl 3 rfl) ?_
              refine r_put (v := .int v) (ws1 := mW E ad kp tr (va_up iv 14 v) ia K R mv) hxR hbR hts hown hK hI okX5 (ci := 5) rfl 16 mW_o 14 (by decide) q1492 rfl rfl rfl rfl (Nat.le_of_ble_eq_true rfl) mW_i14 dX5_ask_71 (fun H locs hI => ?_)
              refine lv_goto (tgt := 82) hxR hbR dX5_ask_74 (by decide) ?_
              refine lv_iload_n hxR hbR dX5_ask_82 rfl (lv_at hl 0 rfl) ?_
              have hC : askC w v = 0 := by
                clear hret hI
                unfold askC
                repeat' split
                all_goals first | rfl | (exfalso; omega) | contradiction | (exfalso; simp_all; done) | simp_all
              have eiv14 : gd (askC w v) (if w = 0 then v else iv 14) (iv 14) = v := by rw [hC]; first | rfl | (simp only [gd_0]; split <;> first | rfl | contradiction)
              have eiv15 : gd (askC w v) (if w = 0 then iv 15 else v) (iv 15) = iv 15 := by rw [hC]; first | rfl | (simp only [gd_0]; split <;> first | rfl | contradiction)
              have eia9 : bumpR (ia 9) (askC w v) = ia 9 := by rw [hC]; exact bump_0 _
              have hI := wI_w (ws' := mW E ad kp tr (va_up (va_up iv 14 (gd (askC w v) (if w = 0 then v else iv 14) (iv 14))) 15 (gd (askC w v) (if w = 0 then iv 15 else v) (iv 15))) (va_up ia 9 (bumpR (ia 9) (askC w v))) K R mv) (by rw [eiv14, eiv15, eia9, va_up_id (f := (va_up iv 14 v)) (k := 15) (v := iv 15) (up_n (by decide) rfl), va_up_id (f := ia) (k := 9) (v := ia 9) rfl]; try rfl) hI
              exact hret () (iv 15) _ _ 0 0 _ _ dX5_ask_83 hI (by show (iv 15) = gd (askC w v) (if w = 0 then iv 14 else iv 15) (askC w v); rw [hC]; first | rfl | (simp only [gd_0]; split <;> first | rfl | contradiction)) (Nat.le_of_ble_eq_true rfl) (Nat.le_of_ble_eq_true rfl) rfl
          · skip
            have i_50 : w.toInt = 0 := by have zz := i_eq.mp c_50; exact zz
            refine lv_aload_n hxR hbR dX5_ask_53 rfl (lv_at hl 0 rfl) ?_
            refine r_get hxR hbR hts hown hK hI okX5 (ci := 5) rfl 16 mW_o 14 (by decide) q1492 rfl (v := .int (iv 14)) (al rfl) dX5_ask_54 ?_
            refine lv_goto (tgt := 64) hxR hbR dX5_ask_57 (by decide) ?_
            refine lv_istore_n (lv' := [(3, .int (iv 14)), (0, .ref (ad 45)), (1, .int w), (2, .int v)]) hxR hbR dX5_ask_64 rfl hl (by decide) rfl (fun ls hl => ?_)
            refine lv_iload_n hxR hbR dX5_ask_65 rfl (lv_at hl 2 rfl) ?_
            refine lv_if_ne (tgt := 77) hxR hbR dX5_ask_66 (by decide) (fun c_66 => ?_) (fun c_66 => ?_)
            · skip
              have i_66 : ¬ (w.toInt = 0) := by have zz := mt i_eq.mpr c_66; exact zz
              refine lv_aload_n hxR hbR dX5_ask_77 rfl (lv_at hl 1 rfl) ?_
              refine lv_iload_n hxR hbR dX5_ask_78 rfl (lv_at hl 3 rfl) ?_
              refine r_put (v := .int v) (ws1 := mW E ad kp tr (va_up iv 15 v) ia K R mv) hxR hbR hts hown hK hI okX5 (ci := 5) rfl 16 mW_o 15 (by decide) q1493 rfl rfl rfl rfl (Nat.le_of_ble_eq_true rfl) mW_i15 dX5_ask_79 (fun H locs hI => ?_)
              refine lv_iload_n hxR hbR dX5_ask_82 rfl (lv_at hl 0 rfl) ?_
              have hC : askC w v = 0 := by
                clear hret hI
                unfold askC
                repeat' split
                all_goals first | rfl | (exfalso; omega) | contradiction | (exfalso; simp_all; done) | simp_all
              have eiv14 : gd (askC w v) (if w = 0 then v else iv 14) (iv 14) = iv 14 := by rw [hC]; first | rfl | (simp only [gd_0]; split <;> first | rfl | contradiction)
              have eiv15 : gd (askC w v) (if w = 0 then iv 15 else v) (iv 15) = v := by rw [hC]; first | rfl | (simp only [gd_0]; split <;> first | rfl | contradiction)
              have eia9 : bumpR (ia 9) (askC w v) = ia 9 := by rw [hC]; exact bump_0 _
              have hI := wI_w (ws' := mW E ad kp tr (va_up (va_up iv 14 (gd (askC w v) (if w = 0 then v else iv 14) (iv 14))) 15 (gd (askC w v) (if w = 0 then iv 15 else v) (iv 15))) (va_up ia 9 (bumpR (ia 9) (askC w v))) K R mv) (by rw [eiv14, eiv15, eia9, va_up_id (f := iv) (k := 14) (v := iv 14) rfl, va_up_id (f := ia) (k := 9) (v := ia 9) rfl]; try rfl) hI
              exact hret () (iv 14) _ _ 0 0 _ _ dX5_ask_83 hI (by show (iv 14) = gd (askC w v) (if w = 0 then iv 14 else iv 15) (askC w v); rw [hC]; first | rfl | (simp only [gd_0]; split <;> first | rfl | contradiction)) (Nat.le_of_ble_eq_true rfl) (Nat.le_of_ble_eq_true rfl) rfl
            · skip
              have i_66 : w.toInt = 0 := by have zz := i_eq.mp c_66; exact zz
              refine lv_aload_n hxR hbR dX5_ask_69 rfl (lv_at hl 1 rfl) ?_
              refine lv_iload_n hxR hbR dX5_ask_70 rfl (lv_at hl 3 rfl) ?_
              refine r_put (v := .int v) (ws1 := mW E ad kp tr (va_up iv 14 v) ia K R mv) hxR hbR hts hown hK hI okX5 (ci := 5) rfl 16 mW_o 14 (by decide) q1492 rfl rfl rfl rfl (Nat.le_of_ble_eq_true rfl) mW_i14 dX5_ask_71 (fun H locs hI => ?_)
              refine lv_goto (tgt := 82) hxR hbR dX5_ask_74 (by decide) ?_
              refine lv_iload_n hxR hbR dX5_ask_82 rfl (lv_at hl 0 rfl) ?_
              have hC : askC w v = 0 := by
                clear hret hI
                unfold askC
                repeat' split
                all_goals first | rfl | (exfalso; omega) | contradiction | (exfalso; simp_all; done) | simp_all
              have eiv14 : gd (askC w v) (if w = 0 then v else iv 14) (iv 14) = v := by rw [hC]; first | rfl | (simp only [gd_0]; split <;> first | rfl | contradiction)
              have eiv15 : gd (askC w v) (if w = 0 then iv 15 else v) (iv 15) = iv 15 := by rw [hC]; first | rfl | (simp only [gd_0]; split <;> first | rfl | contradiction)
              have eia9 : bumpR (ia 9) (askC w v) = ia 9 := by rw [hC]; exact bump_0 _
              have hI := wI_w (ws' := mW E ad kp tr (va_up (va_up iv 14 (gd (askC w v) (if w = 0 then v else iv 14) (iv 14))) 15 (gd (askC w v) (if w = 0 then iv 15 else v) (iv 15))) (va_up ia 9 (bumpR (ia 9) (askC w v))) K R mv) (by rw [eiv14, eiv15, eia9, va_up_id (f := (va_up iv 14 v)) (k := 15) (v := iv 15) (up_n (by decide) rfl), va_up_id (f := ia) (k := 9) (v := ia 9) rfl]; try rfl) hI
              exact hret () (iv 14) _ _ 0 0 _ _ dX5_ask_83 hI (by show (iv 14) = gd (askC w v) (if w = 0 then iv 14 else iv 15) (askC w v); rw [hC]; first | rfl | (simp only [gd_0]; split <;> first | rfl | contradiction)) (Nat.le_of_ble_eq_true rfl) (Nat.le_of_ble_eq_true rfl) rfl
        · skip
          have c_36 : ¬ ((0 : Int64).toInt ≤ v.toInt64.toInt ∧ v.toInt64.toInt ≤ (99 : Int64).toInt) := of_decide_eq_false c_36
          have c_36 : ¬ (0 ≤ v.toInt ∧ v.toInt ≤ 99) := by simp only [Int32.toInt_toInt64] at c_36; exact c_36
          refine lv_if_ne (tgt := 49) hxR hbR dX5_ask_39 (by decide) (fun c => absurd c (by decide)) (fun _ => ?_)
          refine lv_aload_n hxR hbR dX5_ask_42 rfl (lv_at hl 0 rfl) ?_
          refine lv_bipush (v := (-2)) hxR hbR dX5_ask_43 (by decide) ?_
          refine kVI (n := 1) (As := [.int (-2)]) (rest := []) (fun w => w) hxR hbR hmlR hts hown hK hA hl.1 isCtx.id hI (c5_refuse l E ad kp tr iv ia K R mv (-2) 2 (by decide) (by decide)) (lw_V q1624 q1626 qs34 q86 q1627) ⟨rfl, by decide +kernel⟩ 16 5 rfl rfl mW_o rfl (Nat.le_of_ble_eq_true rfl) (Nat.le_of_ble_eq_true rfl) ⟨Nat.le_of_ble_eq_true rfl, Nat.le_of_ble_eq_true rfl⟩ (Nat.le_of_ble_eq_true rfl) dX5_ask_45 (fun r_45 u H locs hp hI hz => ?_)
          have hI : wI E AR sR H locs (mW E ad kp tr iv (va_up ia 9 (va_up (ia 9) 2 (ia 9 2 + 1))) K R mv) := hI
          have hp : r_45 = (-2) := hp
          have hr_45 := hp
          subst hr_45
          have hC : askC w v = (-2) := by
            clear hret hI
            unfold askC
            repeat' split
            all_goals first | rfl | (exfalso; omega) | contradiction | (exfalso; simp_all; done) | simp_all
          have eiv14 : gd (askC w v) (if w = 0 then v else iv 14) (iv 14) = iv 14 := by rw [hC]; first | rfl | (simp only [gd_0]; split <;> first | rfl | contradiction)
          have eiv15 : gd (askC w v) (if w = 0 then iv 15 else v) (iv 15) = iv 15 := by rw [hC]; first | rfl | (simp only [gd_0]; split <;> first | rfl | contradiction)
          have eia9 : bumpR (ia 9) (askC w v) = va_up (ia 9) 2 (ia 9 2 + 1) := by rw [hC]; exact bump_2 _
          have hI := wI_w (ws' := mW E ad kp tr (va_up (va_up iv 14 (gd (askC w v) (if w = 0 then v else iv 14) (iv 14))) 15 (gd (askC w v) (if w = 0 then iv 15 else v) (iv 15))) (va_up ia 9 (bumpR (ia 9) (askC w v))) K R mv) (by rw [eiv14, eiv15, eia9, va_up_id (f := iv) (k := 14) (v := iv 14) rfl, va_up_id (f := iv) (k := 15) (v := iv 15) rfl]; try rfl) hI
          exact hret () (-2) _ _ 0 0 _ _ dX5_ask_48 hI (by show (-2) = gd (askC w v) (if w = 0 then iv 14 else iv 15) (askC w v); rw [hC]; first | rfl | (simp only [gd_0]; split <;> first | rfl | contradiction)) (Nat.le_of_ble_eq_true rfl) (Nat.le_of_ble_eq_true rfl) rfl
      · skip
        have i_24 : w.toInt = 0 := by have zz := i_eq.mp c_24; exact zz
        refine lv_ldc2 (v := 4) hxR hbR hown (hts _ q1622) dX5_ask_27 ?_
        refine lv_goto (tgt := 36) hxR hbR dX5_ask_30 (by decide) ?_
        refine kSI (n := 3) (As := [.long v.toInt64, .long (0 : Int64), .long (4 : Int64)]) (rest := []) (fun w => w ++ (mW E ad kp tr iv ia K R mv)) hxR hbR hmlR hts hown hK hA hl.1 (isCtx.suf _) hI (c5_in l E  v.toInt64 (0 : Int64) (4 : Int64) ) (lw_S q1619 q1620 q86 q1621) (by decide +kernel) rfl (Nat.le_of_ble_eq_true rfl) (Nat.le_of_ble_eq_true rfl) ⟨Nat.le_of_ble_eq_true rfl, Nat.le_of_ble_eq_true rfl⟩ (Nat.le_of_ble_eq_true rfl) dX5_ask_36 (fun r_36 u H locs hp hI hz => ?_)
        have hI : wI E AR sR H locs (mW E ad kp tr iv ia K R mv) := hI
        have hp : r_36 = b2i (inL v.toInt64 (0 : Int64) (4 : Int64)) := hp
        have hr_36 := hp
        rcases b2i_cases hr_36 with ⟨c_36, rfl⟩ | ⟨c_36, rfl⟩
        · skip
          have c_36 : (0 : Int64).toInt ≤ v.toInt64.toInt ∧ v.toInt64.toInt ≤ (4 : Int64).toInt := of_decide_eq_true c_36
          have c_36 : 0 ≤ v.toInt ∧ v.toInt ≤ 4 := by simp only [Int32.toInt_toInt64] at c_36; exact c_36
          refine lv_if_ne (tgt := 49) hxR hbR dX5_ask_39 (by decide) (fun _ => ?_) (fun c => absurd c (by decide))
          refine lv_iload_n hxR hbR dX5_ask_49 rfl (lv_at hl 1 rfl) ?_
          refine lv_if_ne (tgt := 60) hxR hbR dX5_ask_50 (by decide) (fun c_50 => ?_) (fun c_50 => ?_)
          · skip
            have i_50 : ¬ (w.toInt = 0) := by have zz := mt i_eq.mpr c_50; exact zz
            refine lv_aload_n hxR hbR dX5_ask_60 rfl (lv_at hl 0 rfl) ?_
            refine r_get hxR hbR hts hown hK hI okX5 (ci := 5) rfl 16 mW_o 15 (by decide) q1493 rfl (v := .int (iv 15)) (al rfl) dX5_ask_61 ?_
            refine lv_istore_n (lv' := [(3, .int (iv 15)), (0, .ref (ad 45)), (1, .int w), (2, .int v)]) hxR hbR dX5_ask_64 rfl hl (by decide) rfl (fun ls hl => ?_)
            refine lv_iload_n hxR hbR dX5_ask_65 rfl (lv_at hl 2 rfl) ?_
            refine lv_if_ne (tgt := 77) hxR hbR dX5_ask_66 (by decide) (fun c_66 => ?_) (fun c_66 => ?_)
            · skip
              have i_66 : ¬ (w.toInt = 0) := by have zz := mt i_eq.mpr c_66; exact zz
              refine lv_aload_n hxR hbR dX5_ask_77 rfl (lv_at hl 1 rfl) ?_
              refine lv_iload_n hxR hbR dX5_ask_78 rfl (lv_at hl 3 rfl) ?_
              refine r_put (v := .int v) (ws1 := mW E ad kp tr (va_up iv 15 v) ia K R mv) hxR hbR hts hown hK hI okX5 (ci := 5) rfl 16 mW_o 15 (by decide) q1493 rfl rfl rfl rfl (Nat.le_of_ble_eq_true rfl) mW_i15 dX5_ask_79 (fun H locs hI => ?_)
              refine lv_iload_n hxR hbR dX5_ask_82 rfl (lv_at hl 0 rfl) ?_
              have hC : askC w v = 0 := by
                clear hret hI
                unfold askC
                repeat' split
                all_goals first | rfl | (exfalso; omega) | contradiction | (exfalso; simp_all; done) | simp_all
              have eiv14 : gd (askC w v) (if w = 0 then v else iv 14) (iv 14) = iv 14 := by rw [hC]; first | rfl | (simp only [gd_0]; split <;> first | rfl | contradiction)
              have eiv15 : gd (askC w v) (if w = 0 then iv 15 else v) (iv 15) = v := by rw [hC]; first | rfl | (simp only [gd_0]; split <;> first | rfl | contradiction)
              have eia9 : bumpR (ia 9) (askC w v) = ia 9 := by rw [hC]; exact bump_0 _
              have hI := wI_w (ws' := mW E ad kp tr (va_up (va_up iv 14 (gd (askC w v) (if w = 0 then v else iv 14) (iv 14))) 15 (gd (askC w v) (if w = 0 then iv 15 else v) (iv 15))) (va_up ia 9 (bumpR (ia 9) (askC w v))) K R mv) (by rw [eiv14, eiv15, eia9, va_up_id (f := iv) (k := 14) (v := iv 14) rfl, va_up_id (f := ia) (k := 9) (v := ia 9) rfl]; try rfl) hI
              exact hret () (iv 15) _ _ 0 0 _ _ dX5_ask_83 hI (by show (iv 15) = gd (askC w v) (if w = 0 then iv 14 else iv 15) (askC w v); rw [hC]; first | rfl | (simp only [gd_0]; split <;> first | rfl | contradiction)) (Nat.le_of_ble_eq_true rfl) (Nat.le_of_ble_eq_true rfl) rfl
            · skip
              have i_66 : w.toInt = 0 := by have zz := i_eq.mp c_66; exact zz
              refine lv_aload_n hxR hbR dX5_ask_69 rfl (lv_at hl 1 rfl) ?_
              refine lv_iload_n hxR hbR dX5_ask_70 rfl (lv_at hl 3 rfl) ?_
              refine r_put (v := .int v) (ws1 := mW E ad kp tr (va_up iv 14 v) ia K R mv) hxR hbR hts hown hK hI okX5 (ci := 5) rfl 16 mW_o 14 (by decide) q1492 rfl rfl rfl rfl (Nat.le_of_ble_eq_true rfl) mW_i14 dX5_ask_71 (fun H locs hI => ?_)
              refine lv_goto (tgt := 82) hxR hbR dX5_ask_74 (by decide) ?_
              refine lv_iload_n hxR hbR dX5_ask_82 rfl (lv_at hl 0 rfl) ?_
              have hC : askC w v = 0 := by
                clear hret hI
                unfold askC
                repeat' split
                all_goals first | rfl | (exfalso; omega) | contradiction | (exfalso; simp_all; done) | simp_all
              have eiv14 : gd (askC w v) (if w = 0 then v else iv 14) (iv 14) = v := by rw [hC]; first | rfl | (simp only [gd_0]; split <;> first | rfl | contradiction)
              have eiv15 : gd (askC w v) (if w = 0 then iv 15 else v) (iv 15) = iv 15 := by rw [hC]; first | rfl | (simp only [gd_0]; split <;> first | rfl | contradiction)
              have eia9 : bumpR (ia 9) (askC w v) = ia 9 := by rw [hC]; exact bump_0 _
              have hI := wI_w (ws' := mW E ad kp tr (va_up (va_up iv 14 (gd (askC w v) (if w = 0 then v else iv 14) (iv 14))) 15 (gd (askC w v) (if w = 0 then iv 15 else v) (iv 15))) (va_up ia 9 (bumpR (ia 9) (askC w v))) K R mv) (by rw [eiv14, eiv15, eia9, va_up_id (f := (va_up iv 14 v)) (k := 15) (v := iv 15) (up_n (by decide) rfl), va_up_id (f := ia) (k := 9) (v := ia 9) rfl]; try rfl) hI
              exact hret () (iv 15) _ _ 0 0 _ _ dX5_ask_83 hI (by show (iv 15) = gd (askC w v) (if w = 0 then iv 14 else iv 15) (askC w v); rw [hC]; first | rfl | (simp only [gd_0]; split <;> first | rfl | contradiction)) (Nat.le_of_ble_eq_true rfl) (Nat.le_of_ble_eq_true rfl) rfl
          · skip
            have i_50 : w.toInt = 0 := by have zz := i_eq.mp c_50; exact zz
            refine lv_aload_n hxR hbR dX5_ask_53 rfl (lv_at hl 0 rfl) ?_
            refine r_get hxR hbR hts hown hK hI okX5 (ci := 5) rfl 16 mW_o 14 (by decide) q1492 rfl (v := .int (iv 14)) (al rfl) dX5_ask_54 ?_
            refine lv_goto (tgt := 64) hxR hbR dX5_ask_57 (by decide) ?_
            refine lv_istore_n (lv' := [(3, .int (iv 14)), (0, .ref (ad 45)), (1, .int w), (2, .int v)]) hxR hbR dX5_ask_64 rfl hl (by decide) rfl (fun ls hl => ?_)
            refine lv_iload_n hxR hbR dX5_ask_65 rfl (lv_at hl 2 rfl) ?_
            refine lv_if_ne (tgt := 77) hxR hbR dX5_ask_66 (by decide) (fun c_66 => ?_) (fun c_66 => ?_)
            · skip
              have i_66 : ¬ (w.toInt = 0) := by have zz := mt i_eq.mpr c_66; exact zz
              refine lv_aload_n hxR hbR dX5_ask_77 rfl (lv_at hl 1 rfl) ?_
              refine lv_iload_n hxR hbR dX5_ask_78 rfl (lv_at hl 3 rfl) ?_
              refine r_put (v := .int v) (ws1 := mW E ad kp tr (va_up iv 15 v) ia K R mv) hxR hbR hts hown hK hI okX5 (ci := 5) rfl 16 mW_o 15 (by decide) q1493 rfl rfl rfl rfl (Nat.le_of_ble_eq_true rfl) mW_i15 dX5_ask_79 (fun H locs hI => ?_)
              refine lv_iload_n hxR hbR dX5_ask_82 rfl (lv_at hl 0 rfl) ?_
              have hC : askC w v = 0 := by
                clear hret hI
                unfold askC
                repeat' split
                all_goals first | rfl | (exfalso; omega) | contradiction | (exfalso; simp_all; done) | simp_all
              have eiv14 : gd (askC w v) (if w = 0 then v else iv 14) (iv 14) = iv 14 := by rw [hC]; first | rfl | (simp only [gd_0]; split <;> first | rfl | contradiction)
              have eiv15 : gd (askC w v) (if w = 0 then iv 15 else v) (iv 15) = v := by rw [hC]; first | rfl | (simp only [gd_0]; split <;> first | rfl | contradiction)
              have eia9 : bumpR (ia 9) (askC w v) = ia 9 := by rw [hC]; exact bump_0 _
              have hI := wI_w (ws' := mW E ad kp tr (va_up (va_up iv 14 (gd (askC w v) (if w = 0 then v else iv 14) (iv 14))) 15 (gd (askC w v) (if w = 0 then iv 15 else v) (iv 15))) (va_up ia 9 (bumpR (ia 9) (askC w v))) K R mv) (by rw [eiv14, eiv15, eia9, va_up_id (f := iv) (k := 14) (v := iv 14) rfl, va_up_id (f := ia) (k := 9) (v := ia 9) rfl]; try rfl) hI
              exact hret () (iv 14) _ _ 0 0 _ _ dX5_ask_83 hI (by show (iv 14) = gd (askC w v) (if w = 0 then iv 14 else iv 15) (askC w v); rw [hC]; first | rfl | (simp only [gd_0]; split <;> first | rfl | contradiction)) (Nat.le_of_ble_eq_true rfl) (Nat.le_of_ble_eq_true rfl) rfl
            · skip
              have i_66 : w.toInt = 0 := by have zz := i_eq.mp c_66; exact zz
              refine lv_aload_n hxR hbR dX5_ask_69 rfl (lv_at hl 1 rfl) ?_
              refine lv_iload_n hxR hbR dX5_ask_70 rfl (lv_at hl 3 rfl) ?_
              refine r_put (v := .int v) (ws1 := mW E ad kp tr (va_up iv 14 v) ia K R mv) hxR hbR hts hown hK hI okX5 (ci := 5) rfl 16 mW_o 14 (by decide) q1492 rfl rfl rfl rfl (Nat.le_of_ble_eq_true rfl) mW_i14 dX5_ask_71 (fun H locs hI => ?_)
              refine lv_goto (tgt := 82) hxR hbR dX5_ask_74 (by decide) ?_
              refine lv_iload_n hxR hbR dX5_ask_82 rfl (lv_at hl 0 rfl) ?_
              have hC : askC w v = 0 := by
                clear hret hI
                unfold askC
                repeat' split
                all_goals first | rfl | (exfalso; omega) | contradiction | (exfalso; simp_all; done) | simp_all
              have eiv14 : gd (askC w v) (if w = 0 then v else iv 14) (iv 14) = v := by rw [hC]; first | rfl | (simp only [gd_0]; split <;> first | rfl | contradiction)
              have eiv15 : gd (askC w v) (if w = 0 then iv 15 else v) (iv 15) = iv 15 := by rw [hC]; first | rfl | (simp only [gd_0]; split <;> first | rfl | contradiction)
              have eia9 : bumpR (ia 9) (askC w v) = ia 9 := by rw [hC]; exact bump_0 _
              have hI := wI_w (ws' := mW E ad kp tr (va_up (va_up iv 14 (gd (askC w v) (if w = 0 then v else iv 14) (iv 14))) 15 (gd (askC w v) (if w = 0 then iv 15 else v) (iv 15))) (va_up ia 9 (bumpR (ia 9) (askC w v))) K R mv) (by rw [eiv14, eiv15, eia9, va_up_id (f := (va_up iv 14 v)) (k := 15) (v := iv 15) (up_n (by decide) rfl), va_up_id (f := ia) (k := 9) (v := ia 9) rfl]; try rfl) hI
              exact hret () (iv 14) _ _ 0 0 _ _ dX5_ask_83 hI (by show (iv 14) = gd (askC w v) (if w = 0 then iv 14 else iv 15) (askC w v); rw [hC]; first | rfl | (simp only [gd_0]; split <;> first | rfl | contradiction)) (Nat.le_of_ble_eq_true rfl) (Nat.le_of_ble_eq_true rfl) rfl
        · skip
          have c_36 : ¬ ((0 : Int64).toInt ≤ v.toInt64.toInt ∧ v.toInt64.toInt ≤ (4 : Int64).toInt) := of_decide_eq_false c_36
          have c_36 : ¬ (0 ≤ v.toInt ∧ v.toInt ≤ 4) := by simp only [Int32.toInt_toInt64] at c_36; exact c_36
          refine lv_if_ne (tgt := 49) hxR hbR dX5_ask_39 (by decide) (fun c => absurd c (by decide)) (fun _ => ?_)
          refine lv_aload_n hxR hbR dX5_ask_42 rfl (lv_at hl 0 rfl) ?_
          refine lv_bipush (v := (-2)) hxR hbR dX5_ask_43 (by decide) ?_
          refine kVI (n := 1) (As := [.int (-2)]) (rest := []) (fun w => w) hxR hbR hmlR hts hown hK hA hl.1 isCtx.id hI (c5_refuse l E ad kp tr iv ia K R mv (-2) 2 (by decide) (by decide)) (lw_V q1624 q1626 qs34 q86 q1627) ⟨rfl, by decide +kernel⟩ 16 5 rfl rfl mW_o rfl (Nat.le_of_ble_eq_true rfl) (Nat.le_of_ble_eq_true rfl) ⟨Nat.le_of_ble_eq_true rfl, Nat.le_of_ble_eq_true rfl⟩ (Nat.le_of_ble_eq_true rfl) dX5_ask_45 (fun r_45 u H locs hp hI hz => ?_)
          have hI : wI E AR sR H locs (mW E ad kp tr iv (va_up ia 9 (va_up (ia 9) 2 (ia 9 2 + 1))) K R mv) := hI
          have hp : r_45 = (-2) := hp
          have hr_45 := hp
          subst hr_45
          have hC : askC w v = (-2) := by
            clear hret hI
            unfold askC
            repeat' split
            all_goals first | rfl | (exfalso; omega) | contradiction | (exfalso; simp_all; done) | simp_all
          have eiv14 : gd (askC w v) (if w = 0 then v else iv 14) (iv 14) = iv 14 := by rw [hC]; first | rfl | (simp only [gd_0]; split <;> first | rfl | contradiction)
          have eiv15 : gd (askC w v) (if w = 0 then iv 15 else v) (iv 15) = iv 15 := by rw [hC]; first | rfl | (simp only [gd_0]; split <;> first | rfl | contradiction)
          have eia9 : bumpR (ia 9) (askC w v) = va_up (ia 9) 2 (ia 9 2 + 1) := by rw [hC]; exact bump_2 _
          have hI := wI_w (ws' := mW E ad kp tr (va_up (va_up iv 14 (gd (askC w v) (if w = 0 then v else iv 14) (iv 14))) 15 (gd (askC w v) (if w = 0 then iv 15 else v) (iv 15))) (va_up ia 9 (bumpR (ia 9) (askC w v))) K R mv) (by rw [eiv14, eiv15, eia9, va_up_id (f := iv) (k := 14) (v := iv 14) rfl, va_up_id (f := iv) (k := 15) (v := iv 15) rfl]; try rfl) hI
          exact hret () (-2) _ _ 0 0 _ _ dX5_ask_48 hI (by show (-2) = gd (askC w v) (if w = 0 then iv 14 else iv 15) (askC w v); rw [hC]; first | rfl | (simp only [gd_0]; split <;> first | rfl | contradiction)) (Nat.le_of_ble_eq_true rfl) (Nat.le_of_ble_eq_true rfl) rfl
    · skip
      have i_13 : w.toInt = 0 := by have zz := i_eq.mp c_13; exact zz
      refine lv_ldc2 (v := 2) hxR hbR hown (hts _ q1745) dX5_ask_16 ?_
      refine lv_goto (tgt := 23) hxR hbR dX5_ask_19 (by decide) ?_
      refine lv_iload_n hxR hbR dX5_ask_23 rfl (lv_at hl 1 rfl) ?_
      refine lv_if_ne (tgt := 33) hxR hbR dX5_ask_24 (by decide) (fun c_24 => ?_) (fun c_24 => ?_)
      · skip
        have i_24 : ¬ (w.toInt = 0) := by have zz := mt i_eq.mpr c_24; exact zz
        refine lv_ldc2 (v := 99) hxR hbR hown (hts _ q1736) dX5_ask_33 ?_
        refine kSI (n := 3) (As := [.long v.toInt64, .long (2 : Int64), .long (99 : Int64)]) (rest := []) (fun w => w ++ (mW E ad kp tr iv ia K R mv)) hxR hbR hmlR hts hown hK hA hl.1 (isCtx.suf _) hI (c5_in l E  v.toInt64 (2 : Int64) (99 : Int64) ) (lw_S q1619 q1620 q86 q1621) (by decide +kernel) rfl (Nat.le_of_ble_eq_true rfl) (Nat.le_of_ble_eq_true rfl) ⟨Nat.le_of_ble_eq_true rfl, Nat.le_of_ble_eq_true rfl⟩ (Nat.le_of_ble_eq_true rfl) dX5_ask_36 (fun r_36 u H locs hp hI hz => ?_)
        have hI : wI E AR sR H locs (mW E ad kp tr iv ia K R mv) := hI
        have hp : r_36 = b2i (inL v.toInt64 (2 : Int64) (99 : Int64)) := hp
        have hr_36 := hp
        rcases b2i_cases hr_36 with ⟨c_36, rfl⟩ | ⟨c_36, rfl⟩
        · skip
          have c_36 : (2 : Int64).toInt ≤ v.toInt64.toInt ∧ v.toInt64.toInt ≤ (99 : Int64).toInt := of_decide_eq_true c_36
          have c_36 : 2 ≤ v.toInt ∧ v.toInt ≤ 99 := by simp only [Int32.toInt_toInt64] at c_36; exact c_36
          refine lv_if_ne (tgt := 49) hxR hbR dX5_ask_39 (by decide) (fun _ => ?_) (fun c => absurd c (by decide))
          refine lv_iload_n hxR hbR dX5_ask_49 rfl (lv_at hl 1 rfl) ?_
          refine lv_if_ne (tgt := 60) hxR hbR dX5_ask_50 (by decide) (fun c_50 => ?_) (fun c_50 => ?_)
          · skip
            have i_50 : ¬ (w.toInt = 0) := by have zz := mt i_eq.mpr c_50; exact zz
            refine lv_aload_n hxR hbR dX5_ask_60 rfl (lv_at hl 0 rfl) ?_
            refine r_get hxR hbR hts hown hK hI okX5 (ci := 5) rfl 16 mW_o 15 (by decide) q1493 rfl (v := .int (iv 15)) (al rfl) dX5_ask_61 ?_
            refine lv_istore_n (lv' := [(3, .int (iv 15)), (0, .ref (ad 45)), (1, .int w), (2, .int v)]) hxR hbR dX5_ask_64 rfl hl (by decide) rfl (fun ls hl => ?_)
            refine lv_iload_n hxR hbR dX5_ask_65 rfl (lv_at hl 2 rfl) ?_
            refine lv_if_ne (tgt := 77) hxR hbR dX5_ask_66 (by decide) (fun c_66 => ?_) (fun c_66 => ?_)
            · skip
              have i_66 : ¬ (w.toInt = 0) := by have zz := mt i_eq.mpr c_66; exact zz
              refine lv_aload_n hxR hbR dX5_ask_77 rfl (lv_at hl 1 rfl) ?_
              refine lv_iload_n hxR hbR dX5_ask_78 rfl (lv_at hl 3 rfl) ?_
              refine r_put (v := .int v) (ws1 := mW E ad kp tr (va_up iv 15 v) ia K R mv) hxR hbR hts hown hK hI okX5 (ci := 5) rfl 16 mW_o 15 (by decide) q1493 rfl rfl rfl rfl (Nat.le_of_ble_eq_true rfl) mW_i15 dX5_ask_79 (fun H locs hI => ?_)
              refine lv_iload_n hxR hbR dX5_ask_82 rfl (lv_at hl 0 rfl) ?_
              have hC : askC w v = 0 := by
                clear hret hI
                unfold askC
                repeat' split
                all_goals first | rfl | (exfalso; omega) | contradiction | (exfalso; simp_all; done) | simp_all
              have eiv14 : gd (askC w v) (if w = 0 then v else iv 14) (iv 14) = iv 14 := by rw [hC]; first | rfl | (simp only [gd_0]; split <;> first | rfl | contradiction)
              have eiv15 : gd (askC w v) (if w = 0 then iv 15 else v) (iv 15) = v := by rw [hC]; first | rfl | (simp only [gd_0]; split <;> first | rfl | contradiction)
              have eia9 : bumpR (ia 9) (askC w v) = ia 9 := by rw [hC]; exact bump_0 _
              have hI := wI_w (ws' := mW E ad kp tr (va_up (va_up iv 14 (gd (askC w v) (if w = 0 then v else iv 14) (iv 14))) 15 (gd (askC w v) (if w = 0 then iv 15 else v) (iv 15))) (va_up ia 9 (bumpR (ia 9) (askC w v))) K R mv) (by rw [eiv14, eiv15, eia9, va_up_id (f := iv) (k := 14) (v := iv 14) rfl, va_up_id (f := ia) (k := 9) (v := ia 9) rfl]; try rfl) hI
              exact hret () (iv 15) _ _ 0 0 _ _ dX5_ask_83 hI (by show (iv 15) = gd (askC w v) (if w = 0 then iv 14 else iv 15) (askC w v); rw [hC]; first | rfl | (simp only [gd_0]; split <;> first | rfl | contradiction)) (Nat.le_of_ble_eq_true rfl) (Nat.le_of_ble_eq_true rfl) rfl
            · skip
              have i_66 : w.toInt = 0 := by have zz := i_eq.mp c_66; exact zz
              refine lv_aload_n hxR hbR dX5_ask_69 rfl (lv_at hl 1 rfl) ?_
              refine lv_iload_n hxR hbR dX5_ask_70 rfl (lv_at hl 3 rfl) ?_
              refine r_put (v := .int v) (ws1 := mW E ad kp tr (va_up iv 14 v) ia K R mv) hxR hbR hts hown hK hI okX5 (ci := 5) rfl 16 mW_o 14 (by decide) q1492 rfl rfl rfl rfl (Nat.le_of_ble_eq_true rfl) mW_i14 dX5_ask_71 (fun H locs hI => ?_)
              refine lv_goto (tgt := 82) hxR hbR dX5_ask_74 (by decide) ?_
              refine lv_iload_n hxR hbR dX5_ask_82 rfl (lv_at hl 0 rfl) ?_
              have hC : askC w v = 0 := by
                clear hret hI
                unfold askC
                repeat' split
                all_goals first | rfl | (exfalso; omega) | contradiction | (exfalso; simp_all; done) | simp_all
              have eiv14 : gd (askC w v) (if w = 0 then v else iv 14) (iv 14) = v := by rw [hC]; first | rfl | (simp only [gd_0]; split <;> first | rfl | contradiction)
              have eiv15 : gd (askC w v) (if w = 0 then iv 15 else v) (iv 15) = iv 15 := by rw [hC]; first | rfl | (simp only [gd_0]; split <;> first | rfl | contradiction)
              have eia9 : bumpR (ia 9) (askC w v) = ia 9 := by rw [hC]; exact bump_0 _
              have hI := wI_w (ws' := mW E ad kp tr (va_up (va_up iv 14 (gd (askC w v) (if w = 0 then v else iv 14) (iv 14))) 15 (gd (askC w v) (if w = 0 then iv 15 else v) (iv 15))) (va_up ia 9 (bumpR (ia 9) (askC w v))) K R mv) (by rw [eiv14, eiv15, eia9, va_up_id (f := (va_up iv 14 v)) (k := 15) (v := iv 15) (up_n (by decide) rfl), va_up_id (f := ia) (k := 9) (v := ia 9) rfl]; try rfl) hI
              exact hret () (iv 15) _ _ 0 0 _ _ dX5_ask_83 hI (by show (iv 15) = gd (askC w v) (if w = 0 then iv 14 else iv 15) (askC w v); rw [hC]; first | rfl | (simp only [gd_0]; split <;> first | rfl | contradiction)) (Nat.le_of_ble_eq_true rfl) (Nat.le_of_ble_eq_true rfl) rfl
          · skip
            have i_50 : w.toInt = 0 := by have zz := i_eq.mp c_50; exact zz
            refine lv_aload_n hxR hbR dX5_ask_53 rfl (lv_at hl 0 rfl) ?_
            refine r_get hxR hbR hts hown hK hI okX5 (ci := 5) rfl 16 mW_o 14 (by decide) q1492 rfl (v := .int (iv 14)) (al rfl) dX5_ask_54 ?_
            refine lv_goto (tgt := 64) hxR hbR dX5_ask_57 (by decide) ?_
            refine lv_istore_n (lv' := [(3, .int (iv 14)), (0, .ref (ad 45)), (1, .int w), (2, .int v)]) hxR hbR dX5_ask_64 rfl hl (by decide) rfl (fun ls hl => ?_)
            refine lv_iload_n hxR hbR dX5_ask_65 rfl (lv_at hl 2 rfl) ?_
            refine lv_if_ne (tgt := 77) hxR hbR dX5_ask_66 (by decide) (fun c_66 => ?_) (fun c_66 => ?_)
            · skip
              have i_66 : ¬ (w.toInt = 0) := by have zz := mt i_eq.mpr c_66; exact zz
              refine lv_aload_n hxR hbR dX5_ask_77 rfl (lv_at hl 1 rfl) ?_
              refine lv_iload_n hxR hbR dX5_ask_78 rfl (lv_at hl 3 rfl) ?_
              refine r_put (v := .int v) (ws1 := mW E ad kp tr (va_up iv 15 v) ia K R mv) hxR hbR hts hown hK hI okX5 (ci := 5) rfl 16 mW_o 15 (by decide) q1493 rfl rfl rfl rfl (Nat.le_of_ble_eq_true rfl) mW_i15 dX5_ask_79 (fun H locs hI => ?_)
              refine lv_iload_n hxR hbR dX5_ask_82 rfl (lv_at hl 0 rfl) ?_
              have hC : askC w v = 0 := by
                clear hret hI
                unfold askC
                repeat' split
                all_goals first | rfl | (exfalso; omega) | contradiction | (exfalso; simp_all; done) | simp_all
              have eiv14 : gd (askC w v) (if w = 0 then v else iv 14) (iv 14) = iv 14 := by rw [hC]; first | rfl | (simp only [gd_0]; split <;> first | rfl | contradiction)
              have eiv15 : gd (askC w v) (if w = 0 then iv 15 else v) (iv 15) = v := by rw [hC]; first | rfl | (simp only [gd_0]; split <;> first | rfl | contradiction)
              have eia9 : bumpR (ia 9) (askC w v) = ia 9 := by rw [hC]; exact bump_0 _
              have hI := wI_w (ws' := mW E ad kp tr (va_up (va_up iv 14 (gd (askC w v) (if w = 0 then v else iv 14) (iv 14))) 15 (gd (askC w v) (if w = 0 then iv 15 else v) (iv 15))) (va_up ia 9 (bumpR (ia 9) (askC w v))) K R mv) (by rw [eiv14, eiv15, eia9, va_up_id (f := iv) (k := 14) (v := iv 14) rfl, va_up_id (f := ia) (k := 9) (v := ia 9) rfl]; try rfl) hI
              exact hret () (iv 14) _ _ 0 0 _ _ dX5_ask_83 hI (by show (iv 14) = gd (askC w v) (if w = 0 then iv 14 else iv 15) (askC w v); rw [hC]; first | rfl | (simp only [gd_0]; split <;> first | rfl | contradiction)) (Nat.le_of_ble_eq_true rfl) (Nat.le_of_ble_eq_true rfl) rfl
            · skip
              have i_66 : w.toInt = 0 := by have zz := i_eq.mp c_66; exact zz
              refine lv_aload_n hxR hbR dX5_ask_69 rfl (lv_at hl 1 rfl) ?_
              refine lv_iload_n hxR hbR dX5_ask_70 rfl (lv_at hl 3 rfl) ?_
              refine r_put (v := .int v) (ws1 := mW E ad kp tr (va_up iv 14 v) ia K R mv) hxR hbR hts hown hK hI okX5 (ci := 5) rfl 16 mW_o 14 (by decide) q1492 rfl rfl rfl rfl (Nat.le_of_ble_eq_true rfl) mW_i14 dX5_ask_71 (fun H locs hI => ?_)
              refine lv_goto (tgt := 82) hxR hbR dX5_ask_74 (by decide) ?_
              refine lv_iload_n hxR hbR dX5_ask_82 rfl (lv_at hl 0 rfl) ?_
              have hC : askC w v = 0 := by
                clear hret hI
                unfold askC
                repeat' split
                all_goals first | rfl | (exfalso; omega) | contradiction | (exfalso; simp_all; done) | simp_all
              have eiv14 : gd (askC w v) (if w = 0 then v else iv 14) (iv 14) = v := by rw [hC]; first | rfl | (simp only [gd_0]; split <;> first | rfl | contradiction)
              have eiv15 : gd (askC w v) (if w = 0 then iv 15 else v) (iv 15) = iv 15 := by rw [hC]; first | rfl | (simp only [gd_0]; split <;> first | rfl | contradiction)
              have eia9 : bumpR (ia 9) (askC w v) = ia 9 := by rw [hC]; exact bump_0 _
              have hI := wI_w (ws' := mW E ad kp tr (va_up (va_up iv 14 (gd (askC w v) (if w = 0 then v else iv 14) (iv 14))) 15 (gd (askC w v) (if w = 0 then iv 15 else v) (iv 15))) (va_up ia 9 (bumpR (ia 9) (askC w v))) K R mv) (by rw [eiv14, eiv15, eia9, va_up_id (f := (va_up iv 14 v)) (k := 15) (v := iv 15) (up_n (by decide) rfl), va_up_id (f := ia) (k := 9) (v := ia 9) rfl]; try rfl) hI
              exact hret () (iv 14) _ _ 0 0 _ _ dX5_ask_83 hI (by show (iv 14) = gd (askC w v) (if w = 0 then iv 14 else iv 15) (askC w v); rw [hC]; first | rfl | (simp only [gd_0]; split <;> first | rfl | contradiction)) (Nat.le_of_ble_eq_true rfl) (Nat.le_of_ble_eq_true rfl) rfl
        · skip
          have c_36 : ¬ ((2 : Int64).toInt ≤ v.toInt64.toInt ∧ v.toInt64.toInt ≤ (99 : Int64).toInt) := of_decide_eq_false c_36
          have c_36 : ¬ (2 ≤ v.toInt ∧ v.toInt ≤ 99) := by simp only [Int32.toInt_toInt64] at c_36; exact c_36
          refine lv_if_ne (tgt := 49) hxR hbR dX5_ask_39 (by decide) (fun c => absurd c (by decide)) (fun _ => ?_)
          refine lv_aload_n hxR hbR dX5_ask_42 rfl (lv_at hl 0 rfl) ?_
          refine lv_bipush (v := (-2)) hxR hbR dX5_ask_43 (by decide) ?_
          refine kVI (n := 1) (As := [.int (-2)]) (rest := []) (fun w => w) hxR hbR hmlR hts hown hK hA hl.1 isCtx.id hI (c5_refuse l E ad kp tr iv ia K R mv (-2) 2 (by decide) (by decide)) (lw_V q1624 q1626 qs34 q86 q1627) ⟨rfl, by decide +kernel⟩ 16 5 rfl rfl mW_o rfl (Nat.le_of_ble_eq_true rfl) (Nat.le_of_ble_eq_true rfl) ⟨Nat.le_of_ble_eq_true rfl, Nat.le_of_ble_eq_true rfl⟩ (Nat.le_of_ble_eq_true rfl) dX5_ask_45 (fun r_45 u H locs hp hI hz => ?_)
          have hI : wI E AR sR H locs (mW E ad kp tr iv (va_up ia 9 (va_up (ia 9) 2 (ia 9 2 + 1))) K R mv) := hI
          have hp : r_45 = (-2) := hp
          have hr_45 := hp
          subst hr_45
          have hC : askC w v = (-2) := by
            clear hret hI
            unfold askC
            repeat' split
            all_goals first | rfl | (exfalso; omega) | contradiction | (exfalso; simp_all; done) | simp_all
          have eiv14 : gd (askC w v) (if w = 0 then v else iv 14) (iv 14) = iv 14 := by rw [hC]; first | rfl | (simp only [gd_0]; split <;> first | rfl | contradiction)
          have eiv15 : gd (askC w v) (if w = 0 then iv 15 else v) (iv 15) = iv 15 := by rw [hC]; first | rfl | (simp only [gd_0]; split <;> first | rfl | contradiction)
          have eia9 : bumpR (ia 9) (askC w v) = va_up (ia 9) 2 (ia 9 2 + 1) := by rw [hC]; exact bump_2 _
          have hI := wI_w (ws' := mW E ad kp tr (va_up (va_up iv 14 (gd (askC w v) (if w = 0 then v else iv 14) (iv 14))) 15 (gd (askC w v) (if w = 0 then iv 15 else v) (iv 15))) (va_up ia 9 (bumpR (ia 9) (askC w v))) K R mv) (by rw [eiv14, eiv15, eia9, va_up_id (f := iv) (k := 14) (v := iv 14) rfl, va_up_id (f := iv) (k := 15) (v := iv 15) rfl]; try rfl) hI
          exact hret () (-2) _ _ 0 0 _ _ dX5_ask_48 hI (by show (-2) = gd (askC w v) (if w = 0 then iv 14 else iv 15) (askC w v); rw [hC]; first | rfl | (simp only [gd_0]; split <;> first | rfl | contradiction)) (Nat.le_of_ble_eq_true rfl) (Nat.le_of_ble_eq_true rfl) rfl
      · skip
        have i_24 : w.toInt = 0 := by have zz := i_eq.mp c_24; exact zz
        refine lv_ldc2 (v := 4) hxR hbR hown (hts _ q1622) dX5_ask_27 ?_
        refine lv_goto (tgt := 36) hxR hbR dX5_ask_30 (by decide) ?_
        refine kSI (n := 3) (As := [.long v.toInt64, .long (2 : Int64), .long (4 : Int64)]) (rest := []) (fun w => w ++ (mW E ad kp tr iv ia K R mv)) hxR hbR hmlR hts hown hK hA hl.1 (isCtx.suf _) hI (c5_in l E  v.toInt64 (2 : Int64) (4 : Int64) ) (lw_S q1619 q1620 q86 q1621) (by decide +kernel) rfl (Nat.le_of_ble_eq_true rfl) (Nat.le_of_ble_eq_true rfl) ⟨Nat.le_of_ble_eq_true rfl, Nat.le_of_ble_eq_true rfl⟩ (Nat.le_of_ble_eq_true rfl) dX5_ask_36 (fun r_36 u H locs hp hI hz => ?_)
        have hI : wI E AR sR H locs (mW E ad kp tr iv ia K R mv) := hI
        have hp : r_36 = b2i (inL v.toInt64 (2 : Int64) (4 : Int64)) := hp
        have hr_36 := hp
        rcases b2i_cases hr_36 with ⟨c_36, rfl⟩ | ⟨c_36, rfl⟩
        · skip
          have c_36 : (2 : Int64).toInt ≤ v.toInt64.toInt ∧ v.toInt64.toInt ≤ (4 : Int64).toInt := of_decide_eq_true c_36
          have c_36 : 2 ≤ v.toInt ∧ v.toInt ≤ 4 := by simp only [Int32.toInt_toInt64] at c_36; exact c_36
          refine lv_if_ne (tgt := 49) hxR hbR dX5_ask_39 (by decide) (fun _ => ?_) (fun c => absurd c (by decide))
          refine lv_iload_n hxR hbR dX5_ask_49 rfl (lv_at hl 1 rfl) ?_
          refine lv_if_ne (tgt := 60) hxR hbR dX5_ask_50 (by decide) (fun c_50 => ?_) (fun c_50 => ?_)
          · skip
            have i_50 : ¬ (w.toInt = 0) := by have zz := mt i_eq.mpr c_50; exact zz
            refine lv_aload_n hxR hbR dX5_ask_60 rfl (lv_at hl 0 rfl) ?_
            refine r_get hxR hbR hts hown hK hI okX5 (ci := 5) rfl 16 mW_o 15 (by decide) q1493 rfl (v := .int (iv 15)) (al rfl) dX5_ask_61 ?_
            refine lv_istore_n (lv' := [(3, .int (iv 15)), (0, .ref (ad 45)), (1, .int w), (2, .int v)]) hxR hbR dX5_ask_64 rfl hl (by decide) rfl (fun ls hl => ?_)
            refine lv_iload_n hxR hbR dX5_ask_65 rfl (lv_at hl 2 rfl) ?_
            refine lv_if_ne (tgt := 77) hxR hbR dX5_ask_66 (by decide) (fun c_66 => ?_) (fun c_66 => ?_)
            · skip
              have i_66 : ¬ (w.toInt = 0) := by have zz := mt i_eq.mpr c_66; exact zz
              refine lv_aload_n hxR hbR dX5_ask_77 rfl (lv_at hl 1 rfl) ?_
              refine lv_iload_n hxR hbR dX5_ask_78 rfl (lv_at hl 3 rfl) ?_
              refine r_put (v := .int v) (ws1 := mW E ad kp tr (va_up iv 15 v) ia K R mv) hxR hbR hts hown hK hI okX5 (ci := 5) rfl 16 mW_o 15 (by decide) q1493 rfl rfl rfl rfl (Nat.le_of_ble_eq_true rfl) mW_i15 dX5_ask_79 (fun H locs hI => ?_)
              refine lv_iload_n hxR hbR dX5_ask_82 rfl (lv_at hl 0 rfl) ?_
              have hC : askC w v = 0 := by
                clear hret hI
                unfold askC
                repeat' split
                all_goals first | rfl | (exfalso; omega) | contradiction | (exfalso; simp_all; done) | simp_all
              have eiv14 : gd (askC w v) (if w = 0 then v else iv 14) (iv 14) = iv 14 := by rw [hC]; first | rfl | (simp only [gd_0]; split <;> first | rfl | contradiction)
              have eiv15 : gd (askC w v) (if w = 0 then iv 15 else v) (iv 15) = v := by rw [hC]; first | rfl | (simp only [gd_0]; split <;> first | rfl | contradiction)
              have eia9 : bumpR (ia 9) (askC w v) = ia 9 := by rw [hC]; exact bump_0 _
              have hI := wI_w (ws' := mW E ad kp tr (va_up (va_up iv 14 (gd (askC w v) (if w = 0 then v else iv 14) (iv 14))) 15 (gd (askC w v) (if w = 0 then iv 15 else v) (iv 15))) (va_up ia 9 (bumpR (ia 9) (askC w v))) K R mv) (by rw [eiv14, eiv15, eia9, va_up_id (f := iv) (k := 14) (v := iv 14) rfl, va_up_id (f := ia) (k := 9) (v := ia 9) rfl]; try rfl) hI
              exact hret () (iv 15) _ _ 0 0 _ _ dX5_ask_83 hI (by show (iv 15) = gd (askC w v) (if w = 0 then iv 14 else iv 15) (askC w v); rw [hC]; first | rfl | (simp only [gd_0]; split <;> first | rfl | contradiction)) (Nat.le_of_ble_eq_true rfl) (Nat.le_of_ble_eq_true rfl) rfl
            · skip
              have i_66 : w.toInt = 0 := by have zz := i_eq.mp c_66; exact zz
              refine lv_aload_n hxR hbR dX5_ask_69 rfl (lv_at hl 1 rfl) ?_
              refine lv_iload_n hxR hbR dX5_ask_70 rfl (lv_at hl 3 rfl) ?_
              refine r_put (v := .int v) (ws1 := mW E ad kp tr (va_up iv 14 v) ia K R mv) hxR hbR hts hown hK hI okX5 (ci := 5) rfl 16 mW_o 14 (by decide) q1492 rfl rfl rfl rfl (Nat.le_of_ble_eq_true rfl) mW_i14 dX5_ask_71 (fun H locs hI => ?_)
              refine lv_goto (tgt := 82) hxR hbR dX5_ask_74 (by decide) ?_
              refine lv_iload_n hxR hbR dX5_ask_82 rfl (lv_at hl 0 rfl) ?_
              have hC : askC w v = 0 := by
                clear hret hI
                unfold askC
                repeat' split
                all_goals first | rfl | (exfalso; omega) | contradiction | (exfalso; simp_all; done) | simp_all
              have eiv14 : gd (askC w v) (if w = 0 then v else iv 14) (iv 14) = v := by rw [hC]; first | rfl | (simp only [gd_0]; split <;> first | rfl | contradiction)
              have eiv15 : gd (askC w v) (if w = 0 then iv 15 else v) (iv 15) = iv 15 := by rw [hC]; first | rfl | (simp only [gd_0]; split <;> first | rfl | contradiction)
              have eia9 : bumpR (ia 9) (askC w v) = ia 9 := by rw [hC]; exact bump_0 _
              have hI := wI_w (ws' := mW E ad kp tr (va_up (va_up iv 14 (gd (askC w v) (if w = 0 then v else iv 14) (iv 14))) 15 (gd (askC w v) (if w = 0 then iv 15 else v) (iv 15))) (va_up ia 9 (bumpR (ia 9) (askC w v))) K R mv) (by rw [eiv14, eiv15, eia9, va_up_id (f := (va_up iv 14 v)) (k := 15) (v := iv 15) (up_n (by decide) rfl), va_up_id (f := ia) (k := 9) (v := ia 9) rfl]; try rfl) hI
              exact hret () (iv 15) _ _ 0 0 _ _ dX5_ask_83 hI (by show (iv 15) = gd (askC w v) (if w = 0 then iv 14 else iv 15) (askC w v); rw [hC]; first | rfl | (simp only [gd_0]; split <;> first | rfl | contradiction)) (Nat.le_of_ble_eq_true rfl) (Nat.le_of_ble_eq_true rfl) rfl
          · skip
            have i_50 : w.toInt = 0 := by have zz := i_eq.mp c_50; exact zz
            refine lv_aload_n hxR hbR dX5_ask_53 rfl (lv_at hl 0 rfl) ?_
            refine r_get hxR hbR hts hown hK hI okX5 (ci := 5) rfl 16 mW_o 14 (by decide) q1492 rfl (v := .int (iv 14)) (al rfl) dX5_ask_54 ?_
            refine lv_goto (tgt := 64) hxR hbR dX5_ask_57 (by decide) ?_
            refine lv_istore_n (lv' := [(3, .int (iv 14)), (0, .ref (ad 45)), (1, .int w), (2, .int v)]) hxR hbR dX5_ask_64 rfl hl (by decide) rfl (fun ls hl => ?_)
            refine lv_iload_n hxR hbR dX5_ask_65 rfl (lv_at hl 2 rfl) ?_
            refine lv_if_ne (tgt := 77) hxR hbR dX5_ask_66 (by decide) (fun c_66 => ?_) (fun c_66 => ?_)
            · skip
              have i_66 : ¬ (w.toInt = 0) := by have zz := mt i_eq.mpr c_66; exact zz
              refine lv_aload_n hxR hbR dX5_ask_77 rfl (lv_at hl 1 rfl) ?_
              refine lv_iload_n hxR hbR dX5_ask_78 rfl (lv_at hl 3 rfl) ?_
              refine r_put (v := .int v) (ws1 := mW E ad kp tr (va_up iv 15 v) ia K R mv) hxR hbR hts hown hK hI okX5 (ci := 5) rfl 16 mW_o 15 (by decide) q1493 rfl rfl rfl rfl (Nat.le_of_ble_eq_true rfl) mW_i15 dX5_ask_79 (fun H locs hI => ?_)
              refine lv_iload_n hxR hbR dX5_ask_82 rfl (lv_at hl 0 rfl) ?_
              have hC : askC w v = 0 := by
                clear hret hI
                unfold askC
                repeat' split
                all_goals first | rfl | (exfalso; omega) | contradiction | (exfalso; simp_all; done) | simp_all
              have eiv14 : gd (askC w v) (if w = 0 then v else iv 14) (iv 14) = iv 14 := by rw [hC]; first | rfl | (simp only [gd_0]; split <;> first | rfl | contradiction)
              have eiv15 : gd (askC w v) (if w = 0 then iv 15 else v) (iv 15) = v := by rw [hC]; first | rfl | (simp only [gd_0]; split <;> first | rfl | contradiction)
              have eia9 : bumpR (ia 9) (askC w v) = ia 9 := by rw [hC]; exact bump_0 _
              have hI := wI_w (ws' := mW E ad kp tr (va_up (va_up iv 14 (gd (askC w v) (if w = 0 then v else iv 14) (iv 14))) 15 (gd (askC w v) (if w = 0 then iv 15 else v) (iv 15))) (va_up ia 9 (bumpR (ia 9) (askC w v))) K R mv) (by rw [eiv14, eiv15, eia9, va_up_id (f := iv) (k := 14) (v := iv 14) rfl, va_up_id (f := ia) (k := 9) (v := ia 9) rfl]; try rfl) hI
              exact hret () (iv 14) _ _ 0 0 _ _ dX5_ask_83 hI (by show (iv 14) = gd (askC w v) (if w = 0 then iv 14 else iv 15) (askC w v); rw [hC]; first | rfl | (simp only [gd_0]; split <;> first | rfl | contradiction)) (Nat.le_of_ble_eq_true rfl) (Nat.le_of_ble_eq_true rfl) rfl
            · skip
              have i_66 : w.toInt = 0 := by have zz := i_eq.mp c_66; exact zz
              refine lv_aload_n hxR hbR dX5_ask_69 rfl (lv_at hl 1 rfl) ?_
              refine lv_iload_n hxR hbR dX5_ask_70 rfl (lv_at hl 3 rfl) ?_
              refine r_put (v := .int v) (ws1 := mW E ad kp tr (va_up iv 14 v) ia K R mv) hxR hbR hts hown hK hI okX5 (ci := 5) rfl 16 mW_o 14 (by decide) q1492 rfl rfl rfl rfl (Nat.le_of_ble_eq_true rfl) mW_i14 dX5_ask_71 (fun H locs hI => ?_)
              refine lv_goto (tgt := 82) hxR hbR dX5_ask_74 (by decide) ?_
              refine lv_iload_n hxR hbR dX5_ask_82 rfl (lv_at hl 0 rfl) ?_
              have hC : askC w v = 0 := by
                clear hret hI
                unfold askC
                repeat' split
                all_goals first | rfl | (exfalso; omega) | contradiction | (exfalso; simp_all; done) | simp_all
              have eiv14 : gd (askC w v) (if w = 0 then v else iv 14) (iv 14) = v := by rw [hC]; first | rfl | (simp only [gd_0]; split <;> first | rfl | contradiction)
              have eiv15 : gd (askC w v) (if w = 0 then iv 15 else v) (iv 15) = iv 15 := by rw [hC]; first | rfl | (simp only [gd_0]; split <;> first | rfl | contradiction)
              have eia9 : bumpR (ia 9) (askC w v) = ia 9 := by rw [hC]; exact bump_0 _
              have hI := wI_w (ws' := mW E ad kp tr (va_up (va_up iv 14 (gd (askC w v) (if w = 0 then v else iv 14) (iv 14))) 15 (gd (askC w v) (if w = 0 then iv 15 else v) (iv 15))) (va_up ia 9 (bumpR (ia 9) (askC w v))) K R mv) (by rw [eiv14, eiv15, eia9, va_up_id (f := (va_up iv 14 v)) (k := 15) (v := iv 15) (up_n (by decide) rfl), va_up_id (f := ia) (k := 9) (v := ia 9) rfl]; try rfl) hI
              exact hret () (iv 14) _ _ 0 0 _ _ dX5_ask_83 hI (by show (iv 14) = gd (askC w v) (if w = 0 then iv 14 else iv 15) (askC w v); rw [hC]; first | rfl | (simp only [gd_0]; split <;> first | rfl | contradiction)) (Nat.le_of_ble_eq_true rfl) (Nat.le_of_ble_eq_true rfl) rfl
        · skip
          have c_36 : ¬ ((2 : Int64).toInt ≤ v.toInt64.toInt ∧ v.toInt64.toInt ≤ (4 : Int64).toInt) := of_decide_eq_false c_36
          have c_36 : ¬ (2 ≤ v.toInt ∧ v.toInt ≤ 4) := by simp only [Int32.toInt_toInt64] at c_36; exact c_36
          refine lv_if_ne (tgt := 49) hxR hbR dX5_ask_39 (by decide) (fun c => absurd c (by decide)) (fun _ => ?_)
          refine lv_aload_n hxR hbR dX5_ask_42 rfl (lv_at hl 0 rfl) ?_
          refine lv_bipush (v := (-2)) hxR hbR dX5_ask_43 (by decide) ?_
          refine kVI (n := 1) (As := [.int (-2)]) (rest := []) (fun w => w) hxR hbR hmlR hts hown hK hA hl.1 isCtx.id hI (c5_refuse l E ad kp tr iv ia K R mv (-2) 2 (by decide) (by decide)) (lw_V q1624 q1626 qs34 q86 q1627) ⟨rfl, by decide +kernel⟩ 16 5 rfl rfl mW_o rfl (Nat.le_of_ble_eq_true rfl) (Nat.le_of_ble_eq_true rfl) ⟨Nat.le_of_ble_eq_true rfl, Nat.le_of_ble_eq_true rfl⟩ (Nat.le_of_ble_eq_true rfl) dX5_ask_45 (fun r_45 u H locs hp hI hz => ?_)
          have hI : wI E AR sR H locs (mW E ad kp tr iv (va_up ia 9 (va_up (ia 9) 2 (ia 9 2 + 1))) K R mv) := hI
          have hp : r_45 = (-2) := hp
          have hr_45 := hp
          subst hr_45
          have hC : askC w v = (-2) := by
            clear hret hI
            unfold askC
            repeat' split
            all_goals first | rfl | (exfalso; omega) | contradiction | (exfalso; simp_all; done) | simp_all
          have eiv14 : gd (askC w v) (if w = 0 then v else iv 14) (iv 14) = iv 14 := by rw [hC]; first | rfl | (simp only [gd_0]; split <;> first | rfl | contradiction)
          have eiv15 : gd (askC w v) (if w = 0 then iv 15 else v) (iv 15) = iv 15 := by rw [hC]; first | rfl | (simp only [gd_0]; split <;> first | rfl | contradiction)
          have eia9 : bumpR (ia 9) (askC w v) = va_up (ia 9) 2 (ia 9 2 + 1) := by rw [hC]; exact bump_2 _
          have hI := wI_w (ws' := mW E ad kp tr (va_up (va_up iv 14 (gd (askC w v) (if w = 0 then v else iv 14) (iv 14))) 15 (gd (askC w v) (if w = 0 then iv 15 else v) (iv 15))) (va_up ia 9 (bumpR (ia 9) (askC w v))) K R mv) (by rw [eiv14, eiv15, eia9, va_up_id (f := iv) (k := 14) (v := iv 14) rfl, va_up_id (f := iv) (k := 15) (v := iv 15) rfl]; try rfl) hI
          exact hret () (-2) _ _ 0 0 _ _ dX5_ask_48 hI (by show (-2) = gd (askC w v) (if w = 0 then iv 14 else iv 15) (askC w v); rw [hC]; first | rfl | (simp only [gd_0]; split <;> first | rfl | contradiction)) (Nat.le_of_ble_eq_true rfl) (Nat.le_of_ble_eq_true rfl) rfl
  · skip
    have c_4 : ¬ ((0 : Int64).toInt ≤ w.toInt64.toInt ∧ w.toInt64.toInt ≤ (1 : Int64).toInt) := of_decide_eq_false c_4
    have c_4 : ¬ (0 ≤ w.toInt ∧ w.toInt ≤ 1) := by simp only [Int32.toInt_toInt64] at c_4; exact c_4
    refine lv_if_eq (tgt := 42) hxR hbR dX5_ask_7 (by decide) (fun _ => ?_) (fun c => absurd c (by decide))
    refine lv_aload_n hxR hbR dX5_ask_42 rfl (lv_at hl 0 rfl) ?_
    refine lv_bipush (v := (-2)) hxR hbR dX5_ask_43 (by decide) ?_
    refine kVI (n := 1) (As := [.int (-2)]) (rest := []) (fun w => w) hxR hbR hmlR hts hown hK hA hl.1 isCtx.id hI (c5_refuse l E ad kp tr iv ia K R mv (-2) 2 (by decide) (by decide)) (lw_V q1624 q1626 qs34 q86 q1627) ⟨rfl, by decide +kernel⟩ 16 5 rfl rfl mW_o rfl (Nat.le_of_ble_eq_true rfl) (Nat.le_of_ble_eq_true rfl) ⟨Nat.le_of_ble_eq_true rfl, Nat.le_of_ble_eq_true rfl⟩ (Nat.le_of_ble_eq_true rfl) dX5_ask_45 (fun r_45 u H locs hp hI hz => ?_)
    have hI : wI E AR sR H locs (mW E ad kp tr iv (va_up ia 9 (va_up (ia 9) 2 (ia 9 2 + 1))) K R mv) := hI
    have hp : r_45 = (-2) := hp
    have hr_45 := hp
    subst hr_45
    have hC : askC w v = (-2) := by
      clear hret hI
      unfold askC
      repeat' split
      all_goals first | rfl | (exfalso; omega) | contradiction | (exfalso; simp_all; done) | simp_all
    have eiv14 : gd (askC w v) (if w = 0 then v else iv 14) (iv 14) = iv 14 := by rw [hC]; first | rfl | (simp only [gd_0]; split <;> first | rfl | contradiction)
    have eiv15 : gd (askC w v) (if w = 0 then iv 15 else v) (iv 15) = iv 15 := by rw [hC]; first | rfl | (simp only [gd_0]; split <;> first | rfl | contradiction)
    have eia9 : bumpR (ia 9) (askC w v) = va_up (ia 9) 2 (ia 9 2 + 1) := by rw [hC]; exact bump_2 _
    have hI := wI_w (ws' := mW E ad kp tr (va_up (va_up iv 14 (gd (askC w v) (if w = 0 then v else iv 14) (iv 14))) 15 (gd (askC w v) (if w = 0 then iv 15 else v) (iv 15))) (va_up ia 9 (bumpR (ia 9) (askC w v))) K R mv) (by rw [eiv14, eiv15, eia9, va_up_id (f := iv) (k := 14) (v := iv 14) rfl, va_up_id (f := iv) (k := 15) (v := iv 15) rfl]; try rfl) hI
    exact hret () (-2) _ _ 0 0 _ _ dX5_ask_48 hI (by show (-2) = gd (askC w v) (if w = 0 then iv 14 else iv 15) (askC w v); rw [hC]; first | rfl | (simp only [gd_0]; split <;> first | rfl | contradiction)) (Nat.le_of_ble_eq_true rfl) (Nat.le_of_ble_eq_true rfl) rfl

theorem c5_feed (l : Launch) (E : En) (ad : Nat → Nat) (kp tr : Option Nat) (iv : Nat → Int32) (ia K : Nat → Nat → Int32) (R : Nat → Nat → Int64) (mv : Nat → Int64) (sz : Nat) (x : Int32) (hsz : iv 8 = nI sz) (hz : sz ≤ 250) : CtI l E yX5_feed cX5_feed 2 .int 2 0 0 [.ref (ad 45), .int x] (mW E ad kp tr iv ia K R mv) (fun (r : Int32) (u : Unit) => r = gd (feedC sz x) (nI (sz + 1)) (feedC sz x)) (fun (u : Unit) => mW E ad kp tr (va_up iv 8 (gd (feedC sz x) (nI (sz + 1)) (iv 8))) (va_up (va_up ia 7 (gd (feedC sz x) (va_up (ia 7) sz x) (ia 7))) 9 (bumpR (ia 9) (feedC sz x))) K R mv) := by
  refine CtI.of (by decide +kernel) (Nat.le_of_ble_eq_true rfl) ?_
  intro pR eR sR mR aR bR tR cR AR ls QR hxR hbR hmlR hts hown hlk hnm hA hK hI hl hret
  have hl : lv_has ls 2 [(0, .ref (ad 45)), (1, .int x)] := hl
  refine lv_iload_n hxR hbR dX5_feed_0 rfl (lv_at hl 1 rfl) ?_
  refine lv_i2l (v := x.toInt64) hxR hbR dX5_feed_1 rfl ?_
  refine lv_lconst (v := 0) hxR hbR dX5_feed_2 (by decide) ?_
  refine lv_ldc2 (v := 255) hxR hbR hown (hts _ q1750) dX5_feed_3 ?_
  refine kSI (n := 3) (As := [.long x.toInt64, .long (0 : Int64), .long (255 : Int64)]) (rest := []) (fun w => w ++ (mW E ad kp tr iv ia K R mv)) hxR hbR hmlR hts hown hK hA hl.1 (isCtx.suf _) hI (c5_in l E  x.toInt64 (0 : Int64) (255 : Int64) ) (lw_S q1619 q1620 q86 q1621) (by decide +kernel) rfl (Nat.le_of_ble_eq_true rfl) (Nat.le_of_ble_eq_true rfl) ⟨Nat.le_of_ble_eq_true rfl, Nat.le_of_ble_eq_true rfl⟩ (Nat.le_of_ble_eq_true rfl) dX5_feed_6 (fun r_6 u H locs hp hI hz => ?_)
  have hI : wI E AR sR H locs (mW E ad kp tr iv ia K R mv) := hI
  have hp : r_6 = b2i (inL x.toInt64 (0 : Int64) (255 : Int64)) := hp
  have hr_6 := hp
  rcases b2i_cases hr_6 with ⟨c_6, rfl⟩ | ⟨c_6, rfl⟩
  · skip
    have c_6 : (0 : Int64).toInt ≤ x.toInt64.toInt ∧ x.toInt64.toInt ≤ (255 : Int64).toInt := of_decide_eq_true c_6
    have c_6 : 0 ≤ x.toInt ∧ x.toInt ≤ 255 := by simp only [Int32.toInt_toInt64] at c_6; exact c_6
    refine lv_if_ne (tgt := 19) hxR hbR dX5_feed_9 (by decide) (fun _ => ?_) (fun c => absurd c (by decide))
    refine lv_aload_n hxR hbR dX5_feed_19 rfl (lv_at hl 0 rfl) ?_
    refine r_get hxR hbR hts hown hK hI okX5 (ci := 5) rfl 16 mW_o 8 (by decide) q1486 rfl (v := .int (nI sz)) (al hsz) dX5_feed_20 ?_
    refine lv_sipush (v := 250) hxR hbR dX5_feed_23 (by decide) ?_
    refine lv_icmp_ne (tgt := 36) hxR hbR dX5_feed_26 (by decide) (fun c_26 => ?_) (fun c_26 => ?_)
    · skip
      have c_26 : ¬ sz = 250 := fun zz => c_26 ((n_eq (a := sz) (b := 250) (by omega) (by omega)).mpr zz)
      refine lv_aload_n hxR hbR dX5_feed_36 rfl (lv_at hl 0 rfl) ?_
      refine r_get hxR hbR hts hown hK hI okX5 (ci := 5) rfl 16 mW_o 7 (by decide) q1485 rfl (v := .ref (ad 7)) rfl dX5_feed_37 ?_
      refine lv_aload_n hxR hbR dX5_feed_40 rfl (lv_at hl 0 rfl) ?_
      refine lv_dup hxR hbR dX5_feed_41 rfl ?_
      refine r_get hxR hbR hts hown hK hI okX5 (ci := 5) rfl 16 mW_o 8 (by decide) q1486 rfl (v := .int (nI sz)) (al hsz) dX5_feed_42 ?_
      refine lv_dup_x1 hxR hbR dX5_feed_45 rfl rfl ?_
      refine lv_iconst (v := 1) hxR hbR dX5_feed_46 (by decide) ?_
      refine lv_iadd hxR hbR dX5_feed_47 ?_
      refine lv_as (y := nI (sz + 1)) (nI_add sz 1) ?_
      refine r_put (v := .int (nI (sz + 1))) (ws1 := mW E ad kp tr (va_up iv 8 (nI (sz + 1))) ia K R mv) hxR hbR hts hown hK hI okX5 (ci := 5) rfl 16 mW_o 8 (by decide) q1486 rfl rfl rfl rfl (Nat.le_of_ble_eq_true rfl) mW_i8 dX5_feed_48 (fun H locs hI => ?_)
      refine lv_iload_n hxR hbR dX5_feed_51 rfl (lv_at hl 1 rfl) ?_
      refine r_iast (ws1 := mW E ad kp tr (va_up iv 8 (nI (sz + 1))) (va_up ia 7 (va_up (ia 7) sz x)) K R mv) hxR hbR hK hI 24 (n := 250) (J := sz) (f := ia 7) (mW_g7 rfl) (by omega) (by decide) mW_a7 dX5_feed_52 (fun H locs hI => ?_)
      refine lv_aload_n hxR hbR dX5_feed_53 rfl (lv_at hl 0 rfl) ?_
      refine r_get hxR hbR hts hown hK hI okX5 (ci := 5) rfl 16 mW_o 8 (by decide) q1486 rfl (v := .int (nI (sz + 1))) (al va_up_s) dX5_feed_54 ?_
      have hC : feedC sz x = 0 := by
        clear hret hI
        unfold feedC
        repeat' split
        all_goals first | rfl | (exfalso; omega) | contradiction | (exfalso; simp_all; done) | simp_all
      have eiv8 : gd (feedC sz x) (nI (sz + 1)) (iv 8) = nI (sz + 1) := by rw [hC]; first | rfl | (simp only [gd_0]; split <;> first | rfl | contradiction)
      have eia7 : gd (feedC sz x) (va_up (ia 7) sz x) (ia 7) = va_up (ia 7) sz x := by rw [hC]; first | rfl | (simp only [gd_0]; split <;> first | rfl | contradiction)
      have eia9 : bumpR (ia 9) (feedC sz x) = ia 9 := by rw [hC]; exact bump_0 _
      have hI := wI_w (ws' := mW E ad kp tr (va_up iv 8 (gd (feedC sz x) (nI (sz + 1)) (iv 8))) (va_up (va_up ia 7 (gd (feedC sz x) (va_up (ia 7) sz x) (ia 7))) 9 (bumpR (ia 9) (feedC sz x))) K R mv) (by rw [eiv8, eia7, eia9, va_up_id (f := (va_up ia 7 (va_up (ia 7) sz x))) (k := 9) (v := ia 9) (up_n (by decide) rfl)]; try rfl) hI
      exact hret () (nI (sz + 1)) _ _ 0 0 _ _ dX5_feed_57 hI (by show (nI (sz + 1)) = gd (feedC sz x) (nI (sz + 1)) (feedC sz x); rw [hC]; first | rfl | (simp only [gd_0]; split <;> first | rfl | contradiction)) (Nat.le_of_ble_eq_true rfl) (Nat.le_of_ble_eq_true rfl) rfl
    · skip
      have c_26 : sz = 250 := (n_eq (a := sz) (b := 250) (by omega) (by omega)).mp c_26
      refine lv_aload_n hxR hbR dX5_feed_29 rfl (lv_at hl 0 rfl) ?_
      refine lv_bipush (v := (-6)) hxR hbR dX5_feed_30 (by decide) ?_
      refine kVI (n := 1) (As := [.int (-6)]) (rest := []) (fun w => w) hxR hbR hmlR hts hown hK hA hl.1 isCtx.id hI (c5_refuse l E ad kp tr iv ia K R mv (-6) 6 (by decide) (by decide)) (lw_V q1624 q1626 qs34 q86 q1627) ⟨rfl, by decide +kernel⟩ 16 5 rfl rfl mW_o rfl (Nat.le_of_ble_eq_true rfl) (Nat.le_of_ble_eq_true rfl) ⟨Nat.le_of_ble_eq_true rfl, Nat.le_of_ble_eq_true rfl⟩ (Nat.le_of_ble_eq_true rfl) dX5_feed_32 (fun r_32 u H locs hp hI hz => ?_)
      have hI : wI E AR sR H locs (mW E ad kp tr iv (va_up ia 9 (va_up (ia 9) 6 (ia 9 6 + 1))) K R mv) := hI
      have hp : r_32 = (-6) := hp
      have hr_32 := hp
      subst hr_32
      have hC : feedC sz x = (-6) := by
        clear hret hI
        unfold feedC
        repeat' split
        all_goals first | rfl | (exfalso; omega) | contradiction | (exfalso; simp_all; done) | simp_all
      have eiv8 : gd (feedC sz x) (nI (sz + 1)) (iv 8) = iv 8 := by rw [hC]; first | rfl | (simp only [gd_0]; split <;> first | rfl | contradiction)
      have eia7 : gd (feedC sz x) (va_up (ia 7) sz x) (ia 7) = ia 7 := by rw [hC]; first | rfl | (simp only [gd_0]; split <;> first | rfl | contradiction)
      have eia9 : bumpR (ia 9) (feedC sz x) = va_up (ia 9) 6 (ia 9 6 + 1) := by rw [hC]; exact bump_6 _
      have hI := wI_w (ws' := mW E ad kp tr (va_up iv 8 (gd (feedC sz x) (nI (sz + 1)) (iv 8))) (va_up (va_up ia 7 (gd (feedC sz x) (va_up (ia 7) sz x) (ia 7))) 9 (bumpR (ia 9) (feedC sz x))) K R mv) (by rw [eiv8, eia7, eia9, va_up_id (f := iv) (k := 8) (v := iv 8) rfl, va_up_id (f := ia) (k := 7) (v := ia 7) rfl]; try rfl) hI
      exact hret () (-6) _ _ 0 0 _ _ dX5_feed_35 hI (by show (-6) = gd (feedC sz x) (nI (sz + 1)) (feedC sz x); rw [hC]; first | rfl | (simp only [gd_0]; split <;> first | rfl | contradiction)) (Nat.le_of_ble_eq_true rfl) (Nat.le_of_ble_eq_true rfl) rfl
  · skip
    have c_6 : ¬ ((0 : Int64).toInt ≤ x.toInt64.toInt ∧ x.toInt64.toInt ≤ (255 : Int64).toInt) := of_decide_eq_false c_6
    have c_6 : ¬ (0 ≤ x.toInt ∧ x.toInt ≤ 255) := by simp only [Int32.toInt_toInt64] at c_6; exact c_6
    refine lv_if_ne (tgt := 19) hxR hbR dX5_feed_9 (by decide) (fun c => absurd c (by decide)) (fun _ => ?_)
    refine lv_aload_n hxR hbR dX5_feed_12 rfl (lv_at hl 0 rfl) ?_
    refine lv_bipush (v := (-2)) hxR hbR dX5_feed_13 (by decide) ?_
    refine kVI (n := 1) (As := [.int (-2)]) (rest := []) (fun w => w) hxR hbR hmlR hts hown hK hA hl.1 isCtx.id hI (c5_refuse l E ad kp tr iv ia K R mv (-2) 2 (by decide) (by decide)) (lw_V q1624 q1626 qs34 q86 q1627) ⟨rfl, by decide +kernel⟩ 16 5 rfl rfl mW_o rfl (Nat.le_of_ble_eq_true rfl) (Nat.le_of_ble_eq_true rfl) ⟨Nat.le_of_ble_eq_true rfl, Nat.le_of_ble_eq_true rfl⟩ (Nat.le_of_ble_eq_true rfl) dX5_feed_15 (fun r_15 u H locs hp hI hz => ?_)
    have hI : wI E AR sR H locs (mW E ad kp tr iv (va_up ia 9 (va_up (ia 9) 2 (ia 9 2 + 1))) K R mv) := hI
    have hp : r_15 = (-2) := hp
    have hr_15 := hp
    subst hr_15
    have hC : feedC sz x = (-2) := by
      clear hret hI
      unfold feedC
      repeat' split
      all_goals first | rfl | (exfalso; omega) | contradiction | (exfalso; simp_all; done) | simp_all
    have eiv8 : gd (feedC sz x) (nI (sz + 1)) (iv 8) = iv 8 := by rw [hC]; first | rfl | (simp only [gd_0]; split <;> first | rfl | contradiction)
    have eia7 : gd (feedC sz x) (va_up (ia 7) sz x) (ia 7) = ia 7 := by rw [hC]; first | rfl | (simp only [gd_0]; split <;> first | rfl | contradiction)
    have eia9 : bumpR (ia 9) (feedC sz x) = va_up (ia 9) 2 (ia 9 2 + 1) := by rw [hC]; exact bump_2 _
    have hI := wI_w (ws' := mW E ad kp tr (va_up iv 8 (gd (feedC sz x) (nI (sz + 1)) (iv 8))) (va_up (va_up ia 7 (gd (feedC sz x) (va_up (ia 7) sz x) (ia 7))) 9 (bumpR (ia 9) (feedC sz x))) K R mv) (by rw [eiv8, eia7, eia9, va_up_id (f := iv) (k := 8) (v := iv 8) rfl, va_up_id (f := ia) (k := 7) (v := ia 7) rfl]; try rfl) hI
    exact hret () (-2) _ _ 0 0 _ _ dX5_feed_18 hI (by show (-2) = gd (feedC sz x) (nI (sz + 1)) (feedC sz x); rw [hC]; first | rfl | (simp only [gd_0]; split <;> first | rfl | contradiction)) (Nat.le_of_ble_eq_true rfl) (Nat.le_of_ble_eq_true rfl) rfl

theorem c5_wipe (l : Launch) (E : En) (ad : Nat → Nat) (kp tr : Option Nat) (iv : Nat → Int32) (ia K : Nat → Nat → Int32) (R : Nat → Nat → Int64) (mv : Nat → Int64)   : CtI l E yX5_wipe cX5_wipe 2 .int 0 0 0 [.ref (ad 45)] (mW E ad kp tr iv ia K R mv) (fun (r : Int32) (u : Unit) => r = iv 8) (fun (u : Unit) => mW E ad kp tr (va_up iv 8 (nI 0)) ia K R mv) := by
  refine CtI.of (by decide +kernel) (Nat.le_of_ble_eq_true rfl) ?_
  intro pR eR sR mR aR bR tR cR AR ls QR hxR hbR hmlR hts hown hlk hnm hA hK hI hl hret
  have hl : lv_has ls 2 [(0, .ref (ad 45))] := hl
  refine lv_aload_n hxR hbR dX5_wipe_0 rfl (lv_at hl 0 rfl) ?_
  refine r_get hxR hbR hts hown hK hI okX5 (ci := 5) rfl 16 mW_o 8 (by decide) q1486 rfl (v := .int (iv 8)) (al rfl) dX5_wipe_1 ?_
  refine lv_istore_n (lv' := [(1, .int (iv 8)), (0, .ref (ad 45))]) hxR hbR dX5_wipe_4 rfl hl (by decide) rfl (fun ls hl => ?_)
  refine lv_aload_n hxR hbR dX5_wipe_5 rfl (lv_at hl 1 rfl) ?_
  refine lv_iconst (v := 0) hxR hbR dX5_wipe_6 (by decide) ?_
  refine r_put (v := .int 0) (ws1 := mW E ad kp tr (va_up iv 8 0) ia K R mv) hxR hbR hts hown hK hI okX5 (ci := 5) rfl 16 mW_o 8 (by decide) q1486 rfl rfl rfl rfl (Nat.le_of_ble_eq_true rfl) mW_i8 dX5_wipe_7 (fun H locs hI => ?_)
  refine lv_iload_n hxR hbR dX5_wipe_10 rfl (lv_at hl 0 rfl) ?_
  exact hret () (iv 8) _ _ _ _ _ _ dX5_wipe_11 hI (by show (iv 8) = iv 8; rfl) (Nat.le_of_ble_eq_true rfl) (Nat.le_of_ble_eq_true rfl) rfl

theorem c5_seed (l : Launch) (E : En) (ad : Nat → Nat) (kp tr : Option Nat) (iv : Nat → Int32) (ia K : Nat → Nat → Int32) (R : Nat → Nat → Int64) (mv : Nat → Int64) (x : Int32)  : CtI l E yX5_seed cX5_seed 3 .int 0 0 0 [.ref (ad 45), .int x] (mW E ad kp tr iv ia K R mv) (fun (r : Int32) (u : Unit) => r = iv 19) (fun (u : Unit) => mW E ad kp tr (va_up iv 19 x) ia K R mv) := by
  refine CtI.of (by decide +kernel) (Nat.le_of_ble_eq_true rfl) ?_
  intro pR eR sR mR aR bR tR cR AR ls QR hxR hbR hmlR hts hown hlk hnm hA hK hI hl hret
  have hl : lv_has ls 3 [(0, .ref (ad 45)), (1, .int x)] := hl
  refine lv_aload_n hxR hbR dX5_seed_0 rfl (lv_at hl 0 rfl) ?_
  refine r_get hxR hbR hts hown hK hI okX5 (ci := 5) rfl 16 mW_o 19 (by decide) q1497 rfl (v := .int (iv 19)) (al rfl) dX5_seed_1 ?_
  refine lv_istore_n (lv' := [(2, .int (iv 19)), (0, .ref (ad 45)), (1, .int x)]) hxR hbR dX5_seed_4 rfl hl (by decide) rfl (fun ls hl => ?_)
  refine lv_aload_n hxR hbR dX5_seed_5 rfl (lv_at hl 1 rfl) ?_
  refine lv_iload_n hxR hbR dX5_seed_6 rfl (lv_at hl 2 rfl) ?_
  refine r_put (v := .int x) (ws1 := mW E ad kp tr (va_up iv 19 x) ia K R mv) hxR hbR hts hown hK hI okX5 (ci := 5) rfl 16 mW_o 19 (by decide) q1497 rfl rfl rfl rfl (Nat.le_of_ble_eq_true rfl) mW_i19 dX5_seed_7 (fun H locs hI => ?_)
  refine lv_iload_n hxR hbR dX5_seed_10 rfl (lv_at hl 0 rfl) ?_
  exact hret () (iv 19) _ _ _ _ _ _ dX5_seed_11 hI (by show (iv 19) = iv 19; rfl) (Nat.le_of_ble_eq_true rfl) (Nat.le_of_ble_eq_true rfl) rfl

theorem c5_coachman (l : Launch) (E : En) (ad : Nat → Nat) (kp tr : Option Nat) (iv : Nat → Int32) (ia K : Nat → Nat → Int32) (R : Nat → Nat → Int64) (mv : Nat → Int64) (x k a : Int32)  : CtI l E yX5_coachman cX5_coachman 4 .int 2 0 0 [.ref (ad 45), .int x, .int k, .int a] (mW E ad kp tr iv ia K R mv) (fun (r : Int32) (u : Unit) => r = gd (manC x k a) 1 (manC x k a)) (fun (u : Unit) => mW E ad kp tr iv (va_up (va_up (va_up (va_up ia 0 (gd (manC x k a) (va_up (ia 0) x.toNatClampNeg 2) (ia 0))) 5 (gd (manC x k a) (va_up (ia 5) x.toNatClampNeg k) (ia 5))) 6 (gd (manC x k a) (va_up (ia 6) x.toNatClampNeg a) (ia 6))) 9 (bumpR (ia 9) (manC x k a))) K R mv) := by
  refine CtI.of (by decide +kernel) (Nat.le_of_ble_eq_true rfl) ?_
  intro pR eR sR mR aR bR tR cR AR ls QR hxR hbR hmlR hts hown hlk hnm hA hK hI hl hret
  have hl : lv_has ls 4 [(0, .ref (ad 45)), (1, .int x), (2, .int k), (3, .int a)] := hl
  refine lv_iload_n hxR hbR dX5_coachman_0 rfl (lv_at hl 1 rfl) ?_
  refine lv_i2l (v := x.toInt64) hxR hbR dX5_coachman_1 rfl ?_
  refine lv_lconst (v := 0) hxR hbR dX5_coachman_2 (by decide) ?_
  refine lv_ldc2 (v := 7) hxR hbR hown (hts _ q1618) dX5_coachman_3 ?_
  refine kSI (n := 3) (As := [.long x.toInt64, .long (0 : Int64), .long (7 : Int64)]) (rest := []) (fun w => w ++ (mW E ad kp tr iv ia K R mv)) hxR hbR hmlR hts hown hK hA hl.1 (isCtx.suf _) hI (c5_in l E  x.toInt64 (0 : Int64) (7 : Int64) ) (lw_S q1619 q1620 q86 q1621) (by decide +kernel) rfl (Nat.le_of_ble_eq_true rfl) (Nat.le_of_ble_eq_true rfl) ⟨Nat.le_of_ble_eq_true rfl, Nat.le_of_ble_eq_true rfl⟩ (Nat.le_of_ble_eq_true rfl) dX5_coachman_6 (fun r_6 u H locs hp hI hz => ?_)
  have hI : wI E AR sR H locs (mW E ad kp tr iv ia K R mv) := hI
  have hp : r_6 = b2i (inL x.toInt64 (0 : Int64) (7 : Int64)) := hp
  have hr_6 := hp
  rcases b2i_cases hr_6 with ⟨c_6, rfl⟩ | ⟨c_6, rfl⟩
  · skip
    have c_6 : (0 : Int64).toInt ≤ x.toInt64.toInt ∧ x.toInt64.toInt ≤ (7 : Int64).toInt := of_decide_eq_true c_6
    have c_6 : 0 ≤ x.toInt ∧ x.toInt ≤ 7 := by simp only [Int32.toInt_toInt64] at c_6; exact c_6
    obtain ⟨P, hP, rfl⟩ := nat_of_le (k := 7) c_6 (by decide)
    have tP : (nI P).toInt = (P : Int) := nI_toInt (by omega)
    refine lv_if_eq (tgt := 36) hxR hbR dX5_coachman_9 (by decide) (fun c => absurd c (by decide)) (fun _ => ?_)
    refine lv_iload_n hxR hbR dX5_coachman_12 rfl (lv_at hl 2 rfl) ?_
    refine lv_i2l (v := k.toInt64) hxR hbR dX5_coachman_13 rfl ?_
    refine lv_lconst (v := 1) hxR hbR dX5_coachman_14 (by decide) ?_
    refine lv_ldc2 (v := 5) hxR hbR hown (hts _ q1655) dX5_coachman_15 ?_
    refine kSI (n := 3) (As := [.long k.toInt64, .long (1 : Int64), .long (5 : Int64)]) (rest := []) (fun w => w ++ (mW E ad kp tr iv ia K R mv)) hxR hbR hmlR hts hown hK hA hl.1 (isCtx.suf _) hI (c5_in l E  k.toInt64 (1 : Int64) (5 : Int64) ) (lw_S q1619 q1620 q86 q1621) (by decide +kernel) rfl (Nat.le_of_ble_eq_true rfl) (Nat.le_of_ble_eq_true rfl) ⟨Nat.le_of_ble_eq_true rfl, Nat.le_of_ble_eq_true rfl⟩ (Nat.le_of_ble_eq_true rfl) dX5_coachman_18 (fun r_18 u H locs hp hI hz => ?_)
    have hI : wI E AR sR H locs (mW E ad kp tr iv ia K R mv) := hI
    have hp : r_18 = b2i (inL k.toInt64 (1 : Int64) (5 : Int64)) := hp
    have hr_18 := hp
    rcases b2i_cases hr_18 with ⟨c_18, rfl⟩ | ⟨c_18, rfl⟩
    · skip
      have c_18 : (1 : Int64).toInt ≤ k.toInt64.toInt ∧ k.toInt64.toInt ≤ (5 : Int64).toInt := of_decide_eq_true c_18
      have c_18 : 1 ≤ k.toInt ∧ k.toInt ≤ 5 := by simp only [Int32.toInt_toInt64] at c_18; exact c_18
      refine lv_if_eq (tgt := 36) hxR hbR dX5_coachman_21 (by decide) (fun c => absurd c (by decide)) (fun _ => ?_)
      refine lv_iload_n hxR hbR dX5_coachman_24 rfl (lv_at hl 3 rfl) ?_
      refine lv_i2l (v := a.toInt64) hxR hbR dX5_coachman_25 rfl ?_
      refine lv_lconst (v := 0) hxR hbR dX5_coachman_26 (by decide) ?_
      refine lv_ldc2 (v := 9) hxR hbR hown (hts _ q1656) dX5_coachman_27 ?_
      refine kSI (n := 3) (As := [.long a.toInt64, .long (0 : Int64), .long (9 : Int64)]) (rest := []) (fun w => w ++ (mW E ad kp tr iv ia K R mv)) hxR hbR hmlR hts hown hK hA hl.1 (isCtx.suf _) hI (c5_in l E  a.toInt64 (0 : Int64) (9 : Int64) ) (lw_S q1619 q1620 q86 q1621) (by decide +kernel) rfl (Nat.le_of_ble_eq_true rfl) (Nat.le_of_ble_eq_true rfl) ⟨Nat.le_of_ble_eq_true rfl, Nat.le_of_ble_eq_true rfl⟩ (Nat.le_of_ble_eq_true rfl) dX5_coachman_30 (fun r_30 u H locs hp hI hz => ?_)
      have hI : wI E AR sR H locs (mW E ad kp tr iv ia K R mv) := hI
      have hp : r_30 = b2i (inL a.toInt64 (0 : Int64) (9 : Int64)) := hp
      have hr_30 := hp
      rcases b2i_cases hr_30 with ⟨c_30, rfl⟩ | ⟨c_30, rfl⟩
      · skip
        have c_30 : (0 : Int64).toInt ≤ a.toInt64.toInt ∧ a.toInt64.toInt ≤ (9 : Int64).toInt := of_decide_eq_true c_30
        have c_30 : 0 ≤ a.toInt ∧ a.toInt ≤ 9 := by simp only [Int32.toInt_toInt64] at c_30; exact c_30
        refine lv_if_ne (tgt := 43) hxR hbR dX5_coachman_33 (by decide) (fun _ => ?_) (fun c => absurd c (by decide))
        refine lv_aload_n hxR hbR dX5_coachman_43 rfl (lv_at hl 0 rfl) ?_
        refine r_get hxR hbR hts hown hK hI okX5 (ci := 5) rfl 16 mW_o 0 (by decide) q1478 rfl (v := .ref (ad 0)) rfl dX5_coachman_44 ?_
        refine lv_iload_n hxR hbR dX5_coachman_47 rfl (lv_at hl 1 rfl) ?_
        refine lv_iconst (v := 2) hxR hbR dX5_coachman_48 (by decide) ?_
        refine r_iast (ws1 := mW E ad kp tr iv (va_up ia 0 (va_up (ia 0) P 2)) K R mv) hxR hbR hK hI 17 (n := 8) (J := P) (f := ia 0) (mW_g0 rfl) (by omega) (by decide) mW_a0 dX5_coachman_49 (fun H locs hI => ?_)
        refine lv_aload_n hxR hbR dX5_coachman_50 rfl (lv_at hl 0 rfl) ?_
        refine r_get hxR hbR hts hown hK hI okX5 (ci := 5) rfl 16 mW_o 5 (by decide) q1483 rfl (v := .ref (ad 5)) rfl dX5_coachman_51 ?_
        refine lv_iload_n hxR hbR dX5_coachman_54 rfl (lv_at hl 1 rfl) ?_
        refine lv_iload_n hxR hbR dX5_coachman_55 rfl (lv_at hl 2 rfl) ?_
        refine r_iast (ws1 := mW E ad kp tr iv (va_up (va_up ia 0 (va_up (ia 0) P 2)) 5 (va_up (ia 5) P k)) K R mv) hxR hbR hK hI 22 (n := 8) (J := P) (f := ia 5) (mW_g5 (up_n (by decide) rfl)) (by omega) (by decide) mW_a5 dX5_coachman_56 (fun H locs hI => ?_)
        refine lv_aload_n hxR hbR dX5_coachman_57 rfl (lv_at hl 0 rfl) ?_
        refine r_get hxR hbR hts hown hK hI okX5 (ci := 5) rfl 16 mW_o 6 (by decide) q1484 rfl (v := .ref (ad 6)) rfl dX5_coachman_58 ?_
        refine lv_iload_n hxR hbR dX5_coachman_61 rfl (lv_at hl 1 rfl) ?_
        refine lv_iload_n hxR hbR dX5_coachman_62 rfl (lv_at hl 3 rfl) ?_
        refine r_iast (ws1 := mW E ad kp tr iv (va_up (va_up (va_up ia 0 (va_up (ia 0) P 2)) 5 (va_up (ia 5) P k)) 6 (va_up (ia 6) P a)) K R mv) hxR hbR hK hI 23 (n := 8) (J := P) (f := ia 6) (mW_g6 (up_n (by decide) (up_n (by decide) rfl))) (by omega) (by decide) mW_a6 dX5_coachman_63 (fun H locs hI => ?_)
        refine lv_iconst (v := 1) hxR hbR dX5_coachman_64 (by decide) ?_
        have hC : manC (nI P) k a = 0 := by
          clear hret hI
          unfold manC
          try simp only [nI_clamp (n := P) (by omega)]
          repeat' split
          all_goals first | rfl | (exfalso; omega) | contradiction | (exfalso; simp_all; done) | simp_all
        have eia0 : gd (manC (nI P) k a) (va_up (ia 0) (nI P).toNatClampNeg 2) (ia 0) = va_up (ia 0) P 2 := by rw [hC]; first | rfl | (simp only [nI_clamp (n := P) (by omega)]; rfl) | (simp only [gd_0, nI_clamp (n := P) (by omega)]; split <;> first | rfl | contradiction)
        have eia5 : gd (manC (nI P) k a) (va_up (ia 5) (nI P).toNatClampNeg k) (ia 5) = va_up (ia 5) P k := by rw [hC]; first | rfl | (simp only [nI_clamp (n := P) (by omega)]; rfl) | (simp only [gd_0, nI_clamp (n := P) (by omega)]; split <;> first | rfl | contradiction)
        have eia6 : gd (manC (nI P) k a) (va_up (ia 6) (nI P).toNatClampNeg a) (ia 6) = va_up (ia 6) P a := by rw [hC]; first | rfl | (simp only [nI_clamp (n := P) (by omega)]; rfl) | (simp only [gd_0, nI_clamp (n := P) (by omega)]; split <;> first | rfl | contradiction)
        have eia9 : bumpR (ia 9) (manC (nI P) k a) = ia 9 := by rw [hC]; exact bump_0 _
        have hI := wI_w (ws' := mW E ad kp tr iv (va_up (va_up (va_up (va_up ia 0 (gd (manC (nI P) k a) (va_up (ia 0) (nI P).toNatClampNeg 2) (ia 0))) 5 (gd (manC (nI P) k a) (va_up (ia 5) (nI P).toNatClampNeg k) (ia 5))) 6 (gd (manC (nI P) k a) (va_up (ia 6) (nI P).toNatClampNeg a) (ia 6))) 9 (bumpR (ia 9) (manC (nI P) k a))) K R mv) (by rw [eia0, eia5, eia6, eia9, va_up_id (f := (va_up (va_up (va_up ia 0 (va_up (ia 0) P 2)) 5 (va_up (ia 5) P k)) 6 (va_up (ia 6) P a))) (k := 9) (v := ia 9) (up_n (by decide) (up_n (by decide) (up_n (by decide) rfl)))]; try rfl) hI
        exact hret () 1 _ _ 0 0 _ _ dX5_coachman_65 hI (by show 1 = gd (manC (nI P) k a) 1 (manC (nI P) k a); rw [hC]; first | rfl | (simp only [nI_clamp (n := P) (by omega)]; rfl) | (simp only [gd_0, nI_clamp (n := P) (by omega)]; split <;> first | rfl | contradiction)) (Nat.le_of_ble_eq_true rfl) (Nat.le_of_ble_eq_true rfl) rfl
      · skip
        have c_30 : ¬ ((0 : Int64).toInt ≤ a.toInt64.toInt ∧ a.toInt64.toInt ≤ (9 : Int64).toInt) := of_decide_eq_false c_30
        have c_30 : ¬ (0 ≤ a.toInt ∧ a.toInt ≤ 9) := by simp only [Int32.toInt_toInt64] at c_30; exact c_30
        refine lv_if_ne (tgt := 43) hxR hbR dX5_coachman_33 (by decide) (fun c => absurd c (by decide)) (fun _ => ?_)
        refine lv_aload_n hxR hbR dX5_coachman_36 rfl (lv_at hl 0 rfl) ?_
        refine lv_bipush (v := (-2)) hxR hbR dX5_coachman_37 (by decide) ?_
        refine kVI (n := 1) (As := [.int (-2)]) (rest := []) (fun w => w) hxR hbR hmlR hts hown hK hA hl.1 isCtx.id hI (c5_refuse l E ad kp tr iv ia K R mv (-2) 2 (by decide) (by decide)) (lw_V q1624 q1626 qs34 q86 q1627) ⟨rfl, by decide +kernel⟩ 16 5 rfl rfl mW_o rfl (Nat.le_of_ble_eq_true rfl) (Nat.le_of_ble_eq_true rfl) ⟨Nat.le_of_ble_eq_true rfl, Nat.le_of_ble_eq_true rfl⟩ (Nat.le_of_ble_eq_true rfl) dX5_coachman_39 (fun r_39 u H locs hp hI hz => ?_)
        have hI : wI E AR sR H locs (mW E ad kp tr iv (va_up ia 9 (va_up (ia 9) 2 (ia 9 2 + 1))) K R mv) := hI
        have hp : r_39 = (-2) := hp
        have hr_39 := hp
        subst hr_39
        have hC : manC (nI P) k a = (-2) := by
          clear hret hI
          unfold manC
          try simp only [nI_clamp (n := P) (by omega)]
          repeat' split
          all_goals first | rfl | (exfalso; omega) | contradiction | (exfalso; simp_all; done) | simp_all
        have eia0 : gd (manC (nI P) k a) (va_up (ia 0) (nI P).toNatClampNeg 2) (ia 0) = ia 0 := by rw [hC]; first | rfl | (simp only [nI_clamp (n := P) (by omega)]; rfl) | (simp only [gd_0, nI_clamp (n := P) (by omega)]; split <;> first | rfl | contradiction)
        have eia5 : gd (manC (nI P) k a) (va_up (ia 5) (nI P).toNatClampNeg k) (ia 5) = ia 5 := by rw [hC]; first | rfl | (simp only [nI_clamp (n := P) (by omega)]; rfl) | (simp only [gd_0, nI_clamp (n := P) (by omega)]; split <;> first | rfl | contradiction)
        have eia6 : gd (manC (nI P) k a) (va_up (ia 6) (nI P).toNatClampNeg a) (ia 6) = ia 6 := by rw [hC]; first | rfl | (simp only [nI_clamp (n := P) (by omega)]; rfl) | (simp only [gd_0, nI_clamp (n := P) (by omega)]; split <;> first | rfl | contradiction)
        have eia9 : bumpR (ia 9) (manC (nI P) k a) = va_up (ia 9) 2 (ia 9 2 + 1) := by rw [hC]; exact bump_2 _
        have hI := wI_w (ws' := mW E ad kp tr iv (va_up (va_up (va_up (va_up ia 0 (gd (manC (nI P) k a) (va_up (ia 0) (nI P).toNatClampNeg 2) (ia 0))) 5 (gd (manC (nI P) k a) (va_up (ia 5) (nI P).toNatClampNeg k) (ia 5))) 6 (gd (manC (nI P) k a) (va_up (ia 6) (nI P).toNatClampNeg a) (ia 6))) 9 (bumpR (ia 9) (manC (nI P) k a))) K R mv) (by rw [eia0, eia5, eia6, eia9, va_up_id (f := ia) (k := 0) (v := ia 0) rfl, va_up_id (f := ia) (k := 5) (v := ia 5) rfl, va_up_id (f := ia) (k := 6) (v := ia 6) rfl]; try rfl) hI
        exact hret () (-2) _ _ 0 0 _ _ dX5_coachman_42 hI (by show (-2) = gd (manC (nI P) k a) 1 (manC (nI P) k a); rw [hC]; first | rfl | (simp only [nI_clamp (n := P) (by omega)]; rfl) | (simp only [gd_0, nI_clamp (n := P) (by omega)]; split <;> first | rfl | contradiction)) (Nat.le_of_ble_eq_true rfl) (Nat.le_of_ble_eq_true rfl) rfl
    · skip
      have c_18 : ¬ ((1 : Int64).toInt ≤ k.toInt64.toInt ∧ k.toInt64.toInt ≤ (5 : Int64).toInt) := of_decide_eq_false c_18
      have c_18 : ¬ (1 ≤ k.toInt ∧ k.toInt ≤ 5) := by simp only [Int32.toInt_toInt64] at c_18; exact c_18
      refine lv_if_eq (tgt := 36) hxR hbR dX5_coachman_21 (by decide) (fun _ => ?_) (fun c => absurd c (by decide))
      refine lv_aload_n hxR hbR dX5_coachman_36 rfl (lv_at hl 0 rfl) ?_
      refine lv_bipush (v := (-2)) hxR hbR dX5_coachman_37 (by decide) ?_
      refine kVI (n := 1) (As := [.int (-2)]) (rest := []) (fun w => w) hxR hbR hmlR hts hown hK hA hl.1 isCtx.id hI (c5_refuse l E ad kp tr iv ia K R mv (-2) 2 (by decide) (by decide)) (lw_V q1624 q1626 qs34 q86 q1627) ⟨rfl, by decide +kernel⟩ 16 5 rfl rfl mW_o rfl (Nat.le_of_ble_eq_true rfl) (Nat.le_of_ble_eq_true rfl) ⟨Nat.le_of_ble_eq_true rfl, Nat.le_of_ble_eq_true rfl⟩ (Nat.le_of_ble_eq_true rfl) dX5_coachman_39 (fun r_39 u H locs hp hI hz => ?_)
      have hI : wI E AR sR H locs (mW E ad kp tr iv (va_up ia 9 (va_up (ia 9) 2 (ia 9 2 + 1))) K R mv) := hI
      have hp : r_39 = (-2) := hp
      have hr_39 := hp
      subst hr_39
      have hC : manC (nI P) k a = (-2) := by
        clear hret hI
        unfold manC
        try simp only [nI_clamp (n := P) (by omega)]
        repeat' split
        all_goals first | rfl | (exfalso; omega) | contradiction | (exfalso; simp_all; done) | simp_all
      have eia0 : gd (manC (nI P) k a) (va_up (ia 0) (nI P).toNatClampNeg 2) (ia 0) = ia 0 := by rw [hC]; first | rfl | (simp only [nI_clamp (n := P) (by omega)]; rfl) | (simp only [gd_0, nI_clamp (n := P) (by omega)]; split <;> first | rfl | contradiction)
      have eia5 : gd (manC (nI P) k a) (va_up (ia 5) (nI P).toNatClampNeg k) (ia 5) = ia 5 := by rw [hC]; first | rfl | (simp only [nI_clamp (n := P) (by omega)]; rfl) | (simp only [gd_0, nI_clamp (n := P) (by omega)]; split <;> first | rfl | contradiction)
      have eia6 : gd (manC (nI P) k a) (va_up (ia 6) (nI P).toNatClampNeg a) (ia 6) = ia 6 := by rw [hC]; first | rfl | (simp only [nI_clamp (n := P) (by omega)]; rfl) | (simp only [gd_0, nI_clamp (n := P) (by omega)]; split <;> first | rfl | contradiction)
      have eia9 : bumpR (ia 9) (manC (nI P) k a) = va_up (ia 9) 2 (ia 9 2 + 1) := by rw [hC]; exact bump_2 _
      have hI := wI_w (ws' := mW E ad kp tr iv (va_up (va_up (va_up (va_up ia 0 (gd (manC (nI P) k a) (va_up (ia 0) (nI P).toNatClampNeg 2) (ia 0))) 5 (gd (manC (nI P) k a) (va_up (ia 5) (nI P).toNatClampNeg k) (ia 5))) 6 (gd (manC (nI P) k a) (va_up (ia 6) (nI P).toNatClampNeg a) (ia 6))) 9 (bumpR (ia 9) (manC (nI P) k a))) K R mv) (by rw [eia0, eia5, eia6, eia9, va_up_id (f := ia) (k := 0) (v := ia 0) rfl, va_up_id (f := ia) (k := 5) (v := ia 5) rfl, va_up_id (f := ia) (k := 6) (v := ia 6) rfl]; try rfl) hI
      exact hret () (-2) _ _ 0 0 _ _ dX5_coachman_42 hI (by show (-2) = gd (manC (nI P) k a) 1 (manC (nI P) k a); rw [hC]; first | rfl | (simp only [nI_clamp (n := P) (by omega)]; rfl) | (simp only [gd_0, nI_clamp (n := P) (by omega)]; split <;> first | rfl | contradiction)) (Nat.le_of_ble_eq_true rfl) (Nat.le_of_ble_eq_true rfl) rfl
  · skip
    have c_6 : ¬ ((0 : Int64).toInt ≤ x.toInt64.toInt ∧ x.toInt64.toInt ≤ (7 : Int64).toInt) := of_decide_eq_false c_6
    have c_6 : ¬ (0 ≤ x.toInt ∧ x.toInt ≤ 7) := by simp only [Int32.toInt_toInt64] at c_6; exact c_6
    refine lv_if_eq (tgt := 36) hxR hbR dX5_coachman_9 (by decide) (fun _ => ?_) (fun c => absurd c (by decide))
    refine lv_aload_n hxR hbR dX5_coachman_36 rfl (lv_at hl 0 rfl) ?_
    refine lv_bipush (v := (-2)) hxR hbR dX5_coachman_37 (by decide) ?_
    refine kVI (n := 1) (As := [.int (-2)]) (rest := []) (fun w => w) hxR hbR hmlR hts hown hK hA hl.1 isCtx.id hI (c5_refuse l E ad kp tr iv ia K R mv (-2) 2 (by decide) (by decide)) (lw_V q1624 q1626 qs34 q86 q1627) ⟨rfl, by decide +kernel⟩ 16 5 rfl rfl mW_o rfl (Nat.le_of_ble_eq_true rfl) (Nat.le_of_ble_eq_true rfl) ⟨Nat.le_of_ble_eq_true rfl, Nat.le_of_ble_eq_true rfl⟩ (Nat.le_of_ble_eq_true rfl) dX5_coachman_39 (fun r_39 u H locs hp hI hz => ?_)
    have hI : wI E AR sR H locs (mW E ad kp tr iv (va_up ia 9 (va_up (ia 9) 2 (ia 9 2 + 1))) K R mv) := hI
    have hp : r_39 = (-2) := hp
    have hr_39 := hp
    subst hr_39
    have hC : manC x k a = (-2) := by
      clear hret hI
      unfold manC
      repeat' split
      all_goals first | rfl | (exfalso; omega) | contradiction | (exfalso; simp_all; done) | simp_all
    have eia0 : gd (manC x k a) (va_up (ia 0) x.toNatClampNeg 2) (ia 0) = ia 0 := by rw [hC]; first | rfl | (simp only [gd_0]; split <;> first | rfl | contradiction)
    have eia5 : gd (manC x k a) (va_up (ia 5) x.toNatClampNeg k) (ia 5) = ia 5 := by rw [hC]; first | rfl | (simp only [gd_0]; split <;> first | rfl | contradiction)
    have eia6 : gd (manC x k a) (va_up (ia 6) x.toNatClampNeg a) (ia 6) = ia 6 := by rw [hC]; first | rfl | (simp only [gd_0]; split <;> first | rfl | contradiction)
    have eia9 : bumpR (ia 9) (manC x k a) = va_up (ia 9) 2 (ia 9 2 + 1) := by rw [hC]; exact bump_2 _
    have hI := wI_w (ws' := mW E ad kp tr iv (va_up (va_up (va_up (va_up ia 0 (gd (manC x k a) (va_up (ia 0) x.toNatClampNeg 2) (ia 0))) 5 (gd (manC x k a) (va_up (ia 5) x.toNatClampNeg k) (ia 5))) 6 (gd (manC x k a) (va_up (ia 6) x.toNatClampNeg a) (ia 6))) 9 (bumpR (ia 9) (manC x k a))) K R mv) (by rw [eia0, eia5, eia6, eia9, va_up_id (f := ia) (k := 0) (v := ia 0) rfl, va_up_id (f := ia) (k := 5) (v := ia 5) rfl, va_up_id (f := ia) (k := 6) (v := ia 6) rfl]; try rfl) hI
    exact hret () (-2) _ _ 0 0 _ _ dX5_coachman_42 hI (by show (-2) = gd (manC x k a) 1 (manC x k a); rw [hC]; first | rfl | (simp only [gd_0]; split <;> first | rfl | contradiction)) (Nat.le_of_ble_eq_true rfl) (Nat.le_of_ble_eq_true rfl) rfl

theorem c5_holds (l : Launch) (E : En) (ad : Nat → Nat) (kp tr : Option Nat) (iv : Nat → Int32) (ia K : Nat → Nat → Int32) (R : Nat → Nat → Int64) (mv : Nat → Int64) (x : Int32)  : CtI l E yX5_holds cX5_holds 2 .int 1 0 0 [.ref (ad 45), .int x] (mW E ad kp tr iv ia K R mv) (fun (r : Int32) (u : Unit) => r = holdsV (ia 0) (ia 1) (ia 5) x) (fun (u : Unit) => mW E ad kp tr iv ia K R mv) := by
  refine CtI.of (by decide +kernel) (Nat.le_of_ble_eq_true rfl) ?_
  intro pR eR sR mR aR bR tR cR AR ls QR hxR hbR hmlR hts hown hlk hnm hA hK hI hl hret
  have hl : lv_has ls 2 [(0, .ref (ad 45)), (1, .int x)] := hl
  refine lv_iload_n hxR hbR dX5_holds_0 rfl (lv_at hl 1 rfl) ?_
  refine lv_i2l (v := x.toInt64) hxR hbR dX5_holds_1 rfl ?_
  refine lv_lconst (v := 0) hxR hbR dX5_holds_2 (by decide) ?_
  refine lv_ldc2 (v := 7) hxR hbR hown (hts _ q1618) dX5_holds_3 ?_
  refine kSI (n := 3) (As := [.long x.toInt64, .long (0 : Int64), .long (7 : Int64)]) (rest := []) (fun w => w ++ (mW E ad kp tr iv ia K R mv)) hxR hbR hmlR hts hown hK hA hl.1 (isCtx.suf _) hI (c5_in l E  x.toInt64 (0 : Int64) (7 : Int64) ) (lw_S q1619 q1620 q86 q1621) (by decide +kernel) rfl (Nat.le_of_ble_eq_true rfl) (Nat.le_of_ble_eq_true rfl) ⟨Nat.le_of_ble_eq_true rfl, Nat.le_of_ble_eq_true rfl⟩ (Nat.le_of_ble_eq_true rfl) dX5_holds_6 (fun r_6 u H locs hp hI hz => ?_)
  have hI : wI E AR sR H locs (mW E ad kp tr iv ia K R mv) := hI
  have hp : r_6 = b2i (inL x.toInt64 (0 : Int64) (7 : Int64)) := hp
  have hr_6 := hp
  rcases b2i_cases hr_6 with ⟨c_6, rfl⟩ | ⟨c_6, rfl⟩
  · skip
    have c_6 : (0 : Int64).toInt ≤ x.toInt64.toInt ∧ x.toInt64.toInt ≤ (7 : Int64).toInt := of_decide_eq_true c_6
    have c_6 : 0 ≤ x.toInt ∧ x.toInt ≤ 7 := by simp only [Int32.toInt_toInt64] at c_6; exact c_6
    obtain ⟨P, hP, rfl⟩ := nat_of_le (k := 7) c_6 (by decide)
    have tP : (nI P).toInt = (P : Int) := nI_toInt (by omega)
    refine lv_if_eq (tgt := 21) hxR hbR dX5_holds_9 (by decide) (fun c => absurd c (by decide)) (fun _ => ?_)
    refine lv_aload_n hxR hbR dX5_holds_12 rfl (lv_at hl 0 rfl) ?_
    refine r_get hxR hbR hts hown hK hI okX5 (ci := 5) rfl 16 mW_o 0 (by decide) q1478 rfl (v := .ref (ad 0)) rfl dX5_holds_13 ?_
    refine lv_iload_n hxR hbR dX5_holds_16 rfl (lv_at hl 1 rfl) ?_
    refine r_iald hxR hbR hK hI 17 (n := 8) (J := P) (f := ia 0) (v := (ia 0) P) (mW_g0 rfl) (by omega) (by decide) rfl dX5_holds_17 ?_
    refine lv_if_ne (tgt := 23) hxR hbR dX5_holds_18 (by decide) (fun c_18 => ?_) (fun c_18 => ?_)
    · skip
      have i_18 : ¬ (((ia 0) P).toInt = 0) := by have zz := mt i_eq.mpr c_18; exact zz
      refine lv_aload_n hxR hbR dX5_holds_23 rfl (lv_at hl 0 rfl) ?_
      refine r_get hxR hbR hts hown hK hI okX5 (ci := 5) rfl 16 mW_o 0 (by decide) q1478 rfl (v := .ref (ad 0)) rfl dX5_holds_24 ?_
      refine lv_iload_n hxR hbR dX5_holds_27 rfl (lv_at hl 1 rfl) ?_
      refine r_iald hxR hbR hK hI 17 (n := 8) (J := P) (f := ia 0) (v := (ia 0) P) (mW_g0 rfl) (by omega) (by decide) rfl dX5_holds_28 ?_
      refine lv_iconst (v := 1) hxR hbR dX5_holds_29 (by decide) ?_
      refine lv_icmp_ne (tgt := 42) hxR hbR dX5_holds_30 (by decide) (fun c_30 => ?_) (fun c_30 => ?_)
      · skip
        have i_30 : ¬ (((ia 0) P).toInt = 1) := by have zz := mt i_eq.mpr c_30; exact zz
        refine lv_bipush (v := 10) hxR hbR dX5_holds_42 (by decide) ?_
        refine lv_aload_n hxR hbR dX5_holds_44 rfl (lv_at hl 0 rfl) ?_
        refine r_get hxR hbR hts hown hK hI okX5 (ci := 5) rfl 16 mW_o 5 (by decide) q1483 rfl (v := .ref (ad 5)) rfl dX5_holds_45 ?_
        refine lv_iload_n hxR hbR dX5_holds_48 rfl (lv_at hl 1 rfl) ?_
        refine r_iald hxR hbR hK hI 22 (n := 8) (J := P) (f := ia 5) (v := (ia 5) P) (mW_g5 rfl) (by omega) (by decide) rfl dX5_holds_49 ?_
        refine lv_iadd hxR hbR dX5_holds_50 ?_
        exact hret () (10 + ((ia 5) P)) _ _ _ _ _ _ dX5_holds_51 hI (by show (10 + ((ia 5) P)) = holdsV (ia 0) (ia 1) (ia 5) (nI P); unfold holdsV; (try simp only [nI_clamp (n := P) (by omega)]); (repeat' split) <;> first | rfl | (exfalso; omega) | contradiction | (exfalso; simp_all; done) | simp_all) (Nat.le_of_ble_eq_true rfl) (Nat.le_of_ble_eq_true rfl) rfl
      · skip
        have i_30 : ((ia 0) P).toInt = 1 := by have zz := i_eq.mp c_30; exact zz
        refine lv_aload_n hxR hbR dX5_holds_33 rfl (lv_at hl 0 rfl) ?_
        refine r_get hxR hbR hts hown hK hI okX5 (ci := 5) rfl 16 mW_o 1 (by decide) q1479 rfl (v := .ref (ad 1)) rfl dX5_holds_34 ?_
        refine lv_iload_n hxR hbR dX5_holds_37 rfl (lv_at hl 1 rfl) ?_
        refine r_iald hxR hbR hK hI 18 (n := 8) (J := P) (f := ia 1) (v := (ia 1) P) (mW_g1 rfl) (by omega) (by decide) rfl dX5_holds_38 ?_
        refine lv_goto (tgt := 51) hxR hbR dX5_holds_39 (by decide) ?_
        exact hret () ((ia 1) P) _ _ _ _ _ _ dX5_holds_51 hI (by show ((ia 1) P) = holdsV (ia 0) (ia 1) (ia 5) (nI P); unfold holdsV; (try simp only [nI_clamp (n := P) (by omega)]); (repeat' split) <;> first | rfl | (exfalso; omega) | contradiction | (exfalso; simp_all; done) | simp_all) (Nat.le_of_ble_eq_true rfl) (Nat.le_of_ble_eq_true rfl) rfl
    · skip
      have i_18 : ((ia 0) P).toInt = 0 := by have zz := i_eq.mp c_18; exact zz
      refine lv_iconst (v := (-1)) hxR hbR dX5_holds_21 (by decide) ?_
      exact hret () (-1) _ _ _ _ _ _ dX5_holds_22 hI (by show (-1) = holdsV (ia 0) (ia 1) (ia 5) (nI P); unfold holdsV; (try simp only [nI_clamp (n := P) (by omega)]); (repeat' split) <;> first | rfl | (exfalso; omega) | contradiction | (exfalso; simp_all; done) | simp_all) (Nat.le_of_ble_eq_true rfl) (Nat.le_of_ble_eq_true rfl) rfl
  · skip
    have c_6 : ¬ ((0 : Int64).toInt ≤ x.toInt64.toInt ∧ x.toInt64.toInt ≤ (7 : Int64).toInt) := of_decide_eq_false c_6
    have c_6 : ¬ (0 ≤ x.toInt ∧ x.toInt ≤ 7) := by simp only [Int32.toInt_toInt64] at c_6; exact c_6
    refine lv_if_eq (tgt := 21) hxR hbR dX5_holds_9 (by decide) (fun _ => ?_) (fun c => absurd c (by decide))
    refine lv_iconst (v := (-1)) hxR hbR dX5_holds_21 (by decide) ?_
    exact hret () (-1) _ _ _ _ _ _ dX5_holds_22 hI (by show (-1) = holdsV (ia 0) (ia 1) (ia 5) x; unfold holdsV; (try simp only [nI_clamp (n := P) (by omega)]); (repeat' split) <;> first | rfl | (exfalso; omega) | contradiction | (exfalso; simp_all; done) | simp_all) (Nat.le_of_ble_eq_true rfl) (Nat.le_of_ble_eq_true rfl) rfl
