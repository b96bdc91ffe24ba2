theorem c5_knows (l : Launch) (E : En) (ad : Nat → Nat) (kp tr : Option Nat) (iv : Nat → Int32) (ia K : Nat → Nat → Int32) (R : Nat → Nat → Int64) (mv : Nat → Int64) (P Qq : Nat) (v : Int32) (hP : P < 8) (hQ : Qq < 8) : CtV l E yX5_knows cX5_knows 4 0 0 0 [.ref (ad 45), .int (nI P), .int (nI Qq), .int v] (mW E ad kp tr iv ia K R mv) (fun (u : Unit) => True) (fun (u : Unit) => mW E ad kp tr iv ia (knF K P Qq v) R mv) := by
  refine CtV.of (by decide +kernel) (Nat.le_of_ble_eq_true rfl) ?_
  intro pR eR sR mR aR bR tR cR AR ls QR hxR hbR hmlR hts hown hlk hnm hA hK hI hl hret
  have hl : lv_has ls 4 [(0, .ref (ad 45)), (1, .int (nI P)), (2, .int (nI Qq)), (3, .int v)] := hl
  refine lv_aload_n hxR hbR dX5_knows_0 rfl (lv_at hl 0 rfl) ?_
  refine r_get hxR hbR hts hown hK hI okX5 (ci := 5) rfl 16 mW_o 13 (by decide) q1491 rfl (v := .ref (ad 13)) rfl dX5_knows_1 ?_
  refine lv_iload_n hxR hbR dX5_knows_4 rfl (lv_at hl 1 rfl) ?_
  refine r_aald hxR hbR hK hI 28 2 (r := ad (50 + P)) rfl rfl (n := 8) (J := P) rfl (by omega) (by decide) rfl dX5_knows_5 ?_
  refine lv_iload_n hxR hbR dX5_knows_6 rfl (lv_at hl 2 rfl) ?_
  refine lv_iload_n hxR hbR dX5_knows_7 rfl (lv_at hl 3 rfl) ?_
  refine r_iast (ws1 := mW E ad kp tr iv ia (va_up K P (va_up (K P) Qq v)) R mv) hxR hbR hK hI P (n := 8) (J := Qq) (f := K P) (mW_K P (by omega)) (by omega) (by decide) (mW_Ks P (by omega)) dX5_knows_8 (fun H locs hI => ?_)
  refine lv_aload_n hxR hbR dX5_knows_9 rfl (lv_at hl 0 rfl) ?_
  refine r_get hxR hbR hts hown hK hI okX5 (ci := 5) rfl 16 mW_o 13 (by decide) q1491 rfl (v := .ref (ad 13)) rfl dX5_knows_10 ?_
  refine lv_iload_n hxR hbR dX5_knows_13 rfl (lv_at hl 2 rfl) ?_
  refine r_aald hxR hbR hK hI 28 2 (r := ad (50 + Qq)) rfl rfl (n := 8) (J := Qq) rfl (by omega) (by decide) rfl dX5_knows_14 ?_
  refine lv_iload_n hxR hbR dX5_knows_15 rfl (lv_at hl 1 rfl) ?_
  refine lv_iload_n hxR hbR dX5_knows_16 rfl (lv_at hl 3 rfl) ?_
  refine r_iast (ws1 := mW E ad kp tr iv ia (va_up (va_up K P (va_up (K P) Qq v)) Qq (va_up ((va_up K P (va_up (K P) Qq v)) Qq) P v)) R mv) hxR hbR hK hI Qq (n := 8) (J := P) (f := (va_up K P (va_up (K P) Qq v)) Qq) (mW_K Qq (by omega)) (by omega) (by decide) (mW_Ks Qq (by omega)) dX5_knows_17 (fun H locs hI => ?_)
  have hI : wI E AR sR H locs (mW E ad kp tr iv ia (knF K P Qq v) R mv) := by rw [← knF_eq]; exact hI
  exact hret () _ _ _ _ _ _ dX5_knows_18 hI (by show True; trivial) (Nat.le_of_ble_eq_true rfl) (Nat.le_of_ble_eq_true rfl)

theorem c5_areTwo (l : Launch) (E : En) (ad : Nat → Nat) (kp tr : Option Nat) (iv : Nat → Int32) (ia K : Nat → Nat → Int32) (R : Nat → Nat → Int64) (mv : Nat → Int64) (n : Nat) (x y : Int32) (hn : iv 10 = nI n) (hn8 : n ≤ 8) : CtI l E yX5_areTwo cX5_areTwo 3 .boolean 2 0 0 [.ref (ad 45), .int x, .int y] (mW E ad kp tr iv ia K R mv) (fun (r : Int32) (u : Unit) => r = b2i (decide ((0 ≤ x.toInt ∧ x.toInt < (n : Int)) ∧ (0 ≤ y.toInt ∧ y.toInt < (n : Int)) ∧ ¬ x = y))) (fun (u : Unit) => mW E ad kp tr iv ia K R mv) := by
  refine CtI.of (by decide +kernel) (Nat.le_of_ble_eq_true rfl) ?_
  intro pR eR sR mR aR bR tR cR AR ls QR hxR hbR hmlR hts hown hlk hnm hA hK hI hl hret
  have hl : lv_has ls 3 [(0, .ref (ad 45)), (1, .int x), (2, .int y)] := hl
  refine lv_aload_n hxR hbR dX5_areTwo_0 rfl (lv_at hl 0 rfl) ?_
  refine lv_iload_n hxR hbR dX5_areTwo_1 rfl (lv_at hl 1 rfl) ?_
  refine kVI (n := 1) (As := [.int x]) (rest := []) (fun w => w) hxR hbR hmlR hts hown hK hA hl.1 isCtx.id hI (c5_isOne l E ad kp tr iv ia K R mv n x hn (by first | omega | with_reducible assumption)) (lw_V q1723 q1725 qs47 q86 q1726) ⟨rfl, by decide +kernel⟩ 16 5 rfl rfl mW_o rfl (Nat.le_of_ble_eq_true rfl) (Nat.le_of_ble_eq_true rfl) ⟨Nat.le_of_ble_eq_true rfl, Nat.le_of_ble_eq_true rfl⟩ (Nat.le_of_ble_eq_true rfl) dX5_areTwo_2 (fun r_2 u H locs hp hI hz => ?_)
  have hI : wI E AR sR H locs (mW E ad kp tr iv ia K R mv) := hI
  have hp : r_2 = b2i (decide (0 ≤ x.toInt ∧ x.toInt < (n : Int))) := hp
  have hr_2 := hp
  rcases b2i_cases hr_2 with ⟨c_2, rfl⟩ | ⟨c_2, rfl⟩
  · skip
    have c_2 : 0 ≤ x.toInt ∧ x.toInt < (n : Int) := of_decide_eq_true c_2
    refine lv_if_eq (tgt := 25) hxR hbR dX5_areTwo_5 (by decide) (fun c => absurd c (by decide)) (fun _ => ?_)
    refine lv_aload_n hxR hbR dX5_areTwo_8 rfl (lv_at hl 0 rfl) ?_
    refine lv_iload_n hxR hbR dX5_areTwo_9 rfl (lv_at hl 2 rfl) ?_
    refine kVI (n := 1) (As := [.int y]) (rest := []) (fun w => w) hxR hbR hmlR hts hown hK hA hl.1 isCtx.id hI (c5_isOne l E ad kp tr iv ia K R mv n y hn (by first | omega | with_reducible assumption)) (lw_V q1723 q1725 qs47 q86 q1726) ⟨rfl, by decide +kernel⟩ 16 5 rfl rfl mW_o rfl (Nat.le_of_ble_eq_true rfl) (Nat.le_of_ble_eq_true rfl) ⟨Nat.le_of_ble_eq_true rfl, Nat.le_of_ble_eq_true rfl⟩ (Nat.le_of_ble_eq_true rfl) dX5_areTwo_10 (fun r_10 u H locs hp hI hz => ?_)
    have hI : wI E AR sR H locs (mW E ad kp tr iv ia K R mv) := hI
    have hp : r_10 = b2i (decide (0 ≤ y.toInt ∧ y.toInt < (n : Int))) := hp
    have hr_10 := hp
    rcases b2i_cases hr_10 with ⟨c_10, rfl⟩ | ⟨c_10, rfl⟩
    · skip
      have c_10 : 0 ≤ y.toInt ∧ y.toInt < (n : Int) := of_decide_eq_true c_10
      refine lv_if_eq (tgt := 25) hxR hbR dX5_areTwo_13 (by decide) (fun c => absurd c (by decide)) (fun _ => ?_)
      refine lv_iload_n hxR hbR dX5_areTwo_16 rfl (lv_at hl 1 rfl) ?_
      refine lv_iload_n hxR hbR dX5_areTwo_17 rfl (lv_at hl 2 rfl) ?_
      refine lv_icmp_eq (tgt := 25) hxR hbR dX5_areTwo_18 (by decide) (fun c_18 => ?_) (fun c_18 => ?_)
      · skip
        refine lv_iconst (v := 0) hxR hbR dX5_areTwo_25 (by decide) ?_
        exact hret () 0 _ _ _ _ _ _ dX5_areTwo_26 hI (by show 0 = b2i (decide ((0 ≤ x.toInt ∧ x.toInt < (n : Int)) ∧ (0 ≤ y.toInt ∧ y.toInt < (n : Int)) ∧ ¬ x = y)); first | rw [decide_eq_true ⟨c_2, c_10, c_18⟩]; rfl | rw [decide_eq_false (fun h => c_2 h.1)]; rfl | rw [decide_eq_false (fun h => c_10 h.2.1)]; rfl | rw [decide_eq_false (fun h => h.2.2 c_18)]; rfl) (Nat.le_of_ble_eq_true rfl) (Nat.le_of_ble_eq_true rfl) rfl
      · skip
        refine lv_iconst (v := 1) hxR hbR dX5_areTwo_21 (by decide) ?_
        refine lv_goto (tgt := 26) hxR hbR dX5_areTwo_22 (by decide) ?_
        exact hret () 1 _ _ _ _ _ _ dX5_areTwo_26 hI (by show 1 = b2i (decide ((0 ≤ x.toInt ∧ x.toInt < (n : Int)) ∧ (0 ≤ y.toInt ∧ y.toInt < (n : Int)) ∧ ¬ x = y)); first | rw [decide_eq_true ⟨c_2, c_10, c_18⟩]; rfl | rw [decide_eq_false (fun h => c_2 h.1)]; rfl | rw [decide_eq_false (fun h => c_10 h.2.1)]; rfl | rw [decide_eq_false (fun h => h.2.2 c_18)]; rfl) (Nat.le_of_ble_eq_true rfl) (Nat.le_of_ble_eq_true rfl) rfl
    · skip
      have c_10 : ¬ (0 ≤ y.toInt ∧ y.toInt < (n : Int)) := of_decide_eq_false c_10
      refine lv_if_eq (tgt := 25) hxR hbR dX5_areTwo_13 (by decide) (fun _ => ?_) (fun c => absurd c (by decide))
      refine lv_iconst (v := 0) hxR hbR dX5_areTwo_25 (by decide) ?_
      exact hret () 0 _ _ _ _ _ _ dX5_areTwo_26 hI (by show 0 = b2i (decide ((0 ≤ x.toInt ∧ x.toInt < (n : Int)) ∧ (0 ≤ y.toInt ∧ y.toInt < (n : Int)) ∧ ¬ x = y)); first | rw [decide_eq_true ⟨c_2, c_10, c_18⟩]; rfl | rw [decide_eq_false (fun h => c_2 h.1)]; rfl | rw [decide_eq_false (fun h => c_10 h.2.1)]; rfl | rw [decide_eq_false (fun h => h.2.2 c_18)]; rfl) (Nat.le_of_ble_eq_true rfl) (Nat.le_of_ble_eq_true rfl) rfl
  · skip
    have c_2 : ¬ (0 ≤ x.toInt ∧ x.toInt < (n : Int)) := of_decide_eq_false c_2
    refine lv_if_eq (tgt := 25) hxR hbR dX5_areTwo_5 (by decide) (fun _ => ?_) (fun c => absurd c (by decide))
    refine lv_iconst (v := 0) hxR hbR dX5_areTwo_25 (by decide) ?_
    exact hret () 0 _ _ _ _ _ _ dX5_areTwo_26 hI (by show 0 = b2i (decide ((0 ≤ x.toInt ∧ x.toInt < (n : Int)) ∧ (0 ≤ y.toInt ∧ y.toInt < (n : Int)) ∧ ¬ x = y)); first | rw [decide_eq_true ⟨c_2, c_10, c_18⟩]; rfl | rw [decide_eq_false (fun h => c_2 h.1)]; rfl | rw [decide_eq_false (fun h => c_10 h.2.1)]; rfl | rw [decide_eq_false (fun h => h.2.2 c_18)]; rfl) (Nat.le_of_ble_eq_true rfl) (Nat.le_of_ble_eq_true rfl) rfl

theorem c5_addOne (l : Launch) (E : En) (ad : Nat → Nat) (kp tr : Option Nat) (iv : Nat → Int32) (ia K : Nat → Nat → Int32) (R : Nat → Nat → Int64) (mv : Nat → Int64) (n : Nat) (x y : Int32) (hn : iv 10 = nI n) (hn7 : n ≤ 7) : CtV l E yX5_addOne cX5_addOne 4 0 0 0 [.ref (ad 45), .int x, .int y] (mW E ad kp tr iv ia K R mv) (fun (u : Unit) => True) (fun (u : Unit) => mW E ad kp tr (va_up iv 10 (nI (n + 1))) (va_up (va_up ia 11 (va_up (ia 11) n x)) 12 (va_up (ia 12) n y)) (newK K n n) R mv) := by
  refine CtV.of (by decide +kernel) (Nat.le_of_ble_eq_true rfl) ?_
  intro pR eR sR mR aR bR tR cR AR ls QR hxR hbR hmlR hts hown hlk hnm hA hK hI hl hret
  have hl : lv_has ls 4 [(0, .ref (ad 45)), (1, .int x), (2, .int y)] := hl
  refine lv_aload_n hxR hbR dX5_addOne_0 rfl (lv_at hl 0 rfl) ?_
  refine r_get hxR hbR hts hown hK hI okX5 (ci := 5) rfl 16 mW_o 11 (by decide) q1489 rfl (v := .ref (ad 11)) rfl dX5_addOne_1 ?_
  refine lv_aload_n hxR hbR dX5_addOne_4 rfl (lv_at hl 0 rfl) ?_
  refine r_get hxR hbR hts hown hK hI okX5 (ci := 5) rfl 16 mW_o 10 (by decide) q1488 rfl (v := .int (nI n)) (al hn) dX5_addOne_5 ?_
  refine lv_iload_n hxR hbR dX5_addOne_8 rfl (lv_at hl 1 rfl) ?_
  refine r_iast (ws1 := mW E ad kp tr iv (va_up ia 11 (va_up (ia 11) n x)) K R mv) hxR hbR hK hI 26 (n := 8) (J := n) (f := ia 11) (mW_g11 rfl) (by omega) (by decide) mW_a11 dX5_addOne_9 (fun H locs hI => ?_)
  refine lv_aload_n hxR hbR dX5_addOne_10 rfl (lv_at hl 0 rfl) ?_
  refine r_get hxR hbR hts hown hK hI okX5 (ci := 5) rfl 16 mW_o 12 (by decide) q1490 rfl (v := .ref (ad 12)) rfl dX5_addOne_11 ?_
  refine lv_aload_n hxR hbR dX5_addOne_14 rfl (lv_at hl 0 rfl) ?_
  refine r_get hxR hbR hts hown hK hI okX5 (ci := 5) rfl 16 mW_o 10 (by decide) q1488 rfl (v := .int (nI n)) (al hn) dX5_addOne_15 ?_
  refine lv_iload_n hxR hbR dX5_addOne_18 rfl (lv_at hl 2 rfl) ?_
  refine r_iast (ws1 := mW E ad kp tr iv (va_up (va_up ia 11 (va_up (ia 11) n x)) 12 (va_up (ia 12) n y)) K R mv) hxR hbR hK hI 27 (n := 8) (J := n) (f := ia 12) (mW_g12 (up_n (by decide) rfl)) (by omega) (by decide) mW_a12 dX5_addOne_19 (fun H locs hI => ?_)
  refine lv_iconst (v := 0) hxR hbR dX5_addOne_20 (by decide) ?_
  refine lv_istore_n (lv' := [(3, .int 0), (0, .ref (ad 45)), (1, .int x), (2, .int y)]) hxR hbR dX5_addOne_21 rfl hl (by decide) rfl (fun ls hl => ?_)
  have lp_22 : ∀ (fu : Nat) (i : Nat) (Kx : Nat → Nat → Int32), (i ≤ n) → (Kx = newK K n i) → n - i < fu → ∀ (H : Heap) (locs : List Loc), wI E AR sR H locs (mW E ad kp tr iv (va_up (va_up ia 11 (va_up (ia 11) n x)) 12 (va_up (ia 12) n y)) Kx R mv) → ∀ ls : Array Slot, lv_has ls 4 [(0, .ref (ad 45)), (1, .int x), (2, .int y), (3, .int (nI i))] → W pR l eR (rmF 0 0 0) sR mR aR bR tR cR H locs 0 0 QR (F0 mR 22 ls []) := by
    intro fu
    induction fu with
    | zero =>
      intro i Kx hi hKx hfu
      exact absurd hfu (Nat.not_lt_zero _)
    | succ fu ih_22 =>
      intro i Kx hi hKx hfu H locs hI ls hl
      refine lv_iload_n hxR hbR dX5_addOne_22 rfl (lv_at hl 3 rfl) ?_
      refine lv_aload_n hxR hbR dX5_addOne_23 rfl (lv_at hl 0 rfl) ?_
      refine r_get hxR hbR hts hown hK hI okX5 (ci := 5) rfl 16 mW_o 10 (by decide) q1488 rfl (v := .int (nI n)) (al hn) dX5_addOne_24 ?_
      refine lv_icmp_ge (tgt := 60) hxR hbR dX5_addOne_27 (by decide) (fun c_27 => ?_) (fun c_27 => ?_)
      · skip
        have c_27 : n ≤ i := (n_le (a := n) (b := i) (by omega) (by omega)).mp c_27
        refine lv_aload_n hxR hbR dX5_addOne_60 rfl (lv_at hl 0 rfl) ?_
        refine lv_dup hxR hbR dX5_addOne_61 rfl ?_
        refine r_get hxR hbR hts hown hK hI okX5 (ci := 5) rfl 16 mW_o 10 (by decide) q1488 rfl (v := .int (nI n)) (al hn) dX5_addOne_62 ?_
        refine lv_iconst (v := 1) hxR hbR dX5_addOne_65 (by decide) ?_
        refine lv_iadd hxR hbR dX5_addOne_66 ?_
        refine lv_as (y := nI (n + 1)) (nI_add n 1) ?_
        refine r_put (v := .int (nI (n + 1))) (ws1 := mW E ad kp tr (va_up iv 10 (nI (n + 1))) (va_up (va_up ia 11 (va_up (ia 11) n x)) 12 (va_up (ia 12) n y)) Kx R mv) hxR hbR hts hown hK hI okX5 (ci := 5) rfl 16 mW_o 10 (by decide) q1488 rfl rfl rfl rfl (Nat.le_of_ble_eq_true rfl) mW_i10 dX5_addOne_67 (fun H locs hI => ?_)
        have hI : wI E AR sR H locs (mW E ad kp tr (va_up iv 10 (nI (n + 1))) (va_up (va_up ia 11 (va_up (ia 11) n x)) 12 (va_up (ia 12) n y)) (newK K n n) R mv) := by rw [show i = n by omega] at hKx; rw [← hKx]; exact hI
        exact hret () _ _ _ _ _ _ dX5_addOne_70 hI (by show True; trivial) (Nat.le_of_ble_eq_true rfl) (Nat.le_of_ble_eq_true rfl)
      · skip
        have c_27 : i < n := Nat.lt_of_not_le (fun zz => c_27 ((n_le (a := n) (b := i) (by omega) (by omega)).mpr zz))
        refine lv_aload_n hxR hbR dX5_addOne_30 rfl (lv_at hl 0 rfl) ?_
        refine r_get hxR hbR hts hown hK hI okX5 (ci := 5) rfl 16 mW_o 13 (by decide) q1491 rfl (v := .ref (ad 13)) rfl dX5_addOne_31 ?_
        refine lv_aload_n hxR hbR dX5_addOne_34 rfl (lv_at hl 0 rfl) ?_
        refine r_get hxR hbR hts hown hK hI okX5 (ci := 5) rfl 16 mW_o 10 (by decide) q1488 rfl (v := .int (nI n)) (al hn) dX5_addOne_35 ?_
        refine r_aald hxR hbR hK hI 28 2 (r := ad (50 + n)) rfl rfl (n := 8) (J := n) rfl (by omega) (by decide) rfl dX5_addOne_38 ?_
        refine lv_iload_n hxR hbR dX5_addOne_39 rfl (lv_at hl 3 rfl) ?_
        refine lv_iconst (v := (-1)) hxR hbR dX5_addOne_40 (by decide) ?_
        refine r_iast (ws1 := mW E ad kp tr iv (va_up (va_up ia 11 (va_up (ia 11) n x)) 12 (va_up (ia 12) n y)) (va_up Kx n (va_up (Kx n) i (-1))) R mv) hxR hbR hK hI n (n := 8) (J := i) (f := Kx n) (mW_K n (by omega)) (by omega) (by decide) (mW_Ks n (by omega)) dX5_addOne_41 (fun H locs hI => ?_)
        refine lv_aload_n hxR hbR dX5_addOne_42 rfl (lv_at hl 0 rfl) ?_
        refine r_get hxR hbR hts hown hK hI okX5 (ci := 5) rfl 16 mW_o 13 (by decide) q1491 rfl (v := .ref (ad 13)) rfl dX5_addOne_43 ?_
        refine lv_iload_n hxR hbR dX5_addOne_46 rfl (lv_at hl 3 rfl) ?_
        refine r_aald hxR hbR hK hI 28 2 (r := ad (50 + i)) rfl rfl (n := 8) (J := i) rfl (by omega) (by decide) rfl dX5_addOne_47 ?_
        refine lv_aload_n hxR hbR dX5_addOne_48 rfl (lv_at hl 0 rfl) ?_
        refine r_get hxR hbR hts hown hK hI okX5 (ci := 5) rfl 16 mW_o 10 (by decide) q1488 rfl (v := .int (nI n)) (al hn) dX5_addOne_49 ?_
        refine lv_iconst (v := (-1)) hxR hbR dX5_addOne_52 (by decide) ?_
        refine r_iast (ws1 := mW E ad kp tr iv (va_up (va_up ia 11 (va_up (ia 11) n x)) 12 (va_up (ia 12) n y)) (va_up (va_up Kx n (va_up (Kx n) i (-1))) i (va_up ((va_up Kx n (va_up (Kx n) i (-1))) i) n (-1))) R mv) hxR hbR hK hI i (n := 8) (J := n) (f := (va_up Kx n (va_up (Kx n) i (-1))) i) (mW_K i (by omega)) (by omega) (by decide) (mW_Ks i (by omega)) dX5_addOne_53 (fun H locs hI => ?_)
        refine lv_iinc (v := nI (i + 1)) (lv' := [(3, .int (nI (i + 1))), (0, .ref (ad 45)), (1, .int x), (2, .int y)]) hxR hbR dX5_addOne_54 hl (k := 3) rfl (show nI i + 1 = nI (i + 1) from nI_add _ 1) (by decide) rfl (fun ls hl => ?_)
        refine lv_goto (tgt := 22) hxR hbR dX5_addOne_57 (by decide) ?_
        exact ih_22 (i + 1) (va_up (va_up Kx n (va_up (Kx n) i (-1))) i (va_up ((va_up Kx n (va_up (Kx n) i (-1))) i) n (-1))) (by first | omega | with_reducible assumption) (by rw [knF_eq, hKx, newK_s]) (by omega) _ _ hI _ (lv_sub hl [1, 2, 3, 0] rfl)
  exact lp_22 _ 0 K (by first | omega | with_reducible assumption) (newK_0 K n).symm (Nat.lt_succ_self _) _ _ hI _ (lv_sub hl [1, 2, 3, 0] rfl)

theorem c5_meets (l : Launch) (E : En) (ad : Nat → Nat) (kp tr : Option Nat) (iv : Nat → Int32) (ia K : Nat → Nat → Int32) (R : Nat → Nat → Int64) (mv : Nat → Int64) (n S : Nat) (hn : iv 10 = nI n) (hn8 : n ≤ 8) (hS : S < 2 ^ 31) : CtI l E yX5_meets cX5_meets 5 .int 1 0 0 [.ref (ad 45), .int (nI S)] (mW E ad kp tr iv ia K R mv) (fun (r : Int32) (u : Unit) => r = nI (mC K S n)) (fun (u : Unit) => mW E ad kp tr iv ia (meetK K S n) R mv) := by
  refine CtI.of (by decide +kernel) (Nat.le_of_ble_eq_true rfl) ?_
  intro pR eR sR mR aR bR tR cR AR ls QR hxR hbR hmlR hts hown hlk hnm hA hK hI hl hret
  have hl : lv_has ls 5 [(0, .ref (ad 45)), (1, .int (nI S))] := hl
  refine lv_iconst (v := 0) hxR hbR dX5_meets_0 (by decide) ?_
  refine lv_istore_n (lv' := [(2, .int 0), (0, .ref (ad 45)), (1, .int (nI S))]) hxR hbR dX5_meets_1 rfl hl (by decide) rfl (fun ls hl => ?_)
  refine lv_iconst (v := 0) hxR hbR dX5_meets_2 (by decide) ?_
  refine lv_istore_n (lv' := [(3, .int 0), (2, .int 0), (0, .ref (ad 45)), (1, .int (nI S))]) hxR hbR dX5_meets_3 rfl hl (by decide) rfl (fun ls hl => ?_)
  have lp_4 : ∀ (fu : Nat) (a : Nat) (i : Nat) (Kx : Nat → Nat → Int32), (i ≤ n) → (a = mC K S i) → (Kx = upS K (meetG S) i 0) → n - i < fu → ∀ (H : Heap) (locs : List Loc), wI E AR sR H locs (mW E ad kp tr iv ia Kx R mv) → ∀ ls : Array Slot, lv_has ls 5 [(0, .ref (ad 45)), (1, .int (nI S)), (2, .int (nI a)), (3, .int (nI i))] → W pR l eR (rmF 1 0 0) sR mR aR bR tR cR H locs 0 0 QR (F0 mR 4 ls []) := by
    intro fu
    induction fu with
    | zero =>
      intro a i Kx hi ha hKx hfu
      exact absurd hfu (Nat.not_lt_zero _)
    | succ fu ih_4 =>
      intro a i Kx hi ha hKx hfu H locs hI ls hl
      refine lv_iload_n hxR hbR dX5_meets_4 rfl (lv_at hl 3 rfl) ?_
      refine lv_aload_n hxR hbR dX5_meets_5 rfl (lv_at hl 0 rfl) ?_
      refine r_get hxR hbR hts hown hK hI okX5 (ci := 5) rfl 16 mW_o 10 (by decide) q1488 rfl (v := .int (nI n)) (al hn) dX5_meets_6 ?_
      refine lv_icmp_ge (tgt := 79) hxR hbR dX5_meets_9 (by decide) (fun c_9 => ?_) (fun c_9 => ?_)
      · skip
        have c_9 : n ≤ i := (n_le (a := n) (b := i) (by omega) (by omega)).mp c_9
        refine lv_iload_n hxR hbR dX5_meets_79 rfl (lv_at hl 2 rfl) ?_
        have hin : i = n := by omega
        rw [hin] at hKx ha
        have hI : wI E AR sR H locs (mW E ad kp tr iv ia (meetK K S n) R mv) := by rw [meetK, ← hKx]; exact hI
        exact hret () (nI a) _ _ _ _ _ _ dX5_meets_80 hI (by show (nI a) = nI (mC K S n); rw [ha]) (Nat.le_of_ble_eq_true rfl) (Nat.le_of_ble_eq_true rfl) rfl
      · skip
        have c_9 : i < n := Nat.lt_of_not_le (fun zz => c_9 ((n_le (a := n) (b := i) (by omega) (by omega)).mpr zz))
        refine lv_iconst (v := 0) hxR hbR dX5_meets_12 (by decide) ?_
        refine lv_istore (lv' := [(4, .int 0), (0, .ref (ad 45)), (1, .int (nI S)), (2, .int (nI a)), (3, .int (nI i))]) hxR hbR dX5_meets_13 hl (by decide) rfl (fun ls hl => ?_)
        have lp_15 : ∀ (fu : Nat) (b : Nat) (j : Nat) (Ky : Nat → Nat → Int32), (j ≤ i) → (b = mC K S i + mC1 K S i j) → (Ky = upS K (meetG S) i j) → i - j < fu → ∀ (H : Heap) (locs : List Loc), wI E AR sR H locs (mW E ad kp tr iv ia Ky R mv) → ∀ ls : Array Slot, lv_has ls 5 [(0, .ref (ad 45)), (1, .int (nI S)), (2, .int (nI b)), (3, .int (nI i)), (4, .int (nI j))] → W pR l eR (rmF 1 0 0) sR mR aR bR tR cR H locs 0 0 QR (F0 mR 15 ls []) := by
          intro fu
          induction fu with
          | zero =>
            intro b j Ky hj ha2 hKy hfu
            exact absurd hfu (Nat.not_lt_zero _)
          | succ fu ih_15 =>
            intro b j Ky hj ha2 hKy hfu H locs hI ls hl
            refine lv_iload hxR hbR dX5_meets_15 (lv_at hl 4 rfl) ?_
            refine lv_iload_n hxR hbR dX5_meets_17 rfl (lv_at hl 3 rfl) ?_
            refine lv_icmp_ge (tgt := 73) hxR hbR dX5_meets_18 (by decide) (fun c_18 => ?_) (fun c_18 => ?_)
            · skip
              have c_18 : i ≤ j := (n_le (a := i) (b := j) (by omega) (by omega)).mp c_18
              refine lv_iinc (v := nI (i + 1)) (lv' := [(3, .int (nI (i + 1))), (0, .ref (ad 45)), (1, .int (nI S)), (2, .int (nI b)), (4, .int (nI j))]) hxR hbR dX5_meets_73 hl (k := 3) rfl (show nI i + 1 = nI (i + 1) from nI_add _ 1) (by decide) rfl (fun ls hl => ?_)
              refine lv_goto (tgt := 4) hxR hbR dX5_meets_76 (by decide) ?_
              exact ih_4 b (i + 1) Ky (by first | omega | with_reducible assumption) (by rw [ha2, show j = i by omega]; rfl) (by rw [hKy, show j = i by omega, upS_row]) (by omega) _ _ hI _ (lv_sub hl [1, 2, 3, 0] rfl)
            · skip
              have c_18 : j < i := Nat.lt_of_not_le (fun zz => c_18 ((n_le (a := i) (b := j) (by omega) (by omega)).mpr zz))
              refine lv_iload_n hxR hbR dX5_meets_21 rfl (lv_at hl 1 rfl) ?_
              refine lv_iload_n hxR hbR dX5_meets_22 rfl (lv_at hl 3 rfl) ?_
              refine kSI (n := 2) (As := [.int (nI S), .int (nI i)]) (rest := []) (fun w => w ++ (mW E ad kp tr iv ia Ky R mv)) hxR hbR hmlR hts hown hK hA hl.1 (isCtx.suf _) hI (c5_has l E  S i (by first | omega | with_reducible assumption) (by first | omega | with_reducible assumption)) (lw_S q1680 q1681 q86 q1682) (by decide +kernel) rfl (Nat.le_of_ble_eq_true rfl) (Nat.le_of_ble_eq_true rfl) ⟨Nat.le_of_ble_eq_true rfl, Nat.le_of_ble_eq_true rfl⟩ (Nat.le_of_ble_eq_true rfl) dX5_meets_23 (fun r_23 u H locs hp hI hz => ?_)
              have hI : wI E AR sR H locs (mW E ad kp tr iv ia Ky R mv) := hI
              have hp : r_23 = b2i (S.testBit i) := hp
              have hr_23 := hp
              rcases b2i_cases hr_23 with ⟨c_23, rfl⟩ | ⟨c_23, rfl⟩
              · skip
                have c_23 : S.testBit i = true := c_23
                refine lv_if_eq (tgt := 67) hxR hbR dX5_meets_26 (by decide) (fun c => absurd c (by decide)) (fun _ => ?_)
                refine lv_iload_n hxR hbR dX5_meets_29 rfl (lv_at hl 1 rfl) ?_
                refine lv_iload hxR hbR dX5_meets_30 (lv_at hl 4 rfl) ?_
                refine kSI (n := 2) (As := [.int (nI S), .int (nI j)]) (rest := []) (fun w => w ++ (mW E ad kp tr iv ia Ky R mv)) hxR hbR hmlR hts hown hK hA hl.1 (isCtx.suf _) hI (c5_has l E  S j (by first | omega | with_reducible assumption) (by first | omega | with_reducible assumption)) (lw_S q1680 q1681 q86 q1682) (by decide +kernel) rfl (Nat.le_of_ble_eq_true rfl) (Nat.le_of_ble_eq_true rfl) ⟨Nat.le_of_ble_eq_true rfl, Nat.le_of_ble_eq_true rfl⟩ (Nat.le_of_ble_eq_true rfl) dX5_meets_32 (fun r_32 u H locs hp hI hz => ?_)
                have hI : wI E AR sR H locs (mW E ad kp tr iv ia Ky R mv) := hI
                have hp : r_32 = b2i (S.testBit j) := hp
                have hr_32 := hp
                rcases b2i_cases hr_32 with ⟨c_32, rfl⟩ | ⟨c_32, rfl⟩
                · skip
                  have c_32 : S.testBit j = true := c_32
                  refine lv_if_eq (tgt := 67) hxR hbR dX5_meets_35 (by decide) (fun c => absurd c (by decide)) (fun _ => ?_)
                  refine lv_iload_n hxR hbR dX5_meets_38 rfl (lv_at hl 2 rfl) ?_
                  refine lv_aload_n hxR hbR dX5_meets_39 rfl (lv_at hl 0 rfl) ?_
                  refine r_get hxR hbR hts hown hK hI okX5 (ci := 5) rfl 16 mW_o 13 (by decide) q1491 rfl (v := .ref (ad 13)) rfl dX5_meets_40 ?_
                  refine lv_iload_n hxR hbR dX5_meets_43 rfl (lv_at hl 3 rfl) ?_
                  refine r_aald hxR hbR hK hI 28 2 (r := ad (50 + i)) rfl rfl (n := 8) (J := i) rfl (by omega) (by decide) rfl dX5_meets_44 ?_
                  refine lv_iload hxR hbR dX5_meets_45 (lv_at hl 4 rfl) ?_
                  refine r_iald hxR hbR hK hI i (n := 8) (J := j) (f := Ky i) (v := (Ky i) j) (mW_K i (by omega)) (by omega) (by decide) rfl dX5_meets_47 ?_
                  refine lv_iconst (v := (-1)) hxR hbR dX5_meets_48 (by decide) ?_
                  refine lv_icmp_ne (tgt := 56) hxR hbR dX5_meets_49 (by decide) (fun c_49 => ?_) (fun c_49 => ?_)
                  · skip
                    have hv : ¬ K i j = -1 := fun h => c_49 (by rw [hKy, upS_at c_18]; exact h)
                    refine lv_iconst (v := 0) hxR hbR dX5_meets_56 (by decide) ?_
                    refine lv_iadd hxR hbR dX5_meets_57 ?_
                    refine lv_as (y := nI b) (nI_add b 0) ?_
                    refine lv_istore_n (lv' := [(2, .int (nI b)), (0, .ref (ad 45)), (1, .int (nI S)), (3, .int (nI i)), (4, .int (nI j))]) hxR hbR dX5_meets_58 rfl hl (by decide) rfl (fun ls hl => ?_)
                    refine lv_aload_n hxR hbR dX5_meets_59 rfl (lv_at hl 1 rfl) ?_
                    refine lv_iload_n hxR hbR dX5_meets_60 rfl (lv_at hl 3 rfl) ?_
                    refine lv_iload hxR hbR dX5_meets_61 (lv_at hl 4 rfl) ?_
                    refine lv_iconst (v := 0) hxR hbR dX5_meets_63 (by decide) ?_
                    refine kVV (n := 3) (As := [.int (nI i), .int (nI j), .int 0]) (rest := []) (fun w => w) hxR hbR hmlR hts hown hK hA hl.1 isCtx.id hI (c5_knows l E ad kp tr iv ia Ky R mv i j 0 (by first | omega | with_reducible assumption) (by first | omega | with_reducible assumption)) (lw_V q1737 q1739 qs49 q86 q1740) ⟨rfl, by decide +kernel⟩ 16 5 rfl rfl mW_o rfl (Nat.le_of_ble_eq_true rfl) (Nat.le_of_ble_eq_true rfl) ⟨Nat.le_of_ble_eq_true rfl, Nat.le_of_ble_eq_true rfl⟩ (Nat.le_of_ble_eq_true rfl) dX5_meets_64 (fun u H locs hp hI hz => ?_)
                    have hI : wI E AR sR H locs (mW E ad kp tr iv ia (knF Ky i j 0) R mv) := hI
                    refine lv_iinc (v := nI (j + 1)) (lv' := [(4, .int (nI (j + 1))), (2, .int (nI b)), (0, .ref (ad 45)), (1, .int (nI S)), (3, .int (nI i))]) hxR hbR dX5_meets_67 hl (k := 4) rfl (show nI j + 1 = nI (j + 1) from nI_add _ 1) (by decide) rfl (fun ls hl => ?_)
                    refine lv_goto (tgt := 15) hxR hbR dX5_meets_70 (by decide) ?_
                    exact ih_15 b (j + 1) (knF Ky i j 0) (by first | omega | with_reducible assumption) (by rw [ha2]; first | rw [mC1_y c_23 c_32 hv]; rfl | rw [mC1_n3 hv] | rw [mC1_n1 c_23] | rw [mC1_n2 c_32]) (by rw [hKy]; first | exact (upS_some c_18 (meetG_y c_23 c_32)).symm | exact (upS_none (meetG_n1 c_23)).symm | exact (upS_none (meetG_n2 c_32)).symm) (by omega) _ _ hI _ (lv_sub hl [2, 3, 1, 4, 0] rfl)
                  · skip
                    have hv : K i j = -1 := by rw [hKy, upS_at c_18] at c_49; exact c_49
                    refine lv_iconst (v := 1) hxR hbR dX5_meets_52 (by decide) ?_
                    refine lv_goto (tgt := 57) hxR hbR dX5_meets_53 (by decide) ?_
                    refine lv_iadd hxR hbR dX5_meets_57 ?_
                    refine lv_as (y := nI (b + 1)) (nI_add b 1) ?_
                    refine lv_istore_n (lv' := [(2, .int (nI (b + 1))), (0, .ref (ad 45)), (1, .int (nI S)), (3, .int (nI i)), (4, .int (nI j))]) hxR hbR dX5_meets_58 rfl hl (by decide) rfl (fun ls hl => ?_)
                    refine lv_aload_n hxR hbR dX5_meets_59 rfl (lv_at hl 1 rfl) ?_
                    refine lv_iload_n hxR hbR dX5_meets_60 rfl (lv_at hl 3 rfl) ?_
                    refine lv_iload hxR hbR dX5_meets_61 (lv_at hl 4 rfl) ?_
                    refine lv_iconst (v := 0) hxR hbR dX5_meets_63 (by decide) ?_
                    refine kVV (n := 3) (As := [.int (nI i), .int (nI j), .int 0]) (rest := []) (fun w => w) hxR hbR hmlR hts hown hK hA hl.1 isCtx.id hI (c5_knows l E ad kp tr iv ia Ky R mv i j 0 (by first | omega | with_reducible assumption) (by first | omega | with_reducible assumption)) (lw_V q1737 q1739 qs49 q86 q1740) ⟨rfl, by decide +kernel⟩ 16 5 rfl rfl mW_o rfl (Nat.le_of_ble_eq_true rfl) (Nat.le_of_ble_eq_true rfl) ⟨Nat.le_of_ble_eq_true rfl, Nat.le_of_ble_eq_true rfl⟩ (Nat.le_of_ble_eq_true rfl) dX5_meets_64 (fun u H locs hp hI hz => ?_)
                    have hI : wI E AR sR H locs (mW E ad kp tr iv ia (knF Ky i j 0) R mv) := hI
                    refine lv_iinc (v := nI (j + 1)) (lv' := [(4, .int (nI (j + 1))), (2, .int (nI (b + 1))), (0, .ref (ad 45)), (1, .int (nI S)), (3, .int (nI i))]) hxR hbR dX5_meets_67 hl (k := 4) rfl (show nI j + 1 = nI (j + 1) from nI_add _ 1) (by decide) rfl (fun ls hl => ?_)
                    refine lv_goto (tgt := 15) hxR hbR dX5_meets_70 (by decide) ?_
                    exact ih_15 (b + 1) (j + 1) (knF Ky i j 0) (by first | omega | with_reducible assumption) (by rw [ha2]; first | rw [mC1_y c_23 c_32 hv]; rfl | rw [mC1_n3 hv] | rw [mC1_n1 c_23] | rw [mC1_n2 c_32]) (by rw [hKy]; first | exact (upS_some c_18 (meetG_y c_23 c_32)).symm | exact (upS_none (meetG_n1 c_23)).symm | exact (upS_none (meetG_n2 c_32)).symm) (by omega) _ _ hI _ (lv_sub hl [2, 3, 1, 4, 0] rfl)
                · skip
                  have c_32 : S.testBit j = false := c_32
                  refine lv_if_eq (tgt := 67) hxR hbR dX5_meets_35 (by decide) (fun _ => ?_) (fun c => absurd c (by decide))
                  refine lv_iinc (v := nI (j + 1)) (lv' := [(4, .int (nI (j + 1))), (0, .ref (ad 45)), (1, .int (nI S)), (2, .int (nI b)), (3, .int (nI i))]) hxR hbR dX5_meets_67 hl (k := 4) rfl (show nI j + 1 = nI (j + 1) from nI_add _ 1) (by decide) rfl (fun ls hl => ?_)
                  refine lv_goto (tgt := 15) hxR hbR dX5_meets_70 (by decide) ?_
                  exact ih_15 b (j + 1) Ky (by first | omega | with_reducible assumption) (by rw [ha2]; first | rw [mC1_y c_23 c_32 hv]; rfl | rw [mC1_n3 hv] | rw [mC1_n1 c_23] | rw [mC1_n2 c_32]) (by rw [hKy]; first | exact (upS_some c_18 (meetG_y c_23 c_32)).symm | exact (upS_none (meetG_n1 c_23)).symm | exact (upS_none (meetG_n2 c_32)).symm) (by omega) _ _ hI _ (lv_sub hl [1, 2, 3, 4, 0] rfl)
              · skip
                have c_23 : S.testBit i = false := c_23
                refine lv_if_eq (tgt := 67) hxR hbR dX5_meets_26 (by decide) (fun _ => ?_) (fun c => absurd c (by decide))
                refine lv_iinc (v := nI (j + 1)) (lv' := [(4, .int (nI (j + 1))), (0, .ref (ad 45)), (1, .int (nI S)), (2, .int (nI b)), (3, .int (nI i))]) hxR hbR dX5_meets_67 hl (k := 4) rfl (show nI j + 1 = nI (j + 1) from nI_add _ 1) (by decide) rfl (fun ls hl => ?_)
                refine lv_goto (tgt := 15) hxR hbR dX5_meets_70 (by decide) ?_
                exact ih_15 b (j + 1) Ky (by first | omega | with_reducible assumption) (by rw [ha2]; first | rw [mC1_y c_23 c_32 hv]; rfl | rw [mC1_n3 hv] | rw [mC1_n1 c_23] | rw [mC1_n2 c_32]) (by rw [hKy]; first | exact (upS_some c_18 (meetG_y c_23 c_32)).symm | exact (upS_none (meetG_n1 c_23)).symm | exact (upS_none (meetG_n2 c_32)).symm) (by omega) _ _ hI _ (lv_sub hl [1, 2, 3, 4, 0] rfl)
        exact lp_15 _ a 0 Kx (by first | omega | with_reducible assumption) (by rw [ha]; rfl) hKx (Nat.lt_succ_self _) _ _ hI _ (lv_sub hl [1, 2, 3, 4, 0] rfl)
  exact lp_4 _ 0 0 K (by first | omega | with_reducible assumption) rfl (upS_0 _ _).symm (Nat.lt_succ_self _) _ _ hI _ (lv_sub hl [2, 3, 1, 0] rfl)

theorem c5_pairsOf (l : Launch) (E : En) (ad : Nat → Nat) (kp tr : Option Nat) (iv : Nat → Int32) (ia K : Nat → Nat → Int32) (R : Nat → Nat → Int64) (mv : Nat → Int64) (n S : Nat) (hn : iv 10 = nI n) (hn8 : n ≤ 8) (hS : S < 2 ^ 31) : CtI l E yX5_pairsOf cX5_pairsOf 5 .int 1 0 0 [.ref (ad 45), .int (nI S)] (mW E ad kp tr iv ia K R mv) (fun (r : Int32) (u : Unit) => r = nI (mC K S n)) (fun (u : Unit) => mW E ad kp tr iv ia K R mv) := by
  refine CtI.of (by decide +kernel) (Nat.le_of_ble_eq_true rfl) ?_
  intro pR eR sR mR aR bR tR cR AR ls QR hxR hbR hmlR hts hown hlk hnm hA hK hI hl hret
  have hl : lv_has ls 5 [(0, .ref (ad 45)), (1, .int (nI S))] := hl
  refine lv_iconst (v := 0) hxR hbR dX5_pairsOf_0 (by decide) ?_
  refine lv_istore_n (lv' := [(2, .int 0), (0, .ref (ad 45)), (1, .int (nI S))]) hxR hbR dX5_pairsOf_1 rfl hl (by decide) rfl (fun ls hl => ?_)
  refine lv_iconst (v := 0) hxR hbR dX5_pairsOf_2 (by decide) ?_
  refine lv_istore_n (lv' := [(3, .int 0), (2, .int 0), (0, .ref (ad 45)), (1, .int (nI S))]) hxR hbR dX5_pairsOf_3 rfl hl (by decide) rfl (fun ls hl => ?_)
  have lp_4 : ∀ (fu : Nat) (a : Nat) (i : Nat), (i ≤ n) → (a = mC K S i) → n - i < fu → ∀ (H : Heap) (locs : List Loc), wI E AR sR H locs (mW E ad kp tr iv ia K R mv) → ∀ ls : Array Slot, lv_has ls 5 [(0, .ref (ad 45)), (1, .int (nI S)), (2, .int (nI a)), (3, .int (nI i))] → W pR l eR (rmF 1 0 0) sR mR aR bR tR cR H locs 0 0 QR (F0 mR 4 ls []) := by
    intro fu
    induction fu with
    | zero =>
      intro a i hi ha hfu
      exact absurd hfu (Nat.not_lt_zero _)
    | succ fu ih_4 =>
      intro a i hi ha hfu H locs hI ls hl
      refine lv_iload_n hxR hbR dX5_pairsOf_4 rfl (lv_at hl 3 rfl) ?_
      refine lv_aload_n hxR hbR dX5_pairsOf_5 rfl (lv_at hl 0 rfl) ?_
      refine r_get hxR hbR hts hown hK hI okX5 (ci := 5) rfl 16 mW_o 10 (by decide) q1488 rfl (v := .int (nI n)) (al hn) dX5_pairsOf_6 ?_
      refine lv_icmp_ge (tgt := 71) hxR hbR dX5_pairsOf_9 (by decide) (fun c_9 => ?_) (fun c_9 => ?_)
      · skip
        have c_9 : n ≤ i := (n_le (a := n) (b := i) (by omega) (by omega)).mp c_9
        refine lv_iload_n hxR hbR dX5_pairsOf_71 rfl (lv_at hl 2 rfl) ?_
        exact hret () (nI a) _ _ _ _ _ _ dX5_pairsOf_72 hI (by show (nI a) = nI (mC K S n); rw [ha, show i = n by omega]) (Nat.le_of_ble_eq_true rfl) (Nat.le_of_ble_eq_true rfl) rfl
      · skip
        have c_9 : i < n := Nat.lt_of_not_le (fun zz => c_9 ((n_le (a := n) (b := i) (by omega) (by omega)).mpr zz))
        refine lv_iconst (v := 0) hxR hbR dX5_pairsOf_12 (by decide) ?_
        refine lv_istore (lv' := [(4, .int 0), (0, .ref (ad 45)), (1, .int (nI S)), (2, .int (nI a)), (3, .int (nI i))]) hxR hbR dX5_pairsOf_13 hl (by decide) rfl (fun ls hl => ?_)
        have lp_15 : ∀ (fu : Nat) (b : Nat) (j : Nat), (j ≤ i) → (b = mC K S i + mC1 K S i j) → i - j < fu → ∀ (H : Heap) (locs : List Loc), wI E AR sR H locs (mW E ad kp tr iv ia K R mv) → ∀ ls : Array Slot, lv_has ls 5 [(0, .ref (ad 45)), (1, .int (nI S)), (2, .int (nI b)), (3, .int (nI i)), (4, .int (nI j))] → W pR l eR (rmF 1 0 0) sR mR aR bR tR cR H locs 0 0 QR (F0 mR 15 ls []) := by
          intro fu
          induction fu with
          | zero =>
            intro b j hj ha2 hfu
            exact absurd hfu (Nat.not_lt_zero _)
          | succ fu ih_15 =>
            intro b j hj ha2 hfu H locs hI ls hl
            refine lv_iload hxR hbR dX5_pairsOf_15 (lv_at hl 4 rfl) ?_
            refine lv_iload_n hxR hbR dX5_pairsOf_17 rfl (lv_at hl 3 rfl) ?_
            refine lv_icmp_ge (tgt := 65) hxR hbR dX5_pairsOf_18 (by decide) (fun c_18 => ?_) (fun c_18 => ?_)
            · skip
              have c_18 : i ≤ j := (n_le (a := i) (b := j) (by omega) (by omega)).mp c_18
              refine lv_iinc (v := nI (i + 1)) (lv' := [(3, .int (nI (i + 1))), (0, .ref (ad 45)), (1, .int (nI S)), (2, .int (nI b)), (4, .int (nI j))]) hxR hbR dX5_pairsOf_65 hl (k := 3) rfl (show nI i + 1 = nI (i + 1) from nI_add _ 1) (by decide) rfl (fun ls hl => ?_)
              refine lv_goto (tgt := 4) hxR hbR dX5_pairsOf_68 (by decide) ?_
              exact ih_4 b (i + 1) (by first | omega | with_reducible assumption) (by rw [ha2, show j = i by omega]; rfl) (by omega) _ _ hI _ (lv_sub hl [1, 2, 3, 0] rfl)
            · skip
              have c_18 : j < i := Nat.lt_of_not_le (fun zz => c_18 ((n_le (a := i) (b := j) (by omega) (by omega)).mpr zz))
              refine lv_iload_n hxR hbR dX5_pairsOf_21 rfl (lv_at hl 2 rfl) ?_
              refine lv_iload_n hxR hbR dX5_pairsOf_22 rfl (lv_at hl 1 rfl) ?_
              refine lv_iload_n hxR hbR dX5_pairsOf_23 rfl (lv_at hl 3 rfl) ?_
              refine kSI (n := 2) (As := [.int (nI S), .int (nI i)]) (rest := [.int (nI b)]) (fun w => w ++ (mW E ad kp tr iv ia K R mv)) hxR hbR hmlR hts hown hK hA hl.1 (isCtx.suf _) hI (c5_has l E  S i (by first | omega | with_reducible assumption) (by first | omega | with_reducible assumption)) (lw_S q1680 q1681 q86 q1682) (by decide +kernel) rfl (Nat.le_of_ble_eq_true rfl) (Nat.le_of_ble_eq_true rfl) ⟨Nat.le_of_ble_eq_true rfl, Nat.le_of_ble_eq_true rfl⟩ (Nat.le_of_ble_eq_true rfl) dX5_pairsOf_24 (fun r_24 u H locs hp hI hz => ?_)
              have hI : wI E AR sR H locs (mW E ad kp tr iv ia K R mv) := hI
              have hp : r_24 = b2i (S.testBit i) := hp
              have hr_24 := hp
              rcases b2i_cases hr_24 with ⟨c_24, rfl⟩ | ⟨c_24, rfl⟩
              · skip
                have c_24 : S.testBit i = true := c_24
                refine lv_if_eq (tgt := 56) hxR hbR dX5_pairsOf_27 (by decide) (fun c => absurd c (by decide)) (fun _ => ?_)
                refine lv_iload_n hxR hbR dX5_pairsOf_30 rfl (lv_at hl 1 rfl) ?_
                refine lv_iload hxR hbR dX5_pairsOf_31 (lv_at hl 4 rfl) ?_
                refine kSI (n := 2) (As := [.int (nI S), .int (nI j)]) (rest := [.int (nI b)]) (fun w => w ++ (mW E ad kp tr iv ia K R mv)) hxR hbR hmlR hts hown hK hA hl.1 (isCtx.suf _) hI (c5_has l E  S j (by first | omega | with_reducible assumption) (by first | omega | with_reducible assumption)) (lw_S q1680 q1681 q86 q1682) (by decide +kernel) rfl (Nat.le_of_ble_eq_true rfl) (Nat.le_of_ble_eq_true rfl) ⟨Nat.le_of_ble_eq_true rfl, Nat.le_of_ble_eq_true rfl⟩ (Nat.le_of_ble_eq_true rfl) dX5_pairsOf_33 (fun r_33 u H locs hp hI hz => ?_)
                have hI : wI E AR sR H locs (mW E ad kp tr iv ia K R mv) := hI
                have hp : r_33 = b2i (S.testBit j) := hp
                have hr_33 := hp
                rcases b2i_cases hr_33 with ⟨c_33, rfl⟩ | ⟨c_33, rfl⟩
                · skip
                  have c_33 : S.testBit j = true := c_33
                  refine lv_if_eq (tgt := 56) hxR hbR dX5_pairsOf_36 (by decide) (fun c => absurd c (by decide)) (fun _ => ?_)
                  refine lv_aload_n hxR hbR dX5_pairsOf_39 rfl (lv_at hl 0 rfl) ?_
                  refine r_get hxR hbR hts hown hK hI okX5 (ci := 5) rfl 16 mW_o 13 (by decide) q1491 rfl (v := .ref (ad 13)) rfl dX5_pairsOf_40 ?_
                  refine lv_iload_n hxR hbR dX5_pairsOf_43 rfl (lv_at hl 3 rfl) ?_
                  refine r_aald hxR hbR hK hI 28 2 (r := ad (50 + i)) rfl rfl (n := 8) (J := i) rfl (by omega) (by decide) rfl dX5_pairsOf_44 ?_
                  refine lv_iload hxR hbR dX5_pairsOf_45 (lv_at hl 4 rfl) ?_
                  refine r_iald hxR hbR hK hI i (n := 8) (J := j) (f := K i) (v := (K i) j) (mW_K i (by omega)) (by omega) (by decide) rfl dX5_pairsOf_47 ?_
                  refine lv_iconst (v := (-1)) hxR hbR dX5_pairsOf_48 (by decide) ?_
                  refine lv_icmp_ne (tgt := 56) hxR hbR dX5_pairsOf_49 (by decide) (fun c_49 => ?_) (fun c_49 => ?_)
                  · skip
                    refine lv_iconst (v := 0) hxR hbR dX5_pairsOf_56 (by decide) ?_
                    refine lv_iadd hxR hbR dX5_pairsOf_57 ?_
                    refine lv_as (y := nI b) (nI_add b 0) ?_
                    refine lv_istore_n (lv' := [(2, .int (nI b)), (0, .ref (ad 45)), (1, .int (nI S)), (3, .int (nI i)), (4, .int (nI j))]) hxR hbR dX5_pairsOf_58 rfl hl (by decide) rfl (fun ls hl => ?_)
                    refine lv_iinc (v := nI (j + 1)) (lv' := [(4, .int (nI (j + 1))), (2, .int (nI b)), (0, .ref (ad 45)), (1, .int (nI S)), (3, .int (nI i))]) hxR hbR dX5_pairsOf_59 hl (k := 4) rfl (show nI j + 1 = nI (j + 1) from nI_add _ 1) (by decide) rfl (fun ls hl => ?_)
                    refine lv_goto (tgt := 15) hxR hbR dX5_pairsOf_62 (by decide) ?_
                    exact ih_15 b (j + 1) (by first | omega | with_reducible assumption) (by rw [ha2]; first | rw [mC1_y c_24 c_33 c_49]; rfl | rw [mC1_n3 c_49] | rw [mC1_n1 c_24] | rw [mC1_n2 c_33]) (by omega) _ _ hI _ (lv_sub hl [2, 3, 1, 4, 0] rfl)
                  · skip
                    refine lv_iconst (v := 1) hxR hbR dX5_pairsOf_52 (by decide) ?_
                    refine lv_goto (tgt := 57) hxR hbR dX5_pairsOf_53 (by decide) ?_
                    refine lv_iadd hxR hbR dX5_pairsOf_57 ?_
                    refine lv_as (y := nI (b + 1)) (nI_add b 1) ?_
                    refine lv_istore_n (lv' := [(2, .int (nI (b + 1))), (0, .ref (ad 45)), (1, .int (nI S)), (3, .int (nI i)), (4, .int (nI j))]) hxR hbR dX5_pairsOf_58 rfl hl (by decide) rfl (fun ls hl => ?_)
                    refine lv_iinc (v := nI (j + 1)) (lv' := [(4, .int (nI (j + 1))), (2, .int (nI (b + 1))), (0, .ref (ad 45)), (1, .int (nI S)), (3, .int (nI i))]) hxR hbR dX5_pairsOf_59 hl (k := 4) rfl (show nI j + 1 = nI (j + 1) from nI_add _ 1) (by decide) rfl (fun ls hl => ?_)
                    refine lv_goto (tgt := 15) hxR hbR dX5_pairsOf_62 (by decide) ?_
                    exact ih_15 (b + 1) (j + 1) (by first | omega | with_reducible assumption) (by rw [ha2]; first | rw [mC1_y c_24 c_33 c_49]; rfl | rw [mC1_n3 c_49] | rw [mC1_n1 c_24] | rw [mC1_n2 c_33]) (by omega) _ _ hI _ (lv_sub hl [2, 3, 1, 4, 0] rfl)
                · skip
                  have c_33 : S.testBit j = false := c_33
                  refine lv_if_eq (tgt := 56) hxR hbR dX5_pairsOf_36 (by decide) (fun _ => ?_) (fun c => absurd c (by decide))
                  refine lv_iconst (v := 0) hxR hbR dX5_pairsOf_56 (by decide) ?_
                  refine lv_iadd hxR hbR dX5_pairsOf_57 ?_
                  refine lv_as (y := nI b) (nI_add b 0) ?_
                  refine lv_istore_n (lv' := [(2, .int (nI b)), (0, .ref (ad 45)), (1, .int (nI S)), (3, .int (nI i)), (4, .int (nI j))]) hxR hbR dX5_pairsOf_58 rfl hl (by decide) rfl (fun ls hl => ?_)
                  refine lv_iinc (v := nI (j + 1)) (lv' := [(4, .int (nI (j + 1))), (2, .int (nI b)), (0, .ref (ad 45)), (1, .int (nI S)), (3, .int (nI i))]) hxR hbR dX5_pairsOf_59 hl (k := 4) rfl (show nI j + 1 = nI (j + 1) from nI_add _ 1) (by decide) rfl (fun ls hl => ?_)
                  refine lv_goto (tgt := 15) hxR hbR dX5_pairsOf_62 (by decide) ?_
                  exact ih_15 b (j + 1) (by first | omega | with_reducible assumption) (by rw [ha2]; first | rw [mC1_y c_24 c_33 c_49]; rfl | rw [mC1_n3 c_49] | rw [mC1_n1 c_24] | rw [mC1_n2 c_33]) (by omega) _ _ hI _ (lv_sub hl [2, 3, 1, 4, 0] rfl)
              · skip
                have c_24 : S.testBit i = false := c_24
                refine lv_if_eq (tgt := 56) hxR hbR dX5_pairsOf_27 (by decide) (fun _ => ?_) (fun c => absurd c (by decide))
                refine lv_iconst (v := 0) hxR hbR dX5_pairsOf_56 (by decide) ?_
                refine lv_iadd hxR hbR dX5_pairsOf_57 ?_
                refine lv_as (y := nI b) (nI_add b 0) ?_
                refine lv_istore_n (lv' := [(2, .int (nI b)), (0, .ref (ad 45)), (1, .int (nI S)), (3, .int (nI i)), (4, .int (nI j))]) hxR hbR dX5_pairsOf_58 rfl hl (by decide) rfl (fun ls hl => ?_)
                refine lv_iinc (v := nI (j + 1)) (lv' := [(4, .int (nI (j + 1))), (2, .int (nI b)), (0, .ref (ad 45)), (1, .int (nI S)), (3, .int (nI i))]) hxR hbR dX5_pairsOf_59 hl (k := 4) rfl (show nI j + 1 = nI (j + 1) from nI_add _ 1) (by decide) rfl (fun ls hl => ?_)
                refine lv_goto (tgt := 15) hxR hbR dX5_pairsOf_62 (by decide) ?_
                exact ih_15 b (j + 1) (by first | omega | with_reducible assumption) (by rw [ha2]; first | rw [mC1_y c_24 c_33 c_49]; rfl | rw [mC1_n3 c_49] | rw [mC1_n1 c_24] | rw [mC1_n2 c_33]) (by omega) _ _ hI _ (lv_sub hl [2, 3, 1, 4, 0] rfl)
        exact lp_15 _ a 0 (by first | omega | with_reducible assumption) (by rw [ha]; rfl) (Nat.lt_succ_self _) _ _ hI _ (lv_sub hl [1, 2, 3, 4, 0] rfl)
  exact lp_4 _ 0 0 (by first | omega | with_reducible assumption) rfl (Nat.lt_succ_self _) _ _ hI _ (lv_sub hl [2, 3, 1, 0] rfl)
