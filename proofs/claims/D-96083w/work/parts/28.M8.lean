theorem c5_closesOf (l : Launch) (E : En) (ad : Nat → Nat) (kp : Option Nat) (iv : Nat → Int32) (ia K : Nat → Nat → Int32) (R : Nat → Nat → Int64) (mv : Nat → Int64) (ob : Option (Nat → Nat)) (kpb trb : Option Nat) (ivb : Nat → Int32) (iab Kb : Nat → Nat → Int32) (Rb : Nat → Nat → Int64) (mvb : Nat → Int64) (n st P Qq : Nat) (hn : iv 10 = nI n) (hst : iv 14 = nI st) (hn7 : n ≤ 7) (hs2 : 2 ≤ st) (hs4 : st ≤ 4) (hP : P < 8) (hQ : Qq < 8) : CtI l E yX5_closesOf cX5_closesOf 4 .int 12 38 1946 [.ref (ad 45), .int (nI P), .int (nI Qq)] (mW E ad kp (oT ob) iv ia K R mv ++ (oM E ob kpb trb ivb iab Kb Rb mvb)) (fun (r : Int32) (u : (Nat → Nat) × (Option Nat) × (Option Nat) × (Nat → Int32) × (Nat → Nat → Int32) × (Nat → Nat → Int32) × (Nat → Nat → Int64) × (Nat → Int64)) => r = nI (cntL (2 ^ n - 1) (GL K n st)) - nI (cntL (2 ^ n - 1) (GL (knF K P Qq 0) n st))) (fun (u : (Nat → Nat) × (Option Nat) × (Option Nat) × (Nat → Int32) × (Nat → Nat → Int32) × (Nat → Nat → Int32) × (Nat → Nat → Int64) × (Nat → Int64)) => mW E ad kp (some (u.1 45)) (va_up iv 30 (nI ((GL K n st).length))) (va_up ia 29 (wrL (ia 29) 0 (GL K n st))) K R mv ++ (mW E u.1 u.2.1 u.2.2.1 u.2.2.2.1 u.2.2.2.2.1 u.2.2.2.2.2.1 u.2.2.2.2.2.2.1 u.2.2.2.2.2.2.2)) := by
  have h28 : 2 ^ n ≤ 2 ^ 7 := Nat.pow_le_pow_right (by decide) hn7
  refine CtI.of (by decide +kernel) (Nat.le_of_ble_eq_true rfl) ?_
  intro pR eR sR mR aR bR tR cR AR ls QR hxR hbR hmlR hts hown hlk hnm hA hK hI hl hret
  have hl : lv_has ls 4 [(0, .ref (ad 45)), (1, .int (nI P)), (2, .int (nI Qq))] := hl
  refine lv_aload_n hxR hbR dX5_closesOf_0 rfl (lv_at hl 0 rfl) ?_
  refine kVR (n := 0) (As := []) (rest := []) (fun w => w) hxR hbR hmlR hts hown hK hA hl.1 isCtx.id hI (c5_fresh l E ad kp iv ia K R mv ob kpb trb ivb iab Kb Rb mvb) (lw_V q1759 q1761 qs50 q86 q1762) ⟨rfl, by decide +kernel⟩ 16 5 rfl rfl (he_l mW_o) rfl (Nat.le_of_ble_eq_true rfl) (Nat.le_of_ble_eq_true rfl) ⟨Nat.le_of_ble_eq_true rfl, Nat.le_of_ble_eq_true rfl⟩ (Nat.le_of_ble_eq_true rfl) dX5_closesOf_1 (fun u r_1 H locs hp hI hz => ?_)
  obtain ⟨adN_1, kpN_1, trN_1, ivN_1, iaN_1, RN_1, mvN_1⟩ := u
  have hp : ivN_1 10 = iv 10 ∧ ivN_1 14 = iv 14 ∧ ivN_1 15 = iv 15 ∧ ivN_1 16 = iv 16 ∧ ivN_1 17 = iv 17 ∧ ivN_1 18 = iv 18 ∧ ivN_1 19 = iv 19 ∧ iaN_1 11 = ia 11 ∧ iaN_1 12 = ia 12 := hp
  obtain ⟨hv10_1, hv14_1, hv15_1, hv16_1, hv17_1, hv18_1, hv19_1, ha11_1, ha12_1⟩ := hp
  have hI : wI E AR sR H locs (mW E ad kp (some r_1) iv ia K R mv ++ (mW E (va_up adN_1 45 r_1) kpN_1 trN_1 ivN_1 iaN_1 K RN_1 mvN_1)) := hI
  generalize hadb_1 : va_up adN_1 45 r_1 = adb_1 at hI
  have e_1 : r_1 = adb_1 45 := by rw [← hadb_1, va_up_s]
  clear hadb_1
  subst e_1
  refine lv_astore_n (lv' := [(3, .ref (adb_1 45)), (0, .ref (ad 45)), (1, .int (nI P)), (2, .int (nI Qq))]) hxR hbR dX5_closesOf_4 rfl hl (by decide) rfl (fun ls hl => ?_)
  refine lv_aload_n hxR hbR dX5_closesOf_5 rfl (lv_at hl 0 rfl) ?_
  refine lv_iload_n hxR hbR dX5_closesOf_6 rfl (lv_at hl 2 rfl) ?_
  refine lv_iload_n hxR hbR dX5_closesOf_7 rfl (lv_at hl 3 rfl) ?_
  refine lv_iconst (v := 0) hxR hbR dX5_closesOf_8 (by decide) ?_
  refine kVV (n := 3) (As := [.int (nI P), .int (nI Qq), .int 0]) (rest := []) (fun w => (mW E ad kp (some (adb_1 45)) iv ia K R mv) ++ w) hxR hbR hmlR hts hown hK hA hl.1 (isCtx.pre _) hI (c5_knows l E adb_1 kpN_1 trN_1 ivN_1 iaN_1 K RN_1 mvN_1 P Qq 0 (by first | omega | with_reducible assumption) (by first | omega | with_reducible assumption)) (lw_V q1737 q1739 qs49 q86 q1740) ⟨rfl, by decide +kernel⟩ 16 5 rfl rfl mW_o rfl (Nat.le_of_ble_eq_true rfl) (Nat.le_of_ble_eq_true rfl) ⟨Nat.le_of_ble_eq_true rfl, Nat.le_of_ble_eq_true rfl⟩ (Nat.le_of_ble_eq_true rfl) dX5_closesOf_9 (fun u H locs hp hI hz => ?_)
  have hI : wI E AR sR H locs (mW E ad kp (some (adb_1 45)) iv ia K R mv ++ (mW E adb_1 kpN_1 trN_1 ivN_1 iaN_1 (knF K P Qq 0) RN_1 mvN_1)) := hI
  refine lv_aload_n hxR hbR dX5_closesOf_12 rfl (lv_at hl 1 rfl) ?_
  refine lv_aload_n hxR hbR dX5_closesOf_13 rfl (lv_at hl 1 rfl) ?_
  refine kVI (n := 0) (As := []) (rest := [.ref (ad 45)]) (fun w => w ++ (mW E adb_1 kpN_1 trN_1 ivN_1 iaN_1 (knF K P Qq 0) RN_1 mvN_1)) hxR hbR hmlR hts hown hK hA hl.1 (isCtx.suf _) hI (c5_all l E ad kp (some (adb_1 45)) iv ia K R mv n hn (by omega)) (lw_V q1664 q1666 qs36 q86 q1667) ⟨rfl, by decide +kernel⟩ 16 5 rfl rfl mW_o rfl (Nat.le_of_ble_eq_true rfl) (Nat.le_of_ble_eq_true rfl) ⟨Nat.le_of_ble_eq_true rfl, Nat.le_of_ble_eq_true rfl⟩ (Nat.le_of_ble_eq_true rfl) dX5_closesOf_14 (fun r_14 u H locs hp hI hz => ?_)
  have hI : wI E AR sR H locs (mW E ad kp (some (adb_1 45)) iv ia K R mv ++ (mW E adb_1 kpN_1 trN_1 ivN_1 iaN_1 (knF K P Qq 0) RN_1 mvN_1)) := hI
  have hp : r_14 = nI (2 ^ n - 1) := hp
  have hr_14 := hp
  subst hr_14
  refine kVI (n := 1) (As := [.int (nI (2 ^ n - 1))]) (rest := []) (fun w => w ++ (mW E adb_1 kpN_1 trN_1 ivN_1 iaN_1 (knF K P Qq 0) RN_1 mvN_1)) hxR hbR hmlR hts hown hK hA hl.1 (isCtx.suf _) hI (c5_groupsOf l E ad kp (some (adb_1 45)) iv ia K R mv n st (2 ^ n - 1) hn hst (by omega) (by first | omega | with_reducible assumption) (by first | omega | with_reducible assumption)) (lw_V q1874 q1876 qs65 q86 q1877) ⟨rfl, by decide +kernel⟩ 16 5 rfl rfl mW_o rfl (Nat.le_of_ble_eq_true rfl) (Nat.le_of_ble_eq_true rfl) ⟨Nat.le_of_ble_eq_true rfl, Nat.le_of_ble_eq_true rfl⟩ (Nat.le_of_ble_eq_true rfl) dX5_closesOf_17 (fun r_17 u H locs hp hI hz => ?_)
  have hI : wI E AR sR H locs (mW E ad kp (some (adb_1 45)) (va_up iv 30 (nI ((GL K n st).length))) (va_up ia 29 (wrL (ia 29) 0 (GL K n st))) K R mv ++ (mW E adb_1 kpN_1 trN_1 ivN_1 iaN_1 (knF K P Qq 0) RN_1 mvN_1)) := hI
  have hp : r_17 = nI (cntL (2 ^ n - 1) (GL K n st)) := hp
  have hr_17 := hp
  subst hr_17
  refine lv_aload_n hxR hbR dX5_closesOf_20 rfl (lv_at hl 0 rfl) ?_
  refine lv_aload_n hxR hbR dX5_closesOf_21 rfl (lv_at hl 1 rfl) ?_
  refine kVI (n := 0) (As := []) (rest := [.ref (adb_1 45), .int (nI (cntL (2 ^ n - 1) (GL K n st)))]) (fun w => w ++ (mW E adb_1 kpN_1 trN_1 ivN_1 iaN_1 (knF K P Qq 0) RN_1 mvN_1)) hxR hbR hmlR hts hown hK hA hl.1 (isCtx.suf _) hI (c5_all l E ad kp (some (adb_1 45)) (va_up iv 30 (nI ((GL K n st).length))) (va_up ia 29 (wrL (ia 29) 0 (GL K n st))) K R mv n (up_n (by decide) hn) (by omega)) (lw_V q1664 q1666 qs36 q86 q1667) ⟨rfl, by decide +kernel⟩ 16 5 rfl rfl mW_o rfl (Nat.le_of_ble_eq_true rfl) (Nat.le_of_ble_eq_true rfl) ⟨Nat.le_of_ble_eq_true rfl, Nat.le_of_ble_eq_true rfl⟩ (Nat.le_of_ble_eq_true rfl) dX5_closesOf_22 (fun r_22 u H locs hp hI hz => ?_)
  have hI : wI E AR sR H locs (mW E ad kp (some (adb_1 45)) (va_up iv 30 (nI ((GL K n st).length))) (va_up ia 29 (wrL (ia 29) 0 (GL K n st))) K R mv ++ (mW E adb_1 kpN_1 trN_1 ivN_1 iaN_1 (knF K P Qq 0) RN_1 mvN_1)) := hI
  have hp : r_22 = nI (2 ^ n - 1) := hp
  have hr_22 := hp
  subst hr_22
  refine kVI (n := 1) (As := [.int (nI (2 ^ n - 1))]) (rest := [.int (nI (cntL (2 ^ n - 1) (GL K n st)))]) (fun w => (mW E ad kp (some (adb_1 45)) (va_up iv 30 (nI ((GL K n st).length))) (va_up ia 29 (wrL (ia 29) 0 (GL K n st))) K R mv) ++ w) hxR hbR hmlR hts hown hK hA hl.1 (isCtx.pre _) hI (c5_groupsOf l E adb_1 kpN_1 trN_1 ivN_1 iaN_1 (knF K P Qq 0) RN_1 mvN_1 n st (2 ^ n - 1) (Eq.trans hv10_1 hn) (Eq.trans hv14_1 hst) (by omega) (by first | omega | with_reducible assumption) (by first | omega | with_reducible assumption)) (lw_V q1874 q1876 qs65 q86 q1877) ⟨rfl, by decide +kernel⟩ 16 5 rfl rfl mW_o rfl (Nat.le_of_ble_eq_true rfl) (Nat.le_of_ble_eq_true rfl) ⟨Nat.le_of_ble_eq_true rfl, Nat.le_of_ble_eq_true rfl⟩ (Nat.le_of_ble_eq_true rfl) dX5_closesOf_25 (fun r_25 u H locs hp hI hz => ?_)
  have hI : wI E AR sR H locs (mW E ad kp (some (adb_1 45)) (va_up iv 30 (nI ((GL K n st).length))) (va_up ia 29 (wrL (ia 29) 0 (GL K n st))) K R mv ++ (mW E adb_1 kpN_1 trN_1 (va_up ivN_1 30 (nI ((GL (knF K P Qq 0) n st).length))) (va_up iaN_1 29 (wrL (iaN_1 29) 0 (GL (knF K P Qq 0) n st))) (knF K P Qq 0) RN_1 mvN_1)) := hI
  have hp : r_25 = nI (cntL (2 ^ n - 1) (GL (knF K P Qq 0) n st)) := hp
  have hr_25 := hp
  subst hr_25
  refine lv_isub hxR hbR dX5_closesOf_28 ?_
  exact hret (adb_1, kpN_1, trN_1, (va_up ivN_1 30 (nI ((GL (knF K P Qq 0) n st).length))), (va_up iaN_1 29 (wrL (iaN_1 29) 0 (GL (knF K P Qq 0) n st))), knF K P Qq 0, RN_1, mvN_1) ((nI (cntL (2 ^ n - 1) (GL K n st))) - (nI (cntL (2 ^ n - 1) (GL (knF K P Qq 0) n st)))) _ _ _ _ _ _ dX5_closesOf_29 hI (by show ((nI (cntL (2 ^ n - 1) (GL K n st))) - (nI (cntL (2 ^ n - 1) (GL (knF K P Qq 0) n st)))) = nI (cntL (2 ^ n - 1) (GL K n st)) - nI (cntL (2 ^ n - 1) (GL (knF K P Qq 0) n st)); rfl) (Nat.le_of_ble_eq_true rfl) (Nat.le_of_ble_eq_true rfl) rfl

theorem c5_hire (l : Launch) (E : En) (ad : Nat → Nat) (kp : Option Nat) (iv : Nat → Int32) (ia K : Nat → Nat → Int32) (R : Nat → Nat → Int64) (mv : Nat → Int64) (ob : Option (Nat → Nat)) (kpb trb : Option Nat) (ivb : Nat → Int32) (iab Kb : Nat → Nat → Int32) (Rb : Nat → Nat → Int64) (mvb : Nat → Int64) (n st : Nat) (hn : iv 10 = nI n) (hst : iv 14 = nI st) (hn7 : n ≤ 7) (hs2 : 2 ≤ st) (hs4 : st ≤ 4) : CtI l E yX5_hire cX5_hire 3 .int 300 38 1946 [.ref (ad 45)] (mW E ad kp (oT ob) iv ia K R mv ++ (oM E ob kpb trb ivb iab Kb Rb mvb)) (fun (r : Int32) (u : (Nat → Nat) × (Option Nat) × (Option Nat) × (Nat → Int32) × (Nat → Nat → Int32) × (Nat → Nat → Int32) × (Nat → Nat → Int64) × (Nat → Int64)) => r = nI (mostV (GL (newK K n n) (n + 1) st) (2 ^ (n + 1) - 1)) - nI (mostV (GL K n st) (2 ^ n - 1))) (fun (u : (Nat → Nat) × (Option Nat) × (Option Nat) × (Nat → Int32) × (Nat → Nat → Int32) × (Nat → Nat → Int32) × (Nat → Nat → Int64) × (Nat → Int64)) => mW E ad kp (some (u.1 45)) (va_up iv 30 (nI ((GL K n st).length))) (va_up ia 29 (wrL (ia 29) 0 (GL K n st))) K R mv ++ (mW E u.1 u.2.1 u.2.2.1 u.2.2.2.1 u.2.2.2.2.1 u.2.2.2.2.2.1 u.2.2.2.2.2.2.1 u.2.2.2.2.2.2.2)) := by
  have h28 : 2 ^ n ≤ 2 ^ 7 := Nat.pow_le_pow_right (by decide) hn7
  have h29 : 2 ^ (n + 1) ≤ 2 ^ 8 := Nat.pow_le_pow_right (by decide) (by omega)
  refine CtI.of (by decide +kernel) (Nat.le_of_ble_eq_true rfl) ?_
  intro pR eR sR mR aR bR tR cR AR ls QR hxR hbR hmlR hts hown hlk hnm hA hK hI hl hret
  have hl : lv_has ls 3 [(0, .ref (ad 45))] := hl
  refine lv_aload_n hxR hbR dX5_hire_0 rfl (lv_at hl 0 rfl) ?_
  refine kVV (n := 0) (As := []) (rest := []) (fun w => w ++ (oM E ob kpb trb ivb iab Kb Rb mvb)) hxR hbR hmlR hts hown hK hA hl.1 (isCtx.suf _) hI (c5_listAll l E ad kp (oT ob) iv ia K R mv n st hn hst (by omega) (by first | omega | with_reducible assumption)) (lw_V q1672 q1674 qs38 q86 q1675) ⟨rfl, by decide +kernel⟩ 16 5 rfl rfl mW_o rfl (Nat.le_of_ble_eq_true rfl) (Nat.le_of_ble_eq_true rfl) ⟨Nat.le_of_ble_eq_true rfl, Nat.le_of_ble_eq_true rfl⟩ (Nat.le_of_ble_eq_true rfl) dX5_hire_1 (fun u H locs hp hI hz => ?_)
  have hI : wI E AR sR H locs (mW E ad kp (oT ob) (va_up iv 30 (nI ((GL K n st).length))) (va_up ia 29 (wrL (ia 29) 0 (GL K n st))) K R mv ++ (oM E ob kpb trb ivb iab Kb Rb mvb)) := hI
  have hL := isL_GL (f := ia 29) (K := K) (n := n) (by omega) hs2 hs4
  refine lv_aload_n hxR hbR dX5_hire_4 rfl (lv_at hl 0 rfl) ?_
  refine lv_aload_n hxR hbR dX5_hire_5 rfl (lv_at hl 0 rfl) ?_
  refine kVI (n := 0) (As := []) (rest := [.ref (ad 45)]) (fun w => w ++ (oM E ob kpb trb ivb iab Kb Rb mvb)) hxR hbR hmlR hts hown hK hA hl.1 (isCtx.suf _) hI (c5_all l E ad kp (oT ob) (va_up iv 30 (nI ((GL K n st).length))) (va_up ia 29 (wrL (ia 29) 0 (GL K n st))) K R mv n (up_n (by decide) hn) (by omega)) (lw_V q1664 q1666 qs36 q86 q1667) ⟨rfl, by decide +kernel⟩ 16 5 rfl rfl mW_o rfl (Nat.le_of_ble_eq_true rfl) (Nat.le_of_ble_eq_true rfl) ⟨Nat.le_of_ble_eq_true rfl, Nat.le_of_ble_eq_true rfl⟩ (Nat.le_of_ble_eq_true rfl) dX5_hire_6 (fun r_6 u H locs hp hI hz => ?_)
  have hI : wI E AR sR H locs (mW E ad kp (oT ob) (va_up iv 30 (nI ((GL K n st).length))) (va_up ia 29 (wrL (ia 29) 0 (GL K n st))) K R mv ++ (oM E ob kpb trb ivb iab Kb Rb mvb)) := hI
  have hp : r_6 = nI (2 ^ n - 1) := hp
  have hr_6 := hp
  subst hr_6
  refine kVI (n := 1) (As := [.int (nI (2 ^ n - 1))]) (rest := []) (fun w => w ++ (oM E ob kpb trb ivb iab Kb Rb mvb)) hxR hbR hmlR hts hown hK hA hl.1 (isCtx.suf _) hI (c5_mostIn l E (2 ^ n - 1) ad kp (oT ob) (va_up iv 30 (nI ((GL K n st).length))) (va_up ia 29 (wrL (ia 29) 0 (GL K n st))) K R mv (2 ^ n - 1) (GL K n st) va_up_s (isL.of va_up_s hL) rfl (by first | omega | with_reducible assumption)) (lw_V q1694 q1696 qs42 q86 q1697) ⟨rfl, by decide +kernel⟩ 16 5 rfl rfl mW_o rfl (by omega) (Nat.le_of_ble_eq_true rfl) ⟨Nat.le_of_ble_eq_true rfl, Nat.le_of_ble_eq_true rfl⟩ (Nat.le_of_ble_eq_true rfl) dX5_hire_9 (fun r_9 u H locs hp hI hz => ?_)
  have hI : wI E AR sR H locs (mW E ad kp (oT ob) (va_up iv 30 (nI ((GL K n st).length))) (va_up ia 29 (wrL (ia 29) 0 (GL K n st))) K R mv ++ (oM E ob kpb trb ivb iab Kb Rb mvb)) := hI
  have hp : r_9 = nI (mostV (GL K n st) (2 ^ n - 1)) := hp
  have hr_9 := hp
  subst hr_9
  refine lv_istore_n (lv' := [(1, .int (nI (mostV (GL K n st) (2 ^ n - 1)))), (0, .ref (ad 45))]) hxR hbR dX5_hire_12 rfl hl (by decide) rfl (fun ls hl => ?_)
  refine lv_aload_n hxR hbR dX5_hire_13 rfl (lv_at hl 1 rfl) ?_
  refine kVR (n := 0) (As := []) (rest := []) (fun w => w) hxR hbR hmlR hts hown hK hA hl.1 isCtx.id hI (c5_fresh l E ad kp (va_up iv 30 (nI ((GL K n st).length))) (va_up ia 29 (wrL (ia 29) 0 (GL K n st))) K R mv ob kpb trb ivb iab Kb Rb mvb) (lw_V q1759 q1761 qs50 q86 q1762) ⟨rfl, by decide +kernel⟩ 16 5 rfl rfl (he_l mW_o) rfl (Nat.le_of_ble_eq_true rfl) (Nat.le_of_ble_eq_true rfl) ⟨Nat.le_of_ble_eq_true rfl, Nat.le_of_ble_eq_true rfl⟩ (Nat.le_of_ble_eq_true rfl) dX5_hire_14 (fun u r_14 H locs hp hI hz => ?_)
  obtain ⟨adN_14, kpN_14, trN_14, ivN_14, iaN_14, RN_14, mvN_14⟩ := u
  have hp : ivN_14 10 = iv 10 ∧ ivN_14 14 = iv 14 ∧ ivN_14 15 = iv 15 ∧ ivN_14 16 = iv 16 ∧ ivN_14 17 = iv 17 ∧ ivN_14 18 = iv 18 ∧ ivN_14 19 = iv 19 ∧ iaN_14 11 = ia 11 ∧ iaN_14 12 = ia 12 := hp
  obtain ⟨hv10_14, hv14_14, hv15_14, hv16_14, hv17_14, hv18_14, hv19_14, ha11_14, ha12_14⟩ := hp
  have hI : wI E AR sR H locs (mW E ad kp (some r_14) (va_up iv 30 (nI ((GL K n st).length))) (va_up ia 29 (wrL (ia 29) 0 (GL K n st))) K R mv ++ (mW E (va_up adN_14 45 r_14) kpN_14 trN_14 ivN_14 iaN_14 K RN_14 mvN_14)) := hI
  generalize hadb_14 : va_up adN_14 45 r_14 = adb_14 at hI
  have e_14 : r_14 = adb_14 45 := by rw [← hadb_14, va_up_s]
  clear hadb_14
  subst e_14
  refine lv_astore_n (lv' := [(2, .ref (adb_14 45)), (1, .int (nI (mostV (GL K n st) (2 ^ n - 1)))), (0, .ref (ad 45))]) hxR hbR dX5_hire_17 rfl hl (by decide) rfl (fun ls hl => ?_)
  refine lv_aload_n hxR hbR dX5_hire_18 rfl (lv_at hl 0 rfl) ?_
  refine lv_iconst (v := 0) hxR hbR dX5_hire_19 (by decide) ?_
  refine lv_iconst (v := 0) hxR hbR dX5_hire_20 (by decide) ?_
  refine kVV (n := 2) (As := [.int 0, .int 0]) (rest := []) (fun w => (mW E ad kp (some (adb_14 45)) (va_up iv 30 (nI ((GL K n st).length))) (va_up ia 29 (wrL (ia 29) 0 (GL K n st))) K R mv) ++ w) hxR hbR hmlR hts hown hK hA hl.1 (isCtx.pre _) hI (c5_addOne l E adb_14 kpN_14 trN_14 ivN_14 iaN_14 K RN_14 mvN_14 n 0 0 (Eq.trans hv10_14 hn) (by first | omega | with_reducible assumption)) (lw_V q1715 q1717 qs46 q86 q1718) ⟨rfl, by decide +kernel⟩ 16 5 rfl rfl mW_o rfl (Nat.le_of_ble_eq_true rfl) (Nat.le_of_ble_eq_true rfl) ⟨Nat.le_of_ble_eq_true rfl, Nat.le_of_ble_eq_true rfl⟩ (Nat.le_of_ble_eq_true rfl) dX5_hire_21 (fun u H locs hp hI hz => ?_)
  have hI : wI E AR sR H locs (mW E ad kp (some (adb_14 45)) (va_up iv 30 (nI ((GL K n st).length))) (va_up ia 29 (wrL (ia 29) 0 (GL K n st))) K R mv ++ (mW E adb_14 kpN_14 trN_14 (va_up ivN_14 10 (nI (n + 1))) (va_up (va_up iaN_14 11 (va_up (iaN_14 11) n 0)) 12 (va_up (iaN_14 12) n 0)) (newK K n n) RN_14 mvN_14)) := hI
  refine lv_aload_n hxR hbR dX5_hire_24 rfl (lv_at hl 0 rfl) ?_
  refine kVV (n := 0) (As := []) (rest := []) (fun w => (mW E ad kp (some (adb_14 45)) (va_up iv 30 (nI ((GL K n st).length))) (va_up ia 29 (wrL (ia 29) 0 (GL K n st))) K R mv) ++ w) hxR hbR hmlR hts hown hK hA hl.1 (isCtx.pre _) hI (c5_listAll l E adb_14 kpN_14 trN_14 (va_up ivN_14 10 (nI (n + 1))) (va_up (va_up iaN_14 11 (va_up (iaN_14 11) n 0)) 12 (va_up (iaN_14 12) n 0)) (newK K n n) RN_14 mvN_14 (n + 1) st va_up_s (up_n (by decide) (Eq.trans hv14_14 hst)) (by omega) (by first | omega | with_reducible assumption)) (lw_V q1672 q1674 qs38 q86 q1675) ⟨rfl, by decide +kernel⟩ 16 5 rfl rfl mW_o rfl (Nat.le_of_ble_eq_true rfl) (Nat.le_of_ble_eq_true rfl) ⟨Nat.le_of_ble_eq_true rfl, Nat.le_of_ble_eq_true rfl⟩ (Nat.le_of_ble_eq_true rfl) dX5_hire_25 (fun u H locs hp hI hz => ?_)
  have hI : wI E AR sR H locs (mW E ad kp (some (adb_14 45)) (va_up iv 30 (nI ((GL K n st).length))) (va_up ia 29 (wrL (ia 29) 0 (GL K n st))) K R mv ++ (mW E adb_14 kpN_14 trN_14 (va_up (va_up ivN_14 10 (nI (n + 1))) 30 (nI ((GL (newK K n n) (n + 1) st).length))) (va_up (va_up (va_up iaN_14 11 (va_up (iaN_14 11) n 0)) 12 (va_up (iaN_14 12) n 0)) 29 (wrL ((va_up (va_up iaN_14 11 (va_up (iaN_14 11) n 0)) 12 (va_up (iaN_14 12) n 0)) 29) 0 (GL (newK K n n) (n + 1) st))) (newK K n n) RN_14 mvN_14)) := hI
  have hL2 := isL_GL (f := iaN_14 29) (K := newK K n n) (n := n + 1) (by omega) hs2 hs4
  refine lv_aload_n hxR hbR dX5_hire_28 rfl (lv_at hl 0 rfl) ?_
  refine lv_aload_n hxR hbR dX5_hire_29 rfl (lv_at hl 0 rfl) ?_
  refine kVI (n := 0) (As := []) (rest := [.ref (adb_14 45)]) (fun w => (mW E ad kp (some (adb_14 45)) (va_up iv 30 (nI ((GL K n st).length))) (va_up ia 29 (wrL (ia 29) 0 (GL K n st))) K R mv) ++ w) hxR hbR hmlR hts hown hK hA hl.1 (isCtx.pre _) hI (c5_all l E adb_14 kpN_14 trN_14 (va_up (va_up ivN_14 10 (nI (n + 1))) 30 (nI ((GL (newK K n n) (n + 1) st).length))) (va_up (va_up (va_up iaN_14 11 (va_up (iaN_14 11) n 0)) 12 (va_up (iaN_14 12) n 0)) 29 (wrL ((va_up (va_up iaN_14 11 (va_up (iaN_14 11) n 0)) 12 (va_up (iaN_14 12) n 0)) 29) 0 (GL (newK K n n) (n + 1) st))) (newK K n n) RN_14 mvN_14 (n + 1) (up_n (by decide) va_up_s) (by omega)) (lw_V q1664 q1666 qs36 q86 q1667) ⟨rfl, by decide +kernel⟩ 16 5 rfl rfl mW_o rfl (Nat.le_of_ble_eq_true rfl) (Nat.le_of_ble_eq_true rfl) ⟨Nat.le_of_ble_eq_true rfl, Nat.le_of_ble_eq_true rfl⟩ (Nat.le_of_ble_eq_true rfl) dX5_hire_30 (fun r_30 u H locs hp hI hz => ?_)
  have hI : wI E AR sR H locs (mW E ad kp (some (adb_14 45)) (va_up iv 30 (nI ((GL K n st).length))) (va_up ia 29 (wrL (ia 29) 0 (GL K n st))) K R mv ++ (mW E adb_14 kpN_14 trN_14 (va_up (va_up ivN_14 10 (nI (n + 1))) 30 (nI ((GL (newK K n n) (n + 1) st).length))) (va_up (va_up (va_up iaN_14 11 (va_up (iaN_14 11) n 0)) 12 (va_up (iaN_14 12) n 0)) 29 (wrL ((va_up (va_up iaN_14 11 (va_up (iaN_14 11) n 0)) 12 (va_up (iaN_14 12) n 0)) 29) 0 (GL (newK K n n) (n + 1) st))) (newK K n n) RN_14 mvN_14)) := hI
  have hp : r_30 = nI (2 ^ (n + 1) - 1) := hp
  have hr_30 := hp
  subst hr_30
  refine kVI (n := 1) (As := [.int (nI (2 ^ (n + 1) - 1))]) (rest := []) (fun w => (mW E ad kp (some (adb_14 45)) (va_up iv 30 (nI ((GL K n st).length))) (va_up ia 29 (wrL (ia 29) 0 (GL K n st))) K R mv) ++ w) hxR hbR hmlR hts hown hK hA hl.1 (isCtx.pre _) hI (c5_mostIn l E (2 ^ (n + 1) - 1) adb_14 kpN_14 trN_14 (va_up (va_up ivN_14 10 (nI (n + 1))) 30 (nI ((GL (newK K n n) (n + 1) st).length))) (va_up (va_up (va_up iaN_14 11 (va_up (iaN_14 11) n 0)) 12 (va_up (iaN_14 12) n 0)) 29 (wrL ((va_up (va_up iaN_14 11 (va_up (iaN_14 11) n 0)) 12 (va_up (iaN_14 12) n 0)) 29) 0 (GL (newK K n n) (n + 1) st))) (newK K n n) RN_14 mvN_14 (2 ^ (n + 1) - 1) (GL (newK K n n) (n + 1) st) va_up_s (isL.of va_up_s hL2) rfl (by first | omega | with_reducible assumption)) (lw_V q1694 q1696 qs42 q86 q1697) ⟨rfl, by decide +kernel⟩ 16 5 rfl rfl mW_o rfl (by omega) (Nat.le_of_ble_eq_true rfl) ⟨Nat.le_of_ble_eq_true rfl, Nat.le_of_ble_eq_true rfl⟩ (Nat.le_of_ble_eq_true rfl) dX5_hire_33 (fun r_33 u H locs hp hI hz => ?_)
  have hI : wI E AR sR H locs (mW E ad kp (some (adb_14 45)) (va_up iv 30 (nI ((GL K n st).length))) (va_up ia 29 (wrL (ia 29) 0 (GL K n st))) K R mv ++ (mW E adb_14 kpN_14 trN_14 (va_up (va_up ivN_14 10 (nI (n + 1))) 30 (nI ((GL (newK K n n) (n + 1) st).length))) (va_up (va_up (va_up iaN_14 11 (va_up (iaN_14 11) n 0)) 12 (va_up (iaN_14 12) n 0)) 29 (wrL ((va_up (va_up iaN_14 11 (va_up (iaN_14 11) n 0)) 12 (va_up (iaN_14 12) n 0)) 29) 0 (GL (newK K n n) (n + 1) st))) (newK K n n) RN_14 mvN_14)) := hI
  have hp : r_33 = nI (mostV (GL (newK K n n) (n + 1) st) (2 ^ (n + 1) - 1)) := hp
  have hr_33 := hp
  subst hr_33
  refine lv_iload_n hxR hbR dX5_hire_36 rfl (lv_at hl 1 rfl) ?_
  refine lv_isub hxR hbR dX5_hire_37 ?_
  exact hret (adb_14, kpN_14, trN_14, (va_up (va_up ivN_14 10 (nI (n + 1))) 30 (nI ((GL (newK K n n) (n + 1) st).length))), (va_up (va_up (va_up iaN_14 11 (va_up (iaN_14 11) n 0)) 12 (va_up (iaN_14 12) n 0)) 29 (wrL ((va_up (va_up iaN_14 11 (va_up (iaN_14 11) n 0)) 12 (va_up (iaN_14 12) n 0)) 29) 0 (GL (newK K n n) (n + 1) st))), newK K n n, RN_14, mvN_14) ((nI (mostV (GL (newK K n n) (n + 1) st) (2 ^ (n + 1) - 1))) - (nI (mostV (GL K n st) (2 ^ n - 1)))) _ _ _ _ _ _ dX5_hire_38 hI (by show ((nI (mostV (GL (newK K n n) (n + 1) st) (2 ^ (n + 1) - 1))) - (nI (mostV (GL K n st) (2 ^ n - 1)))) = nI (mostV (GL (newK K n n) (n + 1) st) (2 ^ (n + 1) - 1)) - nI (mostV (GL K n st) (2 ^ n - 1)); rfl) (Nat.le_of_ble_eq_true rfl) (Nat.le_of_ble_eq_true rfl) rfl
