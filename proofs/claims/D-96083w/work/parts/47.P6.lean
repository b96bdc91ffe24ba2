theorem c5_image_s (l : Launch) (E : En) (ad : Nat → Nat) (tr : Option Nat) (iv : Nat → Int32) (ia K : Nat → Nat → Int32) (R : Nat → Nat → Int64) (mv : Nat → Int64) (adb : Nat → Nat) (kpb trb : Option Nat) (ivb : Nat → Int32) (iab Kb : Nat → Nat → Int32) (Rb : Nat → Nat → Int64) (mvb : Nat → Int64)   : CtI l E yX5_image cX5_image 1 .int 2 0 0 [.ref (ad 45)] (mW E ad (some (adb 45)) tr iv ia K R mv ++ (mW E adb kpb trb ivb iab Kb Rb mvb)) (fun (r : Int32) (u : (Nat → Nat) × (Option Nat) × (Option Nat) × (Nat → Int32) × (Nat → Nat → Int32) × (Nat → Nat → Int64) × (Nat → Int64)) => r = 1 ∧ u.2.2.2.1 10 = iv 10 ∧ u.2.2.2.1 14 = iv 14 ∧ u.2.2.2.1 15 = iv 15 ∧ u.2.2.2.1 16 = iv 16 ∧ u.2.2.2.1 17 = iv 17 ∧ u.2.2.2.1 18 = iv 18 ∧ u.2.2.2.1 19 = iv 19 ∧ u.2.2.2.2.1 11 = ia 11 ∧ u.2.2.2.2.1 12 = ia 12) (fun (u : (Nat → Nat) × (Option Nat) × (Option Nat) × (Nat → Int32) × (Nat → Nat → Int32) × (Nat → Nat → Int64) × (Nat → Int64)) => mW E ad (some (u.1 45)) tr iv ia K R mv ++ (mW E u.1 u.2.1 u.2.2.1 u.2.2.2.1 u.2.2.2.2.1 K u.2.2.2.2.2.1 u.2.2.2.2.2.2)) := by
  refine CtI.of (by decide +kernel) (Nat.le_of_ble_eq_true rfl) ?_
  intro pR eR sR mR aR bR tR cR AR ls QR hxR hbR hmlR hts hown hlk hnm hA hK hI hl hret
  have hl : lv_has ls 1 [(0, .ref (ad 45))] := hl
  refine lv_aload_n hxR hbR dX5_image_0 rfl (lv_at hl 0 rfl) ?_
  refine r_get hxR hbR hts hown hK hI okX5 (ci := 5) rfl 16 (he_l mW_o) 20 (by decide) q1498 rfl (v := .ref (adb 45)) rfl dX5_image_1 ?_
  refine lv_ifnonnull (tgt := 18) hxR hbR dX5_image_4 (by decide) ?_
  refine lv_aload_n hxR hbR dX5_image_18 rfl (lv_at hl 0 rfl) ?_
  refine r_get hxR hbR hts hown hK hI okX5 (ci := 5) rfl 16 (he_l mW_o) 20 (by decide) q1498 rfl (v := .ref (adb 45)) rfl dX5_image_19 ?_
  refine lv_aload_n hxR hbR dX5_image_22 rfl (lv_at hl 0 rfl) ?_
  have hI := wI_comm hI
  refine kVV (n := 1) (As := [.ref (ad 45)]) (rest := []) (fun w => w) hxR hbR hmlR hts hown hK hA hl.1 isCtx.id hI (c5_takeFrom l E adb kpb trb ivb iab Kb Rb mvb ad (some (adb 45)) tr iv ia K R mv  ) (lw_V q1765 q1767 qs51 q86 q1768) ⟨rfl, by decide +kernel⟩ 16 5 rfl rfl (he_l mW_o) rfl (Nat.le_of_ble_eq_true rfl) (Nat.le_of_ble_eq_true rfl) ⟨Nat.le_of_ble_eq_true rfl, Nat.le_of_ble_eq_true rfl⟩ (Nat.le_of_ble_eq_true rfl) dX5_image_23 (fun u H locs hp hI hz => ?_)
  have hI : wI E AR sR H locs (mW E adb kpb trb (va_up (va_up (va_up (va_up (va_up (va_up (va_up ivb 10 (iv 10)) 14 (iv 14)) 15 (iv 15)) 16 (iv 16)) 17 (iv 17)) 18 (iv 18)) 19 (iv 19)) (va_up (va_up iab 11 (ia 11)) 12 (ia 12)) K Rb mvb ++ (mW E ad (some (adb 45)) tr iv ia K R mv)) := hI
  have hI := wI_comm hI
  refine lv_iconst (v := 1) hxR hbR dX5_image_26 (by decide) ?_
  have hI : wI E AR sR H locs (mW E ad (some (adb 45)) tr iv ia K R mv ++ (mW E adb kpb trb (va_up (va_up (va_up (va_up (va_up (va_up (va_up ivb 10 (iv 10)) 14 (iv 14)) 15 (iv 15)) 16 (iv 16)) 17 (iv 17)) 18 (iv 18)) 19 (iv 19)) (va_up (va_up iab 11 (ia 11)) 12 (ia 12)) K Rb mvb)) := by exact hI
  exact hret (adb, kpb, trb, (va_up (va_up (va_up (va_up (va_up (va_up (va_up ivb 10 (iv 10)) 14 (iv 14)) 15 (iv 15)) 16 (iv 16)) 17 (iv 17)) 18 (iv 18)) 19 (iv 19)), (va_up (va_up iab 11 (ia 11)) 12 (ia 12)), Rb, mvb) 1 _ _ _ _ _ _ dX5_image_27 hI (by show 1 = 1 ∧ (va_up (va_up (va_up (va_up (va_up (va_up (va_up ivb 10 (iv 10)) 14 (iv 14)) 15 (iv 15)) 16 (iv 16)) 17 (iv 17)) 18 (iv 18)) 19 (iv 19)) 10 = iv 10 ∧ (va_up (va_up (va_up (va_up (va_up (va_up (va_up ivb 10 (iv 10)) 14 (iv 14)) 15 (iv 15)) 16 (iv 16)) 17 (iv 17)) 18 (iv 18)) 19 (iv 19)) 14 = iv 14 ∧ (va_up (va_up (va_up (va_up (va_up (va_up (va_up ivb 10 (iv 10)) 14 (iv 14)) 15 (iv 15)) 16 (iv 16)) 17 (iv 17)) 18 (iv 18)) 19 (iv 19)) 15 = iv 15 ∧ (va_up (va_up (va_up (va_up (va_up (va_up (va_up ivb 10 (iv 10)) 14 (iv 14)) 15 (iv 15)) 16 (iv 16)) 17 (iv 17)) 18 (iv 18)) 19 (iv 19)) 16 = iv 16 ∧ (va_up (va_up (va_up (va_up (va_up (va_up (va_up ivb 10 (iv 10)) 14 (iv 14)) 15 (iv 15)) 16 (iv 16)) 17 (iv 17)) 18 (iv 18)) 19 (iv 19)) 17 = iv 17 ∧ (va_up (va_up (va_up (va_up (va_up (va_up (va_up ivb 10 (iv 10)) 14 (iv 14)) 15 (iv 15)) 16 (iv 16)) 17 (iv 17)) 18 (iv 18)) 19 (iv 19)) 18 = iv 18 ∧ (va_up (va_up (va_up (va_up (va_up (va_up (va_up ivb 10 (iv 10)) 14 (iv 14)) 15 (iv 15)) 16 (iv 16)) 17 (iv 17)) 18 (iv 18)) 19 (iv 19)) 19 = iv 19 ∧ (va_up (va_up iab 11 (ia 11)) 12 (ia 12)) 11 = ia 11 ∧ (va_up (va_up iab 11 (ia 11)) 12 (ia 12)) 12 = ia 12; exact ⟨rfl, rfl, rfl, rfl, rfl, rfl, rfl, rfl, rfl, rfl⟩) (Nat.le_of_ble_eq_true rfl) (Nat.le_of_ble_eq_true rfl) rfl

theorem c5_image_n (l : Launch) (E : En) (ad : Nat → Nat) (tr : Option Nat) (iv : Nat → Int32) (ia K : Nat → Nat → Int32) (R : Nat → Nat → Int64) (mv : Nat → Int64)   : CtI l E yX5_image cX5_image 1 .int 2 38 1946 [.ref (ad 45)] (mW E ad none tr iv ia K R mv) (fun (r : Int32) (u : (Nat → Nat) × (Option Nat) × (Option Nat) × (Nat → Int32) × (Nat → Nat → Int32) × (Nat → Nat → Int64) × (Nat → Int64)) => r = 1 ∧ u.2.2.2.1 10 = iv 10 ∧ u.2.2.2.1 14 = iv 14 ∧ u.2.2.2.1 15 = iv 15 ∧ u.2.2.2.1 16 = iv 16 ∧ u.2.2.2.1 17 = iv 17 ∧ u.2.2.2.1 18 = iv 18 ∧ u.2.2.2.1 19 = iv 19 ∧ u.2.2.2.2.1 11 = ia 11 ∧ u.2.2.2.2.1 12 = ia 12) (fun (u : (Nat → Nat) × (Option Nat) × (Option Nat) × (Nat → Int32) × (Nat → Nat → Int32) × (Nat → Nat → Int64) × (Nat → Int64)) => mW E ad (some (u.1 45)) tr iv ia K R mv ++ (mW E u.1 u.2.1 u.2.2.1 u.2.2.2.1 u.2.2.2.2.1 K u.2.2.2.2.2.1 u.2.2.2.2.2.2)) := by
  refine CtI.of (by decide +kernel) (Nat.le_of_ble_eq_true rfl) ?_
  intro pR eR sR mR aR bR tR cR AR ls QR hxR hbR hmlR hts hown hlk hnm hA hK hI hl hret
  have hl : lv_has ls 1 [(0, .ref (ad 45))] := hl
  refine lv_aload_n hxR hbR dX5_image_0 rfl (lv_at hl 0 rfl) ?_
  refine r_get hxR hbR hts hown hK hI okX5 (ci := 5) rfl 16 mW_o 20 (by decide) q1498 rfl (v := .null) rfl dX5_image_1 ?_
  refine lv_ifnonnullN hxR hbR dX5_image_4 ?_
  refine lv_aload_n hxR hbR dX5_image_7 rfl (lv_at hl 0 rfl) ?_
  refine r_new (fs := Mdef) hxR hbR hts hown hA hK hI okX5 (ci := 5) rfl q1763 q1469 q86 (by decide +kernel) (Nat.le_of_ble_eq_true rfl) (Nat.le_of_ble_eq_true rfl) dX5_image_8 (fun q0 H hI => ?_)
  have hI : wI E AR sR H _ (mW E ad none tr iv ia K R mv ++ ([(q0, .inr (5, Mdef))])) := hI
  refine lv_dup hxR hbR dX5_image_11 rfl ?_
  refine kIV (n := 0) (As := []) (rest := [.ref q0, .ref (ad 45)]) (fun w => (mW E ad none tr iv ia K R mv) ++ w) hxR hbR hmlR hts hown hK hA hl.1 (isCtx.pre _) hI (c5_init l E q0) q1472 q86 q1764 q1471 rfl (by decide +kernel) rfl (Nat.le_of_ble_eq_true rfl) (Nat.le_of_ble_eq_true rfl) ⟨Nat.le_of_ble_eq_true rfl, Nat.le_of_ble_eq_true rfl⟩ (Nat.le_of_ble_eq_true rfl) dX5_image_12 (fun adb H locs hp hI9 hz => ?_)
  have hp : adb 45 = q0 := hp
  subst hp
  have hI : wI E AR sR H locs (mW E ad none tr iv ia K R mv ++ (mW E adb none none (va_up (va_up (fun _ => 0) 14 3) 19 1) (fun _ _ => 0) (fun _ _ => 0) (fun _ _ => 0) (fun _ => 0))) := hI9
  refine r_put (v := .ref (adb 45)) (ws1 := mW E ad (some (adb 45)) tr iv ia K R mv ++ (mW E adb none none (va_up (va_up (fun _ => 0) 14 3) 19 1) (fun _ _ => 0) (fun _ _ => 0) (fun _ _ => 0) (fun _ => 0))) hxR hbR hts hown hK hI okX5 (ci := 5) rfl 16 (he_l mW_o) 20 (by decide) q1498 rfl rfl rfl rfl (Nat.le_of_ble_eq_true rfl) (hw_l (Nat.le_of_ble_eq_true rfl) mW_kp) dX5_image_15 (fun H locs hI => ?_)
  refine lv_aload_n hxR hbR dX5_image_18 rfl (lv_at hl 0 rfl) ?_
  refine r_get hxR hbR hts hown hK hI okX5 (ci := 5) rfl 16 (he_l mW_o) 20 (by decide) q1498 rfl (v := .ref (adb 45)) rfl dX5_image_19 ?_
  refine lv_aload_n hxR hbR dX5_image_22 rfl (lv_at hl 0 rfl) ?_
  have hI := wI_comm hI
  refine kVV (n := 1) (As := [.ref (ad 45)]) (rest := []) (fun w => w) hxR hbR hmlR hts hown hK hA hl.1 isCtx.id hI (c5_takeFrom l E adb none none (va_up (va_up (fun _ => 0) 14 3) 19 1) (fun _ _ => 0) (fun _ _ => 0) (fun _ _ => 0) (fun _ => 0) ad (some (adb 45)) tr iv ia K R mv  ) (lw_V q1765 q1767 qs51 q86 q1768) ⟨rfl, by decide +kernel⟩ 16 5 rfl rfl (he_l mW_o) rfl (Nat.le_of_ble_eq_true rfl) (Nat.le_of_ble_eq_true rfl) ⟨Nat.le_of_ble_eq_true rfl, Nat.le_of_ble_eq_true rfl⟩ (Nat.le_of_ble_eq_true rfl) dX5_image_23 (fun u H locs hp hI hz => ?_)
  have hI : wI E AR sR H locs (mW E adb none none (va_up (va_up (va_up (va_up (va_up (va_up (va_up (va_up (va_up (fun _ => 0) 14 3) 19 1) 10 (iv 10)) 14 (iv 14)) 15 (iv 15)) 16 (iv 16)) 17 (iv 17)) 18 (iv 18)) 19 (iv 19)) (va_up (va_up (fun _ _ => 0) 11 (ia 11)) 12 (ia 12)) K (fun _ _ => 0) (fun _ => 0) ++ (mW E ad (some (adb 45)) tr iv ia K R mv)) := hI
  have hI := wI_comm hI
  refine lv_iconst (v := 1) hxR hbR dX5_image_26 (by decide) ?_
  have hI : wI E AR sR H locs (mW E ad (some (adb 45)) tr iv ia K R mv ++ (mW E adb none none (va_up (va_up (va_up (va_up (va_up (va_up (va_up (va_up (va_up (fun _ => 0) 14 3) 19 1) 10 (iv 10)) 14 (iv 14)) 15 (iv 15)) 16 (iv 16)) 17 (iv 17)) 18 (iv 18)) 19 (iv 19)) (va_up (va_up (fun _ _ => 0) 11 (ia 11)) 12 (ia 12)) K (fun _ _ => 0) (fun _ => 0))) := by exact hI
  exact hret (adb, none, none, (va_up (va_up (va_up (va_up (va_up (va_up (va_up (va_up (va_up (fun _ => 0) 14 3) 19 1) 10 (iv 10)) 14 (iv 14)) 15 (iv 15)) 16 (iv 16)) 17 (iv 17)) 18 (iv 18)) 19 (iv 19)), (va_up (va_up (fun _ _ => 0) 11 (ia 11)) 12 (ia 12)), (fun _ _ => 0), (fun _ => 0)) 1 _ _ _ _ _ _ dX5_image_27 hI (by show 1 = 1 ∧ (va_up (va_up (va_up (va_up (va_up (va_up (va_up (va_up (va_up (fun _ => 0) 14 3) 19 1) 10 (iv 10)) 14 (iv 14)) 15 (iv 15)) 16 (iv 16)) 17 (iv 17)) 18 (iv 18)) 19 (iv 19)) 10 = iv 10 ∧ (va_up (va_up (va_up (va_up (va_up (va_up (va_up (va_up (va_up (fun _ => 0) 14 3) 19 1) 10 (iv 10)) 14 (iv 14)) 15 (iv 15)) 16 (iv 16)) 17 (iv 17)) 18 (iv 18)) 19 (iv 19)) 14 = iv 14 ∧ (va_up (va_up (va_up (va_up (va_up (va_up (va_up (va_up (va_up (fun _ => 0) 14 3) 19 1) 10 (iv 10)) 14 (iv 14)) 15 (iv 15)) 16 (iv 16)) 17 (iv 17)) 18 (iv 18)) 19 (iv 19)) 15 = iv 15 ∧ (va_up (va_up (va_up (va_up (va_up (va_up (va_up (va_up (va_up (fun _ => 0) 14 3) 19 1) 10 (iv 10)) 14 (iv 14)) 15 (iv 15)) 16 (iv 16)) 17 (iv 17)) 18 (iv 18)) 19 (iv 19)) 16 = iv 16 ∧ (va_up (va_up (va_up (va_up (va_up (va_up (va_up (va_up (va_up (fun _ => 0) 14 3) 19 1) 10 (iv 10)) 14 (iv 14)) 15 (iv 15)) 16 (iv 16)) 17 (iv 17)) 18 (iv 18)) 19 (iv 19)) 17 = iv 17 ∧ (va_up (va_up (va_up (va_up (va_up (va_up (va_up (va_up (va_up (fun _ => 0) 14 3) 19 1) 10 (iv 10)) 14 (iv 14)) 15 (iv 15)) 16 (iv 16)) 17 (iv 17)) 18 (iv 18)) 19 (iv 19)) 18 = iv 18 ∧ (va_up (va_up (va_up (va_up (va_up (va_up (va_up (va_up (va_up (fun _ => 0) 14 3) 19 1) 10 (iv 10)) 14 (iv 14)) 15 (iv 15)) 16 (iv 16)) 17 (iv 17)) 18 (iv 18)) 19 (iv 19)) 19 = iv 19 ∧ (va_up (va_up (fun _ _ => 0) 11 (ia 11)) 12 (ia 12)) 11 = ia 11 ∧ (va_up (va_up (fun _ _ => 0) 11 (ia 11)) 12 (ia 12)) 12 = ia 12; exact ⟨rfl, rfl, rfl, rfl, rfl, rfl, rfl, rfl, rfl, rfl⟩) (Nat.le_of_ble_eq_true rfl) (Nat.le_of_ble_eq_true rfl) rfl

theorem c5_back_n (l : Launch) (E : En) (ad : Nat → Nat) (tr : Option Nat) (iv : Nat → Int32) (ia K : Nat → Nat → Int32) (R : Nat → Nat → Int64) (mv : Nat → Int64)   : CtI l E yX5_back cX5_back 1 .int 2 0 0 [.ref (ad 45)] (mW E ad none tr iv ia K R mv) (fun (r : Int32) (u : Unit) => r = -5) (fun (u : Unit) => mW E ad none tr iv (va_up ia 9 (va_up (ia 9) 5 (ia 9 5 + 1))) K R mv) := by
  refine CtI.of (by decide +kernel) (Nat.le_of_ble_eq_true rfl) ?_
  intro pR eR sR mR aR bR tR cR AR ls QR hxR hbR hmlR hts hown hlk hnm hA hK hI hl hret
  have hl : lv_has ls 1 [(0, .ref (ad 45))] := hl
  refine lv_aload_n hxR hbR dX5_back_0 rfl (lv_at hl 0 rfl) ?_
  refine r_get hxR hbR hts hown hK hI okX5 (ci := 5) rfl 16 mW_o 20 (by decide) q1498 rfl (v := .null) rfl dX5_back_1 ?_
  refine lv_ifnonnullN hxR hbR dX5_back_4 ?_
  refine lv_aload_n hxR hbR dX5_back_7 rfl (lv_at hl 0 rfl) ?_
  refine lv_bipush (v := (-5)) hxR hbR dX5_back_8 (by decide) ?_
  refine kVI (n := 1) (As := [.int (-5)]) (rest := []) (fun w => w) hxR hbR hmlR hts hown hK hA hl.1 isCtx.id hI (c5_refuse l E ad none tr iv ia K R mv (-5) 5 (by decide) (by decide)) (lw_V q1624 q1626 qs34 q86 q1627) ⟨rfl, by decide +kernel⟩ 16 5 rfl rfl mW_o rfl (Nat.le_of_ble_eq_true rfl) (Nat.le_of_ble_eq_true rfl) ⟨Nat.le_of_ble_eq_true rfl, Nat.le_of_ble_eq_true rfl⟩ (Nat.le_of_ble_eq_true rfl) dX5_back_10 (fun r_10 u H locs hp hI hz => ?_)
  have hI : wI E AR sR H locs (mW E ad none tr iv (va_up ia 9 (va_up (ia 9) 5 (ia 9 5 + 1))) K R mv) := hI
  have hp : r_10 = (-5) := hp
  have hr_10 := hp
  subst hr_10
  exact hret () (-5) _ _ _ _ _ _ dX5_back_13 hI (by show (-5) = -5; rfl) (Nat.le_of_ble_eq_true rfl) (Nat.le_of_ble_eq_true rfl) rfl

theorem c5_back_s (l : Launch) (E : En) (ad : Nat → Nat) (tr : Option Nat) (iv : Nat → Int32) (ia K : Nat → Nat → Int32) (R : Nat → Nat → Int64) (mv : Nat → Int64) (adb : Nat → Nat) (kpb trb : Option Nat) (ivb : Nat → Int32) (iab Kb : Nat → Nat → Int32) (Rb : Nat → Nat → Int64) (mvb : Nat → Int64)   : CtI l E yX5_back cX5_back 1 .int 2 0 0 [.ref (ad 45)] (mW E ad (some (adb 45)) tr iv ia K R mv ++ (mW E adb kpb trb ivb iab Kb Rb mvb)) (fun (r : Int32) (u : Unit) => r = 1) (fun (u : Unit) => mW E ad (some (adb 45)) tr (va_up (va_up (va_up (va_up (va_up (va_up (va_up iv 10 (ivb 10)) 14 (ivb 14)) 15 (ivb 15)) 16 (ivb 16)) 17 (ivb 17)) 18 (ivb 18)) 19 (ivb 19)) (va_up (va_up ia 11 (iab 11)) 12 (iab 12)) Kb R mv ++ (mW E adb kpb trb ivb iab Kb Rb mvb)) := by
  refine CtI.of (by decide +kernel) (Nat.le_of_ble_eq_true rfl) ?_
  intro pR eR sR mR aR bR tR cR AR ls QR hxR hbR hmlR hts hown hlk hnm hA hK hI hl hret
  have hl : lv_has ls 1 [(0, .ref (ad 45))] := hl
  refine lv_aload_n hxR hbR dX5_back_0 rfl (lv_at hl 0 rfl) ?_
  refine r_get hxR hbR hts hown hK hI okX5 (ci := 5) rfl 16 (he_l mW_o) 20 (by decide) q1498 rfl (v := .ref (adb 45)) rfl dX5_back_1 ?_
  refine lv_ifnonnull (tgt := 14) hxR hbR dX5_back_4 (by decide) ?_
  refine lv_aload_n hxR hbR dX5_back_14 rfl (lv_at hl 0 rfl) ?_
  refine lv_aload_n hxR hbR dX5_back_15 rfl (lv_at hl 0 rfl) ?_
  refine r_get hxR hbR hts hown hK hI okX5 (ci := 5) rfl 16 (he_l mW_o) 20 (by decide) q1498 rfl (v := .ref (adb 45)) rfl dX5_back_16 ?_
  refine kVV (n := 1) (As := [.ref (adb 45)]) (rest := []) (fun w => w) hxR hbR hmlR hts hown hK hA hl.1 isCtx.id hI (c5_takeFrom l E ad (some (adb 45)) tr iv ia K R mv adb kpb trb ivb iab Kb Rb mvb  ) (lw_V q1765 q1767 qs51 q86 q1768) ⟨rfl, by decide +kernel⟩ 16 5 rfl rfl (he_l mW_o) rfl (Nat.le_of_ble_eq_true rfl) (Nat.le_of_ble_eq_true rfl) ⟨Nat.le_of_ble_eq_true rfl, Nat.le_of_ble_eq_true rfl⟩ (Nat.le_of_ble_eq_true rfl) dX5_back_19 (fun u H locs hp hI hz => ?_)
  have hI : wI E AR sR H locs (mW E ad (some (adb 45)) tr (va_up (va_up (va_up (va_up (va_up (va_up (va_up iv 10 (ivb 10)) 14 (ivb 14)) 15 (ivb 15)) 16 (ivb 16)) 17 (ivb 17)) 18 (ivb 18)) 19 (ivb 19)) (va_up (va_up ia 11 (iab 11)) 12 (iab 12)) Kb R mv ++ (mW E adb kpb trb ivb iab Kb Rb mvb)) := hI
  refine lv_iconst (v := 1) hxR hbR dX5_back_22 (by decide) ?_
  exact hret () 1 _ _ _ _ _ _ dX5_back_23 hI (by show 1 = 1; rfl) (Nat.le_of_ble_eq_true rfl) (Nat.le_of_ble_eq_true rfl) rfl
