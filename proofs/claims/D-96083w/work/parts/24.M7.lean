theorem mW_sameT {E : En} {ad : Nat → Nat} {kp tr : Option Nat} {iv : Nat → Int32} {ia ia' K K' : Nat → Nat → Int32} {R : Nat → Nat → Int64} {mv : Nat → Int64} (h11 : ∀ j, j < 8 → ia 11 j = ia' 11 j) (h12 : ∀ j, j < 8 → ia 12 j = ia' 12 j) (hoth : ∀ k, k ≠ 11 → k ≠ 12 → ia k = ia' k) (hK : ∀ p, p < 8 → ∀ j, j < 8 → K p j = K' p j) :
    sameW (mW E ad kp tr iv ia K R mv) (mW E ad kp tr iv ia' K' R mv) := ⟨rfl, sameC.i (hK 0 (by decide)), ⟨rfl, sameC.i (hK 1 (by decide)), ⟨rfl, sameC.i (hK 2 (by decide)), ⟨rfl, sameC.i (hK 3 (by decide)), ⟨rfl, sameC.i (hK 4 (by decide)), ⟨rfl, sameC.i (hK 5 (by decide)), ⟨rfl, sameC.i (hK 6 (by decide)), ⟨rfl, sameC.i (hK 7 (by decide)), ⟨rfl, sameC.rf _, ⟨rfl, sameC.rf _, ⟨rfl, sameC.rf _, ⟨rfl, sameC.rf _, ⟨rfl, sameC.rf _, ⟨rfl, sameC.rf _, ⟨rfl, sameC.rf _, ⟨rfl, sameC.rf _, ⟨rfl, sameC.rf _, ⟨rfl, (hoth 0 (by decide) (by decide) ▸ sameC.rf _), ⟨rfl, (hoth 1 (by decide) (by decide) ▸ sameC.rf _), ⟨rfl, (hoth 2 (by decide) (by decide) ▸ sameC.rf _), ⟨rfl, sameC.rf _, ⟨rfl, sameC.rf _, ⟨rfl, (hoth 5 (by decide) (by decide) ▸ sameC.rf _), ⟨rfl, (hoth 6 (by decide) (by decide) ▸ sameC.rf _), ⟨rfl, (hoth 7 (by decide) (by decide) ▸ sameC.rf _), ⟨rfl, (hoth 9 (by decide) (by decide) ▸ sameC.rf _), ⟨rfl, sameC.i h11, ⟨rfl, sameC.i h12, ⟨rfl, sameC.rf _, ⟨rfl, (hoth 27 (by decide) (by decide) ▸ sameC.rf _), ⟨rfl, (hoth 29 (by decide) (by decide) ▸ sameC.rf _), ⟨rfl, (hoth 31 (by decide) (by decide) ▸ sameC.rf _), ⟨rfl, (hoth 32 (by decide) (by decide) ▸ sameC.rf _), ⟨rfl, (hoth 35 (by decide) (by decide) ▸ sameC.rf _), ⟨rfl, (hoth 36 (by decide) (by decide) ▸ sameC.rf _), ⟨rfl, (hoth 39 (by decide) (by decide) ▸ sameC.rf _), ⟨rfl, (hoth 40 (by decide) (by decide) ▸ sameC.rf _), ⟨rfl, (hoth 41 (by decide) (by decide) ▸ sameC.rf _), trivial⟩⟩⟩⟩⟩⟩⟩⟩⟩⟩⟩⟩⟩⟩⟩⟩⟩⟩⟩⟩⟩⟩⟩⟩⟩⟩⟩⟩⟩⟩⟩⟩⟩⟩⟩⟩⟩⟩

theorem rowK_s {Kx Kb : Nat → Nat → Int32} {p : Nat} (h : ∀ z, z < p → ∀ j, j < 8 → Kx z j = Kb z j) : ∀ z, z < p + 1 → ∀ j, j < 8 → va_up Kx p (cp8 (Kb p) (Kx p) 8) z j = Kb z j := by
  intro z hz j hj
  by_cases e : z = p
  · subst e; rw [va_up_s]; exact if_pos hj
  · rw [va_up_n e]; exact h z (by omega) j hj

theorem c5_takeFrom (l : Launch) (E : En) (ad : Nat → Nat) (kp tr : Option Nat) (iv : Nat → Int32) (ia K : Nat → Nat → Int32) (R : Nat → Nat → Int64) (mv : Nat → Int64) (adb : Nat → Nat) (kpb trb : Option Nat) (ivb : Nat → Int32) (iab Kb : Nat → Nat → Int32) (Rb : Nat → Nat → Int64) (mvb : Nat → Int64)   : CtV l E yX5_takeFrom cX5_takeFrom 3 1 0 0 [.ref (ad 45), .ref (adb 45)] (mW E ad kp tr iv ia K R mv ++ (mW E adb kpb trb ivb iab Kb Rb mvb)) (fun (u : Unit) => True) (fun (u : Unit) => mW E ad kp tr (va_up (va_up (va_up (va_up (va_up (va_up (va_up iv 10 (ivb 10)) 14 (ivb 14)) 15 (ivb 15)) 16 (ivb 16)) 17 (ivb 17)) 18 (ivb 18)) 19 (ivb 19)) (va_up (va_up ia 11 (iab 11)) 12 (iab 12)) Kb R mv ++ (mW E adb kpb trb ivb iab Kb Rb mvb)) := by
  refine CtV.of (by decide +kernel) (Nat.le_of_ble_eq_true rfl) ?_
  intro pR eR sR mR aR bR tR cR AR ls QR hxR hbR hmlR hts hown hlk hnm hA hK hI hl hret
  have hl : lv_has ls 3 [(0, .ref (ad 45)), (1, .ref (adb 45))] := hl
  refine lv_aload_n hxR hbR dX5_takeFrom_0 rfl (lv_at hl 0 rfl) ?_
  refine lv_aload_n hxR hbR dX5_takeFrom_1 rfl (lv_at hl 1 rfl) ?_
  refine r_get hxR hbR hts hown hK hI okX5 (ci := 5) rfl (38 + 16) (he_r (Nat.le_of_ble_eq_true rfl) (Nat.le_of_ble_eq_true rfl) mW_o) 10 (by decide) q1488 rfl (v := .int (ivb 10)) (al rfl) dX5_takeFrom_2 ?_
  refine r_put (v := .int (ivb 10)) (ws1 := mW E ad kp tr (va_up iv 10 (ivb 10)) ia K R mv ++ (mW E adb kpb trb ivb iab Kb Rb mvb)) hxR hbR hts hown hK hI okX5 (ci := 5) rfl 16 (he_l mW_o) 10 (by decide) q1488 rfl rfl rfl rfl (Nat.le_of_ble_eq_true rfl) (hw_l (Nat.le_of_ble_eq_true rfl) mW_i10) dX5_takeFrom_5 (fun H locs hI => ?_)
  refine lv_aload_n hxR hbR dX5_takeFrom_8 rfl (lv_at hl 1 rfl) ?_
  refine r_get hxR hbR hts hown hK hI okX5 (ci := 5) rfl (38 + 16) (he_r (Nat.le_of_ble_eq_true rfl) (Nat.le_of_ble_eq_true rfl) mW_o) 11 (by decide) q1489 rfl (v := .ref (adb 11)) rfl dX5_takeFrom_9 ?_
  refine lv_aload_n hxR hbR dX5_takeFrom_12 rfl (lv_at hl 0 rfl) ?_
  refine r_get hxR hbR hts hown hK hI okX5 (ci := 5) rfl 16 (he_l mW_o) 11 (by decide) q1489 rfl (v := .ref (ad 11)) rfl dX5_takeFrom_13 ?_
  refine kSV (n := 2) (As := [.ref (adb 11), .ref (ad 11)]) (rest := []) (fun w => w) hxR hbR hmlR hts hown hK hA hl.1 isCtx.id hI (c5_over l E (mW E ad kp tr (va_up iv 10 (ivb 10)) ia K R mv ++ (mW E adb kpb trb ivb iab Kb Rb mvb)) (adb 11) (ad 11) (38 + 26) 26 (iab 11) (ia 11) (he_r (Nat.le_of_ble_eq_true rfl) (Nat.le_of_ble_eq_true rfl) (mW_g11 rfl)) (he_l (mW_g11 rfl)) (by omega)) (lw_S q1769 q1770 q86 q1771) (by decide +kernel) rfl (Nat.le_of_ble_eq_true rfl) (Nat.le_of_ble_eq_true rfl) ⟨Nat.le_of_ble_eq_true rfl, Nat.le_of_ble_eq_true rfl⟩ (Nat.le_of_ble_eq_true rfl) dX5_takeFrom_16 (fun u H locs hp hI hz => ?_)
  have hI := wI_w (ws' := mW E ad kp tr (va_up iv 10 (ivb 10)) (va_up ia 11 (cp8 (iab 11) (ia 11) 8)) K R mv ++ (mW E adb kpb trb ivb iab Kb Rb mvb)) (hw_l (Nat.le_of_ble_eq_true rfl) mW_a11).symm hI
  refine lv_aload_n hxR hbR dX5_takeFrom_19 rfl (lv_at hl 1 rfl) ?_
  refine r_get hxR hbR hts hown hK hI okX5 (ci := 5) rfl (38 + 16) (he_r (Nat.le_of_ble_eq_true rfl) (Nat.le_of_ble_eq_true rfl) mW_o) 12 (by decide) q1490 rfl (v := .ref (adb 12)) rfl dX5_takeFrom_20 ?_
  refine lv_aload_n hxR hbR dX5_takeFrom_23 rfl (lv_at hl 0 rfl) ?_
  refine r_get hxR hbR hts hown hK hI okX5 (ci := 5) rfl 16 (he_l mW_o) 12 (by decide) q1490 rfl (v := .ref (ad 12)) rfl dX5_takeFrom_24 ?_
  refine kSV (n := 2) (As := [.ref (adb 12), .ref (ad 12)]) (rest := []) (fun w => w) hxR hbR hmlR hts hown hK hA hl.1 isCtx.id hI (c5_over l E (mW E ad kp tr (va_up iv 10 (ivb 10)) (va_up ia 11 (cp8 (iab 11) (ia 11) 8)) K R mv ++ (mW E adb kpb trb ivb iab Kb Rb mvb)) (adb 12) (ad 12) (38 + 27) 27 (iab 12) (ia 12) (he_r (Nat.le_of_ble_eq_true rfl) (Nat.le_of_ble_eq_true rfl) (mW_g12 rfl)) (he_l (mW_g12 (up_n (by decide) rfl))) (by omega)) (lw_S q1769 q1770 q86 q1771) (by decide +kernel) rfl (Nat.le_of_ble_eq_true rfl) (Nat.le_of_ble_eq_true rfl) ⟨Nat.le_of_ble_eq_true rfl, Nat.le_of_ble_eq_true rfl⟩ (Nat.le_of_ble_eq_true rfl) dX5_takeFrom_27 (fun u H locs hp hI hz => ?_)
  have hI := wI_w (ws' := mW E ad kp tr (va_up iv 10 (ivb 10)) (va_up (va_up ia 11 (cp8 (iab 11) (ia 11) 8)) 12 (cp8 (iab 12) (ia 12) 8)) K R mv ++ (mW E adb kpb trb ivb iab Kb Rb mvb)) (hw_l (Nat.le_of_ble_eq_true rfl) mW_a12).symm hI
  refine lv_iconst (v := 0) hxR hbR dX5_takeFrom_30 (by decide) ?_
  refine lv_istore_n (lv' := [(2, .int 0), (0, .ref (ad 45)), (1, .ref (adb 45))]) hxR hbR dX5_takeFrom_31 rfl hl (by decide) rfl (fun ls hl => ?_)
  have lp_32 : ∀ (fu : Nat) (p : Nat) (Kx : Nat → Nat → Int32), (p ≤ 8) → (∀ z, z < p → ∀ j, j < 8 → Kx z j = Kb z j) → 8 - p < fu → ∀ (H : Heap) (locs : List Loc), wI E AR sR H locs (mW E ad kp tr (va_up iv 10 (ivb 10)) (va_up (va_up ia 11 (cp8 (iab 11) (ia 11) 8)) 12 (cp8 (iab 12) (ia 12) 8)) Kx R mv ++ (mW E adb kpb trb ivb iab Kb Rb mvb)) → ∀ ls : Array Slot, lv_has ls 3 [(0, .ref (ad 45)), (1, .ref (adb 45)), (2, .int (nI p))] → W pR l eR (rmF 1 0 0) sR mR aR bR tR cR H locs 0 0 QR (F0 mR 32 ls []) := by
    intro fu
    induction fu with
    | zero =>
      intro p Kx hp8 hKx hfu
      exact absurd hfu (Nat.not_lt_zero _)
    | succ fu ih_32 =>
      intro p Kx hp8 hKx hfu H locs hI ls hl
      refine lv_iload_n hxR hbR dX5_takeFrom_32 rfl (lv_at hl 2 rfl) ?_
      refine lv_bipush (v := 7) hxR hbR dX5_takeFrom_33 (by decide) ?_
      refine lv_icmp_gt (tgt := 59) hxR hbR dX5_takeFrom_35 (by decide) (fun c_35 => ?_) (fun c_35 => ?_)
      · skip
        have c_35 : 7 < p := (n_lt (a := 7) (b := p) (by omega) (by omega)).mp c_35
        refine lv_aload_n hxR hbR dX5_takeFrom_59 rfl (lv_at hl 0 rfl) ?_
        refine lv_aload_n hxR hbR dX5_takeFrom_60 rfl (lv_at hl 1 rfl) ?_
        refine r_get hxR hbR hts hown hK hI okX5 (ci := 5) rfl (38 + 16) (he_r (Nat.le_of_ble_eq_true rfl) (Nat.le_of_ble_eq_true rfl) mW_o) 14 (by decide) q1492 rfl (v := .int (ivb 14)) (al rfl) dX5_takeFrom_61 ?_
        refine r_put (v := .int (ivb 14)) (ws1 := mW E ad kp tr (va_up (va_up iv 10 (ivb 10)) 14 (ivb 14)) (va_up (va_up ia 11 (cp8 (iab 11) (ia 11) 8)) 12 (cp8 (iab 12) (ia 12) 8)) Kx R mv ++ (mW E adb kpb trb ivb iab Kb Rb mvb)) hxR hbR hts hown hK hI okX5 (ci := 5) rfl 16 (he_l mW_o) 14 (by decide) q1492 rfl rfl rfl rfl (Nat.le_of_ble_eq_true rfl) (hw_l (Nat.le_of_ble_eq_true rfl) mW_i14) dX5_takeFrom_64 (fun H locs hI => ?_)
        refine lv_aload_n hxR hbR dX5_takeFrom_67 rfl (lv_at hl 0 rfl) ?_
        refine lv_aload_n hxR hbR dX5_takeFrom_68 rfl (lv_at hl 1 rfl) ?_
        refine r_get hxR hbR hts hown hK hI okX5 (ci := 5) rfl (38 + 16) (he_r (Nat.le_of_ble_eq_true rfl) (Nat.le_of_ble_eq_true rfl) mW_o) 15 (by decide) q1493 rfl (v := .int (ivb 15)) (al rfl) dX5_takeFrom_69 ?_
        refine r_put (v := .int (ivb 15)) (ws1 := mW E ad kp tr (va_up (va_up (va_up iv 10 (ivb 10)) 14 (ivb 14)) 15 (ivb 15)) (va_up (va_up ia 11 (cp8 (iab 11) (ia 11) 8)) 12 (cp8 (iab 12) (ia 12) 8)) Kx R mv ++ (mW E adb kpb trb ivb iab Kb Rb mvb)) hxR hbR hts hown hK hI okX5 (ci := 5) rfl 16 (he_l mW_o) 15 (by decide) q1493 rfl rfl rfl rfl (Nat.le_of_ble_eq_true rfl) (hw_l (Nat.le_of_ble_eq_true rfl) mW_i15) dX5_takeFrom_72 (fun H locs hI => ?_)
        refine lv_aload_n hxR hbR dX5_takeFrom_75 rfl (lv_at hl 0 rfl) ?_
        refine lv_aload_n hxR hbR dX5_takeFrom_76 rfl (lv_at hl 1 rfl) ?_
        refine r_get hxR hbR hts hown hK hI okX5 (ci := 5) rfl (38 + 16) (he_r (Nat.le_of_ble_eq_true rfl) (Nat.le_of_ble_eq_true rfl) mW_o) 16 (by decide) q1494 rfl (v := .int (ivb 16)) (al rfl) dX5_takeFrom_77 ?_
        refine r_put (v := .int (ivb 16)) (ws1 := mW E ad kp tr (va_up (va_up (va_up (va_up iv 10 (ivb 10)) 14 (ivb 14)) 15 (ivb 15)) 16 (ivb 16)) (va_up (va_up ia 11 (cp8 (iab 11) (ia 11) 8)) 12 (cp8 (iab 12) (ia 12) 8)) Kx R mv ++ (mW E adb kpb trb ivb iab Kb Rb mvb)) hxR hbR hts hown hK hI okX5 (ci := 5) rfl 16 (he_l mW_o) 16 (by decide) q1494 rfl rfl rfl rfl (Nat.le_of_ble_eq_true rfl) (hw_l (Nat.le_of_ble_eq_true rfl) mW_i16) dX5_takeFrom_80 (fun H locs hI => ?_)
        refine lv_aload_n hxR hbR dX5_takeFrom_83 rfl (lv_at hl 0 rfl) ?_
        refine lv_aload_n hxR hbR dX5_takeFrom_84 rfl (lv_at hl 1 rfl) ?_
        refine r_get hxR hbR hts hown hK hI okX5 (ci := 5) rfl (38 + 16) (he_r (Nat.le_of_ble_eq_true rfl) (Nat.le_of_ble_eq_true rfl) mW_o) 17 (by decide) q1495 rfl (v := .int (ivb 17)) (al rfl) dX5_takeFrom_85 ?_
        refine r_put (v := .int (ivb 17)) (ws1 := mW E ad kp tr (va_up (va_up (va_up (va_up (va_up iv 10 (ivb 10)) 14 (ivb 14)) 15 (ivb 15)) 16 (ivb 16)) 17 (ivb 17)) (va_up (va_up ia 11 (cp8 (iab 11) (ia 11) 8)) 12 (cp8 (iab 12) (ia 12) 8)) Kx R mv ++ (mW E adb kpb trb ivb iab Kb Rb mvb)) hxR hbR hts hown hK hI okX5 (ci := 5) rfl 16 (he_l mW_o) 17 (by decide) q1495 rfl rfl rfl rfl (Nat.le_of_ble_eq_true rfl) (hw_l (Nat.le_of_ble_eq_true rfl) mW_i17) dX5_takeFrom_88 (fun H locs hI => ?_)
        refine lv_aload_n hxR hbR dX5_takeFrom_91 rfl (lv_at hl 0 rfl) ?_
        refine lv_aload_n hxR hbR dX5_takeFrom_92 rfl (lv_at hl 1 rfl) ?_
        refine r_get hxR hbR hts hown hK hI okX5 (ci := 5) rfl (38 + 16) (he_r (Nat.le_of_ble_eq_true rfl) (Nat.le_of_ble_eq_true rfl) mW_o) 18 (by decide) q1496 rfl (v := .int (ivb 18)) (al rfl) dX5_takeFrom_93 ?_
        refine r_put (v := .int (ivb 18)) (ws1 := mW E ad kp tr (va_up (va_up (va_up (va_up (va_up (va_up iv 10 (ivb 10)) 14 (ivb 14)) 15 (ivb 15)) 16 (ivb 16)) 17 (ivb 17)) 18 (ivb 18)) (va_up (va_up ia 11 (cp8 (iab 11) (ia 11) 8)) 12 (cp8 (iab 12) (ia 12) 8)) Kx R mv ++ (mW E adb kpb trb ivb iab Kb Rb mvb)) hxR hbR hts hown hK hI okX5 (ci := 5) rfl 16 (he_l mW_o) 18 (by decide) q1496 rfl rfl rfl rfl (Nat.le_of_ble_eq_true rfl) (hw_l (Nat.le_of_ble_eq_true rfl) mW_i18) dX5_takeFrom_96 (fun H locs hI => ?_)
        refine lv_aload_n hxR hbR dX5_takeFrom_99 rfl (lv_at hl 0 rfl) ?_
        refine lv_aload_n hxR hbR dX5_takeFrom_100 rfl (lv_at hl 1 rfl) ?_
        refine r_get hxR hbR hts hown hK hI okX5 (ci := 5) rfl (38 + 16) (he_r (Nat.le_of_ble_eq_true rfl) (Nat.le_of_ble_eq_true rfl) mW_o) 19 (by decide) q1497 rfl (v := .int (ivb 19)) (al rfl) dX5_takeFrom_101 ?_
        refine r_put (v := .int (ivb 19)) (ws1 := mW E ad kp tr (va_up (va_up (va_up (va_up (va_up (va_up (va_up iv 10 (ivb 10)) 14 (ivb 14)) 15 (ivb 15)) 16 (ivb 16)) 17 (ivb 17)) 18 (ivb 18)) 19 (ivb 19)) (va_up (va_up ia 11 (cp8 (iab 11) (ia 11) 8)) 12 (cp8 (iab 12) (ia 12) 8)) Kx R mv ++ (mW E adb kpb trb ivb iab Kb Rb mvb)) hxR hbR hts hown hK hI okX5 (ci := 5) rfl 16 (he_l mW_o) 19 (by decide) q1497 rfl rfl rfl rfl (Nat.le_of_ble_eq_true rfl) (hw_l (Nat.le_of_ble_eq_true rfl) mW_i19) dX5_takeFrom_104 (fun H locs hI => ?_)
        have hI : wI E AR sR H locs (mW E ad kp tr (va_up (va_up (va_up (va_up (va_up (va_up (va_up iv 10 (ivb 10)) 14 (ivb 14)) 15 (ivb 15)) 16 (ivb 16)) 17 (ivb 17)) 18 (ivb 18)) 19 (ivb 19)) (va_up (va_up ia 11 (iab 11)) 12 (iab 12)) Kb R mv ++ (mW E adb kpb trb ivb iab Kb Rb mvb)) := by exact wI_same (sameW.app (mW_sameT (fun j hj => if_pos hj) (fun j hj => if_pos hj) (fun k h1 h2 => by rw [va_up_n h2, va_up_n h1, va_up_n h2, va_up_n h1]) (fun z hz j hj => hKx z (by omega) j hj)) (sameW.rf _)) hI
        exact hret () _ _ _ _ _ _ dX5_takeFrom_107 hI (by show True; trivial) (Nat.le_of_ble_eq_true rfl) (Nat.le_of_ble_eq_true rfl)
      · skip
        have c_35 : p ≤ 7 := Nat.le_of_not_lt (fun zz => c_35 ((n_lt (a := 7) (b := p) (by omega) (by omega)).mpr zz))
        refine lv_aload_n hxR hbR dX5_takeFrom_38 rfl (lv_at hl 1 rfl) ?_
        refine r_get hxR hbR hts hown hK hI okX5 (ci := 5) rfl (38 + 16) (he_r (Nat.le_of_ble_eq_true rfl) (Nat.le_of_ble_eq_true rfl) mW_o) 13 (by decide) q1491 rfl (v := .ref (adb 13)) rfl dX5_takeFrom_39 ?_
        refine lv_iload_n hxR hbR dX5_takeFrom_42 rfl (lv_at hl 2 rfl) ?_
        refine r_aald hxR hbR hK hI (38 + 28) 2 (r := adb (50 + p)) rfl rfl (n := 8) (J := p) (he_r (Nat.le_of_ble_eq_true rfl) (Nat.le_of_ble_eq_true rfl) rfl) (by omega) (by decide) rfl dX5_takeFrom_43 ?_
        refine lv_aload_n hxR hbR dX5_takeFrom_44 rfl (lv_at hl 0 rfl) ?_
        refine r_get hxR hbR hts hown hK hI okX5 (ci := 5) rfl 16 (he_l mW_o) 13 (by decide) q1491 rfl (v := .ref (ad 13)) rfl dX5_takeFrom_45 ?_
        refine lv_iload_n hxR hbR dX5_takeFrom_48 rfl (lv_at hl 2 rfl) ?_
        refine r_aald hxR hbR hK hI 28 2 (r := ad (50 + p)) rfl rfl (n := 8) (J := p) (he_l rfl) (by omega) (by decide) rfl dX5_takeFrom_49 ?_
        refine kSV (n := 2) (As := [.ref (adb (50 + p)), .ref (ad (50 + p))]) (rest := []) (fun w => w) hxR hbR hmlR hts hown hK hA hl.1 isCtx.id hI (c5_over l E (mW E ad kp tr (va_up iv 10 (ivb 10)) (va_up (va_up ia 11 (cp8 (iab 11) (ia 11) 8)) 12 (cp8 (iab 12) (ia 12) 8)) Kx R mv ++ (mW E adb kpb trb ivb iab Kb Rb mvb)) (adb (50 + p)) (ad (50 + p)) (38 + p) p (Kb p) (Kx p) (he_r (Nat.le_of_ble_eq_true rfl) (Nat.le_of_ble_eq_true rfl) (mW_K p (by omega))) (he_l (mW_K p (by omega))) (by omega)) (lw_S q1769 q1770 q86 q1771) (by decide +kernel) rfl (Nat.le_of_ble_eq_true rfl) (Nat.le_of_ble_eq_true rfl) ⟨Nat.le_of_ble_eq_true rfl, Nat.le_of_ble_eq_true rfl⟩ (Nat.le_of_ble_eq_true rfl) dX5_takeFrom_50 (fun u H locs hp hI hz => ?_)
        have hI := wI_w (ws' := mW E ad kp tr (va_up iv 10 (ivb 10)) (va_up (va_up ia 11 (cp8 (iab 11) (ia 11) 8)) 12 (cp8 (iab 12) (ia 12) 8)) (va_up Kx p (cp8 (Kb p) (Kx p) 8)) R mv ++ (mW E adb kpb trb ivb iab Kb Rb mvb)) (hw_l (by show p < 38; omega) (mW_Ks p (by omega))).symm hI
        refine lv_iinc (v := nI (p + 1)) (lv' := [(2, .int (nI (p + 1))), (0, .ref (ad 45)), (1, .ref (adb 45))]) hxR hbR dX5_takeFrom_53 hl (k := 2) rfl (show nI p + 1 = nI (p + 1) from nI_add _ 1) (by decide) rfl (fun ls hl => ?_)
        refine lv_goto (tgt := 32) hxR hbR dX5_takeFrom_56 (by decide) ?_
        exact ih_32 (p + 1) (va_up Kx p (cp8 (Kb p) (Kx p) 8)) (by first | omega | with_reducible assumption) (rowK_s hKx) (by omega) _ _ hI _ (lv_sub hl [1, 2, 0] rfl)
  exact lp_32 _ 0 K (by first | omega | with_reducible assumption) (fun z h => absurd h (Nat.not_lt_zero _)) (Nat.lt_succ_self _) _ _ hI _ (lv_sub hl [1, 2, 0] rfl)
