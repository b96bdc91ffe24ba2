theorem c5_fits (l : Launch) (E : En) (ad : Nat → Nat) (kp : Option Nat) (iv : Nat → Int32) (ia K : Nat → Nat → Int32) (R : Nat → Nat → Int64) (mv : Nat → Int64) (ob : Option (Nat → Nat)) (kpb trb : Option Nat) (ivb : Nat → Int32) (iab Kb : Nat → Nat → Int32) (Rb : Nat → Nat → Int64) (mvb : Nat → Int64) (n st : Nat) (x : Int32) (hn : iv 10 = nI n) (hst : iv 14 = nI st) (hn7 : n ≤ 7) (hs2 : 2 ≤ st) (hs4 : st ≤ 4) : CtI l E yX5_fits cX5_fits 2 .int 30 38 1946 [.ref (ad 45), .int x] (mW E ad kp (oT ob) iv ia K R mv ++ (oM E ob kpb trb ivb iab Kb Rb mvb)) (fun (r : Int32) (u : Int32 × Int32 × (Nat → Int32) × (Nat → Int32) × (Nat → Int32) × (Option (Nat → Nat)) × (Option Nat) × (Option Nat) × (Nat → Int32) × (Nat → Nat → Int32) × (Nat → Nat → Int32) × (Nat → Nat → Int64) × (Nat → Int64)) => r = gd (fewC n x) (fitsV K n st x.toNatClampNeg) (fewC n x)) (fun (u : Int32 × Int32 × (Nat → Int32) × (Nat → Int32) × (Nat → Int32) × (Option (Nat → Nat)) × (Option Nat) × (Option Nat) × (Nat → Int32) × (Nat → Nat → Int32) × (Nat → Nat → Int32) × (Nat → Nat → Int64) × (Nat → Int64)) => mW E ad kp (oT u.2.2.2.2.2.1) (va_up (va_up iv 42 u.1) 43 u.2.1) (va_up (va_up (va_up (va_up ia 9 (bumpR (ia 9) (fewC n x))) 39 u.2.2.1) 40 u.2.2.2.1) 41 u.2.2.2.2.1) K R mv ++ (oM E u.2.2.2.2.2.1 u.2.2.2.2.2.2.1 u.2.2.2.2.2.2.2.1 u.2.2.2.2.2.2.2.2.1 u.2.2.2.2.2.2.2.2.2.1 u.2.2.2.2.2.2.2.2.2.2.1 u.2.2.2.2.2.2.2.2.2.2.2.1 u.2.2.2.2.2.2.2.2.2.2.2.2)) := by
  have h28 : 2 ^ n ≤ 2 ^ 7 := Nat.pow_le_pow_right (by decide) hn7
  refine CtI.of (by decide +kernel) (Nat.le_of_ble_eq_true rfl) ?_
  intro pR eR sR mR aR bR tR cR AR ls QR hxR hbR hmlR hts hown hlk hnm hA hK hI hl hret
  have hl : lv_has ls 2 [(0, .ref (ad 45)), (1, .int x)] := hl
  refine lv_aload_n hxR hbR dX5_fits_0 rfl (lv_at hl 0 rfl) ?_
  refine lv_iload_n hxR hbR dX5_fits_1 rfl (lv_at hl 1 rfl) ?_
  refine kVI (n := 1) (As := [.int x]) (rest := []) (fun w => w ++ (oM E ob kpb trb ivb iab Kb Rb mvb)) hxR hbR hmlR hts hown hK hA hl.1 (isCtx.suf _) hI (c5_isSet l E ad kp (oT ob) iv ia K R mv n x hn (by omega)) (lw_V q1862 q1864 qs63 q86 q1865) ⟨rfl, by decide +kernel⟩ 16 5 rfl rfl mW_o rfl (Nat.le_of_ble_eq_true rfl) (Nat.le_of_ble_eq_true rfl) ⟨Nat.le_of_ble_eq_true rfl, Nat.le_of_ble_eq_true rfl⟩ (Nat.le_of_ble_eq_true rfl) dX5_fits_2 (fun r_2 u H locs hp hI hz => ?_)
  have hI : wI E AR sR H locs (mW E ad kp (oT ob) iv ia K R mv ++ (oM E ob kpb trb ivb iab Kb Rb mvb)) := hI
  have hp : r_2 = b2i (decide (0 ≤ x.toInt ∧ x.toInt < ((2 ^ n : Nat) : Int))) := hp
  have hr_2 := hp
  rcases b2i_cases hr_2 with ⟨c_2, rfl⟩ | ⟨c_2, rfl⟩
  · skip
    have c_2 : 0 ≤ x.toInt ∧ x.toInt < ((2 ^ n : Nat) : Int) := of_decide_eq_true c_2
    obtain ⟨P, hP, rfl⟩ := nat_of c_2 (by omega)
    have tP : (nI P).toInt = (P : Int) := nI_toInt (by omega)
    refine lv_if_eq (tgt := 16) hxR hbR dX5_fits_5 (by decide) (fun c => absurd c (by decide)) (fun _ => ?_)
    refine lv_iload_n hxR hbR dX5_fits_8 rfl (lv_at hl 1 rfl) ?_
    refine kSI (n := 1) (As := [.int (nI P)]) (rest := []) (fun w => w ++ (mW E ad kp (oT ob) iv ia K R mv ++ (oM E ob kpb trb ivb iab Kb Rb mvb))) hxR hbR hmlR hts hown hK hA hl.1 (isCtx.suf _) hI (c5_bits l E  P (by omega)) (lw_S q1683 q1684 q86 q1685) (by decide +kernel) rfl (Nat.le_of_ble_eq_true rfl) (Nat.le_of_ble_eq_true rfl) ⟨Nat.le_of_ble_eq_true rfl, Nat.le_of_ble_eq_true rfl⟩ (Nat.le_of_ble_eq_true rfl) dX5_fits_9 (fun r_9 u H locs hp hI hz => ?_)
    have hI : wI E AR sR H locs (mW E ad kp (oT ob) iv ia K R mv ++ (oM E ob kpb trb ivb iab Kb Rb mvb)) := hI
    have hp : r_9 = nI (bitsN P 8) := hp
    have hr_9 := hp
    subst hr_9
    have hbl := bitsN_le P 8
    refine lv_iconst (v := 5) hxR hbR dX5_fits_12 (by decide) ?_
    refine lv_icmp_le (tgt := 23) hxR hbR dX5_fits_13 (by decide) (fun c_13 => ?_) (fun c_13 => ?_)
    · skip
      have c_13 : (bitsN P 8) ≤ 5 := (n_le (a := (bitsN P 8)) (b := 5) (by omega) (by omega)).mp c_13
      refine lv_aload_n hxR hbR dX5_fits_23 rfl (lv_at hl 0 rfl) ?_
      refine lv_iload_n hxR hbR dX5_fits_24 rfl (lv_at hl 1 rfl) ?_
      refine kVV (n := 1) (As := [.int (nI P)]) (rest := []) (fun w => w) hxR hbR hmlR hts hown hK hA hl.1 isCtx.id hI (c5_findWays l E ad kp iv ia K R mv ob kpb trb ivb iab Kb Rb mvb n st P hn hst (by first | omega | with_reducible assumption) (by first | omega | with_reducible assumption) (by first | omega | with_reducible assumption) (by first | omega | with_reducible assumption) (by first | omega | with_reducible assumption)) (lw_V q1989 q1991 qs76 q86 q1992) ⟨rfl, by decide +kernel⟩ 16 5 rfl rfl (he_l mW_o) rfl (Nat.le_of_ble_eq_true rfl) (Nat.le_of_ble_eq_true rfl) ⟨Nat.le_of_ble_eq_true rfl, Nat.le_of_ble_eq_true rfl⟩ (Nat.le_of_ble_eq_true rfl) dX5_fits_25 (fun u H locs hp hI hz => ?_)
      obtain ⟨p39_25, p40_25, p41_25, ad2_25, kp2_25, tr2_25, iv2_25, ia2_25, K2_25, R2_25, mv2_25⟩ := u
      have hI : wI E AR sR H locs (mW E ad kp (some (ad2_25 45)) (va_up (va_up iv 42 (nI ((prL K P n).length))) 43 (nI (wyN K P n st (2 ^ (prL K P n).length)))) (va_up (va_up (va_up ia 39 p39_25) 40 p40_25) 41 p41_25) K R mv ++ (mW E ad2_25 kp2_25 tr2_25 iv2_25 ia2_25 K2_25 R2_25 mv2_25)) := hI
      have hp : ∀ k, k < (prL K P n).length → p39_25 k = nI ((prL K P n).getD k (0, 0)).1 ∧ p40_25 k = nI ((prL K P n).getD k (0, 0)).2 ∧ p41_25 k = nI (wyC K P n st k (2 ^ (prL K P n).length)) := hp
      have hq_25 := hp
      refine lv_aload_n hxR hbR dX5_fits_28 rfl (lv_at hl 0 rfl) ?_
      refine r_get hxR hbR hts hown hK hI okX5 (ci := 5) rfl 16 (he_l mW_o) 43 (by decide) q1521 rfl (v := .int (nI (wyN K P n st (2 ^ (prL K P n).length)))) (al va_up_s) dX5_fits_29 ?_
      have hC : fewC n (nI P) = 0 := by
        clear hret hI
        unfold fewC; rw [nI_clamp (n := P) (by omega)]; exact if_pos ⟨c_2, c_13⟩
      have eia9 : bumpR (ia 9) (fewC n (nI P)) = ia 9 := by rw [hC]; exact bump_0 _
      have hI := wI_w (ws' := mW E ad kp (oT (some ad2_25)) (va_up (va_up iv 42 (nI ((prL K P n).length))) 43 (nI (wyN K P n st (2 ^ (prL K P n).length)))) (va_up (va_up (va_up (va_up ia 9 (bumpR (ia 9) (fewC n (nI P)))) 39 p39_25) 40 p40_25) 41 p41_25) K R mv ++ (oM E (some ad2_25) kp2_25 tr2_25 iv2_25 ia2_25 K2_25 R2_25 mv2_25)) (by rw [eia9, va_up_id (f := ia) (k := 9) (v := ia 9) rfl]; try rfl) hI
      obtain ⟨zg0, hzg0⟩ : ∃ z, z = nI ((prL K P n).length) := ⟨_, rfl⟩
      rw [← hzg0] at hI
      obtain ⟨zg1, hzg1⟩ : ∃ z, z = nI (wyN K P n st (2 ^ (prL K P n).length)) := ⟨_, rfl⟩
      rw [← hzg1] at hI
      exact hret (zg0, zg1, p39_25, p40_25, p41_25, (some ad2_25), kp2_25, tr2_25, iv2_25, ia2_25, K2_25, R2_25, mv2_25) (nI (wyN K P n st (2 ^ (prL K P n).length))) _ _ (0 + 38) (0 + 1946) _ _ dX5_fits_32 hI (by show (nI (wyN K P n st (2 ^ (prL K P n).length))) = gd (fewC n (nI P)) (fitsV K n st (nI P).toNatClampNeg) (fewC n (nI P)); rw [hC]; first | rfl | (simp only [nI_clamp (n := P) (by omega)]; rfl) | (simp only [gd_0, nI_clamp (n := P) (by omega)]; split <;> first | rfl | contradiction)) (Nat.le_of_ble_eq_true rfl) (Nat.le_of_ble_eq_true rfl) rfl
    · skip
      have c_13 : 5 < (bitsN P 8) := Nat.lt_of_not_le (fun zz => c_13 ((n_le (a := (bitsN P 8)) (b := 5) (by omega) (by omega)).mpr zz))
      refine lv_aload_n hxR hbR dX5_fits_16 rfl (lv_at hl 0 rfl) ?_
      refine lv_bipush (v := (-2)) hxR hbR dX5_fits_17 (by decide) ?_
      refine kVI (n := 1) (As := [.int (-2)]) (rest := []) (fun w => w ++ (oM E ob kpb trb ivb iab Kb Rb mvb)) hxR hbR hmlR hts hown hK hA hl.1 (isCtx.suf _) hI (c5_refuse l E ad kp (oT ob) iv ia K R mv (-2) 2 (by decide) (by decide)) (lw_V q1624 q1626 qs34 q86 q1627) ⟨rfl, by decide +kernel⟩ 16 5 rfl rfl mW_o rfl (Nat.le_of_ble_eq_true rfl) (Nat.le_of_ble_eq_true rfl) ⟨Nat.le_of_ble_eq_true rfl, Nat.le_of_ble_eq_true rfl⟩ (Nat.le_of_ble_eq_true rfl) dX5_fits_19 (fun r_19 u H locs hp hI hz => ?_)
      have hI : wI E AR sR H locs (mW E ad kp (oT ob) iv (va_up ia 9 (va_up (ia 9) 2 (ia 9 2 + 1))) K R mv ++ (oM E ob kpb trb ivb iab Kb Rb mvb)) := hI
      have hp : r_19 = (-2) := hp
      have hr_19 := hp
      subst hr_19
      have hC : fewC n (nI P) = (-2) := by
        clear hret hI
        unfold fewC; rw [nI_clamp (n := P) (by omega)]; exact if_neg (fun z => by omega)
      have eia9 : bumpR (ia 9) (fewC n (nI P)) = va_up (ia 9) 2 (ia 9 2 + 1) := by rw [hC]; exact bump_2 _
      have hI := wI_w (ws' := mW E ad kp (oT ob) (va_up (va_up iv 42 (iv 42)) 43 (iv 43)) (va_up (va_up (va_up (va_up ia 9 (bumpR (ia 9) (fewC n (nI P)))) 39 (ia 39)) 40 (ia 40)) 41 (ia 41)) K R mv ++ (oM E ob kpb trb ivb iab Kb Rb mvb)) (by rw [eia9, va_up_id (f := iv) (k := 42) (v := iv 42) rfl, va_up_id (f := iv) (k := 43) (v := iv 43) rfl, va_up_id (f := (va_up ia 9 (va_up (ia 9) 2 (ia 9 2 + 1)))) (k := 39) (v := ia 39) (up_n (by decide) rfl), va_up_id (f := (va_up ia 9 (va_up (ia 9) 2 (ia 9 2 + 1)))) (k := 40) (v := ia 40) (up_n (by decide) rfl), va_up_id (f := (va_up ia 9 (va_up (ia 9) 2 (ia 9 2 + 1)))) (k := 41) (v := ia 41) (up_n (by decide) rfl)]; try rfl) hI
      exact hret (iv 42, iv 43, ia 39, ia 40, ia 41, ob, kpb, trb, ivb, iab, Kb, Rb, mvb) (-2) _ _ 0 0 _ _ dX5_fits_22 hI (by show (-2) = gd (fewC n (nI P)) (fitsV K n st (nI P).toNatClampNeg) (fewC n (nI P)); rw [hC]; first | rfl | (simp only [nI_clamp (n := P) (by omega)]; rfl) | (simp only [gd_0, nI_clamp (n := P) (by omega)]; split <;> first | rfl | contradiction)) (Nat.le_of_ble_eq_true rfl) (Nat.le_of_ble_eq_true rfl) rfl
  · skip
    have c_2 : ¬ (0 ≤ x.toInt ∧ x.toInt < ((2 ^ n : Nat) : Int)) := of_decide_eq_false c_2
    refine lv_if_eq (tgt := 16) hxR hbR dX5_fits_5 (by decide) (fun _ => ?_) (fun c => absurd c (by decide))
    refine lv_aload_n hxR hbR dX5_fits_16 rfl (lv_at hl 0 rfl) ?_
    refine lv_bipush (v := (-2)) hxR hbR dX5_fits_17 (by decide) ?_
    refine kVI (n := 1) (As := [.int (-2)]) (rest := []) (fun w => w ++ (oM E ob kpb trb ivb iab Kb Rb mvb)) hxR hbR hmlR hts hown hK hA hl.1 (isCtx.suf _) hI (c5_refuse l E ad kp (oT ob) iv ia K R mv (-2) 2 (by decide) (by decide)) (lw_V q1624 q1626 qs34 q86 q1627) ⟨rfl, by decide +kernel⟩ 16 5 rfl rfl mW_o rfl (Nat.le_of_ble_eq_true rfl) (Nat.le_of_ble_eq_true rfl) ⟨Nat.le_of_ble_eq_true rfl, Nat.le_of_ble_eq_true rfl⟩ (Nat.le_of_ble_eq_true rfl) dX5_fits_19 (fun r_19 u H locs hp hI hz => ?_)
    have hI : wI E AR sR H locs (mW E ad kp (oT ob) iv (va_up ia 9 (va_up (ia 9) 2 (ia 9 2 + 1))) K R mv ++ (oM E ob kpb trb ivb iab Kb Rb mvb)) := hI
    have hp : r_19 = (-2) := hp
    have hr_19 := hp
    subst hr_19
    have hC : fewC n x = (-2) := by
      clear hret hI
      unfold fewC; exact if_neg (fun z => c_2 z.1)
    have eia9 : bumpR (ia 9) (fewC n x) = va_up (ia 9) 2 (ia 9 2 + 1) := by rw [hC]; exact bump_2 _
    have hI := wI_w (ws' := mW E ad kp (oT ob) (va_up (va_up iv 42 (iv 42)) 43 (iv 43)) (va_up (va_up (va_up (va_up ia 9 (bumpR (ia 9) (fewC n x))) 39 (ia 39)) 40 (ia 40)) 41 (ia 41)) K R mv ++ (oM E ob kpb trb ivb iab Kb Rb mvb)) (by rw [eia9, va_up_id (f := iv) (k := 42) (v := iv 42) rfl, va_up_id (f := iv) (k := 43) (v := iv 43) rfl, va_up_id (f := (va_up ia 9 (va_up (ia 9) 2 (ia 9 2 + 1)))) (k := 39) (v := ia 39) (up_n (by decide) rfl), va_up_id (f := (va_up ia 9 (va_up (ia 9) 2 (ia 9 2 + 1)))) (k := 40) (v := ia 40) (up_n (by decide) rfl), va_up_id (f := (va_up ia 9 (va_up (ia 9) 2 (ia 9 2 + 1)))) (k := 41) (v := ia 41) (up_n (by decide) rfl)]; try rfl) hI
    exact hret (iv 42, iv 43, ia 39, ia 40, ia 41, ob, kpb, trb, ivb, iab, Kb, Rb, mvb) (-2) _ _ 0 0 _ _ dX5_fits_22 hI (by show (-2) = gd (fewC n x) (fitsV K n st x.toNatClampNeg) (fewC n x); rw [hC]; first | rfl | (simp only [gd_0]; split <;> first | rfl | contradiction)) (Nat.le_of_ble_eq_true rfl) (Nat.le_of_ble_eq_true rfl) rfl

theorem c5_sure (l : Launch) (E : En) (ad : Nat → Nat) (kp : Option Nat) (iv : Nat → Int32) (ia K : Nat → Nat → Int32) (R : Nat → Nat → Int64) (mv : Nat → Int64) (ob : Option (Nat → Nat)) (kpb trb : Option Nat) (ivb : Nat → Int32) (iab Kb : Nat → Nat → Int32) (Rb : Nat → Nat → Int64) (mvb : Nat → Int64) (n st : Nat) (x : Int32) (hn : iv 10 = nI n) (hst : iv 14 = nI st) (hn7 : n ≤ 7) (hs2 : 2 ≤ st) (hs4 : st ≤ 4) : CtI l E yX5_sure cX5_sure 4 .int 30 38 1946 [.ref (ad 45), .int x] (mW E ad kp (oT ob) iv ia K R mv ++ (oM E ob kpb trb ivb iab Kb Rb mvb)) (fun (r : Int32) (u : Int32 × Int32 × (Nat → Int32) × (Nat → Int32) × (Nat → Int32) × (Option (Nat → Nat)) × (Option Nat) × (Option Nat) × (Nat → Int32) × (Nat → Nat → Int32) × (Nat → Nat → Int32) × (Nat → Nat → Int64) × (Nat → Int64)) => r = gd (sureC K n x) (sureV K n st x.toNatClampNeg) (sureC K n x)) (fun (u : Int32 × Int32 × (Nat → Int32) × (Nat → Int32) × (Nat → Int32) × (Option (Nat → Nat)) × (Option Nat) × (Option Nat) × (Nat → Int32) × (Nat → Nat → Int32) × (Nat → Nat → Int32) × (Nat → Nat → Int64) × (Nat → Int64)) => mW E ad kp (oT u.2.2.2.2.2.1) (va_up (va_up iv 42 u.1) 43 u.2.1) (va_up (va_up (va_up (va_up ia 9 (bumpR (ia 9) (sureC K n x))) 39 u.2.2.1) 40 u.2.2.2.1) 41 u.2.2.2.2.1) K R mv ++ (oM E u.2.2.2.2.2.1 u.2.2.2.2.2.2.1 u.2.2.2.2.2.2.2.1 u.2.2.2.2.2.2.2.2.1 u.2.2.2.2.2.2.2.2.2.1 u.2.2.2.2.2.2.2.2.2.2.1 u.2.2.2.2.2.2.2.2.2.2.2.1 u.2.2.2.2.2.2.2.2.2.2.2.2)) := by
  have h28 : 2 ^ n ≤ 2 ^ 7 := Nat.pow_le_pow_right (by decide) hn7
  refine CtI.of (by decide +kernel) (Nat.le_of_ble_eq_true rfl) ?_
  intro pR eR sR mR aR bR tR cR AR ls QR hxR hbR hmlR hts hown hlk hnm hA hK hI hl hret
  have hl : lv_has ls 4 [(0, .ref (ad 45)), (1, .int x)] := hl
  refine lv_aload_n hxR hbR dX5_sure_0 rfl (lv_at hl 0 rfl) ?_
  refine lv_iload_n hxR hbR dX5_sure_1 rfl (lv_at hl 1 rfl) ?_
  refine kVI (n := 1) (As := [.int x]) (rest := []) (fun w => w ++ (oM E ob kpb trb ivb iab Kb Rb mvb)) hxR hbR hmlR hts hown hK hA hl.1 (isCtx.suf _) hI (c5_isSet l E ad kp (oT ob) iv ia K R mv n x hn (by omega)) (lw_V q1862 q1864 qs63 q86 q1865) ⟨rfl, by decide +kernel⟩ 16 5 rfl rfl mW_o rfl (Nat.le_of_ble_eq_true rfl) (Nat.le_of_ble_eq_true rfl) ⟨Nat.le_of_ble_eq_true rfl, Nat.le_of_ble_eq_true rfl⟩ (Nat.le_of_ble_eq_true rfl) dX5_sure_2 (fun r_2 u H locs hp hI hz => ?_)
  have hI : wI E AR sR H locs (mW E ad kp (oT ob) iv ia K R mv ++ (oM E ob kpb trb ivb iab Kb Rb mvb)) := hI
  have hp : r_2 = b2i (decide (0 ≤ x.toInt ∧ x.toInt < ((2 ^ n : Nat) : Int))) := hp
  have hr_2 := hp
  rcases b2i_cases hr_2 with ⟨c_2, rfl⟩ | ⟨c_2, rfl⟩
  · skip
    have c_2 : 0 ≤ x.toInt ∧ x.toInt < ((2 ^ n : Nat) : Int) := of_decide_eq_true c_2
    obtain ⟨P, hP, rfl⟩ := nat_of c_2 (by omega)
    have tP : (nI P).toInt = (P : Int) := nI_toInt (by omega)
    refine lv_if_eq (tgt := 16) hxR hbR dX5_sure_5 (by decide) (fun c => absurd c (by decide)) (fun _ => ?_)
    refine lv_iload_n hxR hbR dX5_sure_8 rfl (lv_at hl 1 rfl) ?_
    refine kSI (n := 1) (As := [.int (nI P)]) (rest := []) (fun w => w ++ (mW E ad kp (oT ob) iv ia K R mv ++ (oM E ob kpb trb ivb iab Kb Rb mvb))) hxR hbR hmlR hts hown hK hA hl.1 (isCtx.suf _) hI (c5_bits l E  P (by omega)) (lw_S q1683 q1684 q86 q1685) (by decide +kernel) rfl (Nat.le_of_ble_eq_true rfl) (Nat.le_of_ble_eq_true rfl) ⟨Nat.le_of_ble_eq_true rfl, Nat.le_of_ble_eq_true rfl⟩ (Nat.le_of_ble_eq_true rfl) dX5_sure_9 (fun r_9 u H locs hp hI hz => ?_)
    have hI : wI E AR sR H locs (mW E ad kp (oT ob) iv ia K R mv ++ (oM E ob kpb trb ivb iab Kb Rb mvb)) := hI
    have hp : r_9 = nI (bitsN P 8) := hp
    have hr_9 := hp
    subst hr_9
    have hbl := bitsN_le P 8
    refine lv_iconst (v := 5) hxR hbR dX5_sure_12 (by decide) ?_
    refine lv_icmp_le (tgt := 23) hxR hbR dX5_sure_13 (by decide) (fun c_13 => ?_) (fun c_13 => ?_)
    · skip
      have c_13 : (bitsN P 8) ≤ 5 := (n_le (a := (bitsN P 8)) (b := 5) (by omega) (by omega)).mp c_13
      refine lv_aload_n hxR hbR dX5_sure_23 rfl (lv_at hl 0 rfl) ?_
      refine lv_iload_n hxR hbR dX5_sure_24 rfl (lv_at hl 1 rfl) ?_
      refine kVV (n := 1) (As := [.int (nI P)]) (rest := []) (fun w => w) hxR hbR hmlR hts hown hK hA hl.1 isCtx.id hI (c5_findWays l E ad kp iv ia K R mv ob kpb trb ivb iab Kb Rb mvb n st P hn hst (by first | omega | with_reducible assumption) (by first | omega | with_reducible assumption) (by first | omega | with_reducible assumption) (by first | omega | with_reducible assumption) (by first | omega | with_reducible assumption)) (lw_V q1989 q1991 qs76 q86 q1992) ⟨rfl, by decide +kernel⟩ 16 5 rfl rfl (he_l mW_o) rfl (Nat.le_of_ble_eq_true rfl) (Nat.le_of_ble_eq_true rfl) ⟨Nat.le_of_ble_eq_true rfl, Nat.le_of_ble_eq_true rfl⟩ (Nat.le_of_ble_eq_true rfl) dX5_sure_25 (fun u H locs hp hI hz => ?_)
      obtain ⟨p39_25, p40_25, p41_25, ad2_25, kp2_25, tr2_25, iv2_25, ia2_25, K2_25, R2_25, mv2_25⟩ := u
      have hI : wI E AR sR H locs (mW E ad kp (some (ad2_25 45)) (va_up (va_up iv 42 (nI ((prL K P n).length))) 43 (nI (wyN K P n st (2 ^ (prL K P n).length)))) (va_up (va_up (va_up ia 39 p39_25) 40 p40_25) 41 p41_25) K R mv ++ (mW E ad2_25 kp2_25 tr2_25 iv2_25 ia2_25 K2_25 R2_25 mv2_25)) := hI
      have hp : ∀ k, k < (prL K P n).length → p39_25 k = nI ((prL K P n).getD k (0, 0)).1 ∧ p40_25 k = nI ((prL K P n).getD k (0, 0)).2 ∧ p41_25 k = nI (wyC K P n st k (2 ^ (prL K P n).length)) := hp
      have hq_25 := hp
      have hl10 : (prL K P n).length ≤ 10 := pr_10 (by omega) c_13 hn7 (Nat.le_refl n)
      have hp10 : 2 ^ (prL K P n).length ≤ 2 ^ 10 := Nat.pow_le_pow_right (by decide) hl10
      refine lv_aload_n hxR hbR dX5_sure_28 rfl (lv_at hl 0 rfl) ?_
      refine r_get hxR hbR hts hown hK hI okX5 (ci := 5) rfl 16 (he_l mW_o) 42 (by decide) q1520 rfl (v := .int (nI ((prL K P n).length))) (al (up_n (by decide) va_up_s)) dX5_sure_29 ?_
      refine lv_if_ne (tgt := 42) hxR hbR dX5_sure_32 (by decide) (fun c_32 => ?_) (fun c_32 => ?_)
      · skip
        have c_32 : ¬ ((prL K P n).length) = 0 := fun zz => c_32 ((n_eq (a := ((prL K P n).length)) (b := 0) (by omega) (by omega)).mpr zz)
        refine lv_iconst (v := 0) hxR hbR dX5_sure_42 (by decide) ?_
        refine lv_istore_n (lv' := [(2, .int 0), (0, .ref (ad 45)), (1, .int (nI P))]) hxR hbR dX5_sure_43 rfl hl (by decide) rfl (fun ls hl => ?_)
        refine lv_iconst (v := 1) hxR hbR dX5_sure_44 (by decide) ?_
        refine lv_istore_n (lv' := [(3, .int 1), (2, .int 0), (0, .ref (ad 45)), (1, .int (nI P))]) hxR hbR dX5_sure_45 rfl hl (by decide) rfl (fun ls hl => ?_)
        have lp_46 : ∀ (fu : Nat) (b : Nat) (k : Nat), (1 ≤ k ∧ k ≤ (prL K P n).length) → (b = bsF (fun k => wyC K P n st k (2 ^ (prL K P n).length)) k) → (b < k) → (prL K P n).length - k < fu → ∀ (H : Heap) (locs : List Loc), wI E AR sR H locs (mW E ad kp (some (ad2_25 45)) (va_up (va_up iv 42 (nI ((prL K P n).length))) 43 (nI (wyN K P n st (2 ^ (prL K P n).length)))) (va_up (va_up (va_up ia 39 p39_25) 40 p40_25) 41 p41_25) K R mv ++ (mW E ad2_25 kp2_25 tr2_25 iv2_25 ia2_25 K2_25 R2_25 mv2_25)) → ∀ ls : Array Slot, lv_has ls 4 [(0, .ref (ad 45)), (1, .int (nI P)), (2, .int (nI b)), (3, .int (nI k))] → W pR l eR (rmF 30 38 1946) sR mR aR bR tR cR H locs (0 + 38) (0 + 1946) QR (F0 mR 46 ls []) := by
          intro fu
          induction fu with
          | zero =>
            intro b k hk hb hbk hfu
            exact absurd hfu (Nat.not_lt_zero _)
          | succ fu ih_46 =>
            intro b k hk hb hbk hfu H locs hI ls hl
            refine lv_iload_n hxR hbR dX5_sure_46 rfl (lv_at hl 3 rfl) ?_
            refine lv_aload_n hxR hbR dX5_sure_47 rfl (lv_at hl 0 rfl) ?_
            refine r_get hxR hbR hts hown hK hI okX5 (ci := 5) rfl 16 (he_l mW_o) 42 (by decide) q1520 rfl (v := .int (nI ((prL K P n).length))) (al (up_n (by decide) va_up_s)) dX5_sure_48 ?_
            refine lv_icmp_ge (tgt := 81) hxR hbR dX5_sure_51 (by decide) (fun c_51 => ?_) (fun c_51 => ?_)
            · skip
              have c_51 : ((prL K P n).length) ≤ k := (n_le (a := ((prL K P n).length)) (b := k) (by omega) (by omega)).mp c_51
              refine lv_bipush (v := 10) hxR hbR dX5_sure_81 (by decide) ?_
              refine lv_aload_n hxR hbR dX5_sure_83 rfl (lv_at hl 0 rfl) ?_
              refine r_get hxR hbR hts hown hK hI okX5 (ci := 5) rfl 16 (he_l mW_o) 39 (by decide) q1517 rfl (v := .ref (ad 39)) rfl dX5_sure_84 ?_
              refine lv_iload_n hxR hbR dX5_sure_87 rfl (lv_at hl 2 rfl) ?_
              refine r_iald hxR hbR hK hI 35 (n := 10) (J := b) (f := p39_25) (v := nI (((prL K P n).getD b (0, 0)).1)) (he_l (mW_g39 (up_n (by decide) (up_n (by decide) va_up_s)))) (by omega) (by decide) (hq_25 _ (by omega)).1 dX5_sure_88 ?_
              refine lv_imul hxR hbR dX5_sure_89 ?_
              refine lv_as (y := nI (10 * (((prL K P n).getD b (0, 0)).1))) (pk_mul 10 (((prL K P n).getD b (0, 0)).1)) ?_
              refine lv_aload_n hxR hbR dX5_sure_90 rfl (lv_at hl 0 rfl) ?_
              refine r_get hxR hbR hts hown hK hI okX5 (ci := 5) rfl 16 (he_l mW_o) 40 (by decide) q1518 rfl (v := .ref (ad 40)) rfl dX5_sure_91 ?_
              refine lv_iload_n hxR hbR dX5_sure_94 rfl (lv_at hl 2 rfl) ?_
              refine r_iald hxR hbR hK hI 36 (n := 10) (J := b) (f := p40_25) (v := nI (((prL K P n).getD b (0, 0)).2)) (he_l (mW_g40 (up_n (by decide) va_up_s))) (by omega) (by decide) (hq_25 _ (by omega)).2.1 dX5_sure_95 ?_
              refine lv_iadd hxR hbR dX5_sure_96 ?_
              refine lv_as (y := nI ((10 * (((prL K P n).getD b (0, 0)).1)) + (((prL K P n).getD b (0, 0)).2))) (nI_add (10 * (((prL K P n).getD b (0, 0)).1)) (((prL K P n).getD b (0, 0)).2)) ?_
              have hC : sureC K n (nI P) = 0 := by
                clear hret hI
                unfold sureC; rw [nI_clamp (n := P) (by omega), if_pos ⟨c_2, c_13⟩]; exact if_neg c_32
              have eia9 : bumpR (ia 9) (sureC K n (nI P)) = ia 9 := by rw [hC]; exact bump_0 _
              have hI := wI_w (ws' := mW E ad kp (oT (some ad2_25)) (va_up (va_up iv 42 (nI ((prL K P n).length))) 43 (nI (wyN K P n st (2 ^ (prL K P n).length)))) (va_up (va_up (va_up (va_up ia 9 (bumpR (ia 9) (sureC K n (nI P)))) 39 p39_25) 40 p40_25) 41 p41_25) K R mv ++ (oM E (some ad2_25) kp2_25 tr2_25 iv2_25 ia2_25 K2_25 R2_25 mv2_25)) (by rw [eia9, va_up_id (f := ia) (k := 9) (v := ia 9) rfl]; try rfl) hI
              obtain ⟨zg0, hzg0⟩ : ∃ z, z = nI ((prL K P n).length) := ⟨_, rfl⟩
              rw [← hzg0] at hI
              obtain ⟨zg1, hzg1⟩ : ∃ z, z = nI (wyN K P n st (2 ^ (prL K P n).length)) := ⟨_, rfl⟩
              rw [← hzg1] at hI
              exact hret (zg0, zg1, p39_25, p40_25, p41_25, (some ad2_25), kp2_25, tr2_25, iv2_25, ia2_25, K2_25, R2_25, mv2_25) (nI ((10 * (((prL K P n).getD b (0, 0)).1)) + (((prL K P n).getD b (0, 0)).2))) _ _ (0 + 38) (0 + 1946) _ _ dX5_sure_97 hI (by show (nI ((10 * (((prL K P n).getD b (0, 0)).1)) + (((prL K P n).getD b (0, 0)).2))) = gd (sureC K n (nI P)) (sureV K n st (nI P).toNatClampNeg) (sureC K n (nI P)); rw [hC]; simp only [nI_clamp (n := P) (by omega)]; unfold sureV; rw [show sureI K n st P = b from by unfold sureI; rw [hb, show k = (prL K P n).length by omega]]; rfl) (Nat.le_of_ble_eq_true rfl) (Nat.le_of_ble_eq_true rfl) rfl
            · skip
              have c_51 : k < ((prL K P n).length) := Nat.lt_of_not_le (fun zz => c_51 ((n_le (a := ((prL K P n).length)) (b := k) (by omega) (by omega)).mpr zz))
              refine lv_aload_n hxR hbR dX5_sure_54 rfl (lv_at hl 0 rfl) ?_
              refine r_get hxR hbR hts hown hK hI okX5 (ci := 5) rfl 16 (he_l mW_o) 41 (by decide) q1519 rfl (v := .ref (ad 41)) rfl dX5_sure_55 ?_
              refine lv_iload_n hxR hbR dX5_sure_58 rfl (lv_at hl 3 rfl) ?_
              refine r_iald hxR hbR hK hI 37 (n := 10) (J := k) (f := p41_25) (v := nI (wyC K P n st k (2 ^ (prL K P n).length))) (he_l (mW_g41 va_up_s)) (by omega) (by decide) (hq_25 _ (by omega)).2.2 dX5_sure_59 ?_
              refine lv_aload_n hxR hbR dX5_sure_60 rfl (lv_at hl 0 rfl) ?_
              refine r_get hxR hbR hts hown hK hI okX5 (ci := 5) rfl 16 (he_l mW_o) 41 (by decide) q1519 rfl (v := .ref (ad 41)) rfl dX5_sure_61 ?_
              refine lv_iload_n hxR hbR dX5_sure_64 rfl (lv_at hl 2 rfl) ?_
              refine r_iald hxR hbR hK hI 37 (n := 10) (J := b) (f := p41_25) (v := nI (wyC K P n st b (2 ^ (prL K P n).length))) (he_l (mW_g41 va_up_s)) (by omega) (by decide) (hq_25 _ (by omega)).2.2 dX5_sure_65 ?_
              refine lv_icmp_le (tgt := 73) hxR hbR dX5_sure_66 (by decide) (fun c_66 => ?_) (fun c_66 => ?_)
              · skip
                have c_66 : (wyC K P n st k (2 ^ (prL K P n).length)) ≤ (wyC K P n st b (2 ^ (prL K P n).length)) := (n_le (a := (wyC K P n st k (2 ^ (prL K P n).length))) (b := (wyC K P n st b (2 ^ (prL K P n).length))) (by have := wyC_le (K := K) (S := P) (n := n) (st := st) (k := k) (2 ^ (prL K P n).length); omega) (by have := wyC_le (K := K) (S := P) (n := n) (st := st) (k := b) (2 ^ (prL K P n).length); omega)).mp c_66
                refine lv_iload_n hxR hbR dX5_sure_73 rfl (lv_at hl 2 rfl) ?_
                refine lv_istore_n (lv' := [(2, .int (nI b)), (0, .ref (ad 45)), (1, .int (nI P)), (3, .int (nI k))]) hxR hbR dX5_sure_74 rfl hl (by decide) rfl (fun ls hl => ?_)
                refine lv_iinc (v := nI (k + 1)) (lv' := [(3, .int (nI (k + 1))), (2, .int (nI b)), (0, .ref (ad 45)), (1, .int (nI P))]) hxR hbR dX5_sure_75 hl (k := 3) rfl (show nI k + 1 = nI (k + 1) from nI_add _ 1) (by decide) rfl (fun ls hl => ?_)
                refine lv_goto (tgt := 46) hxR hbR dX5_sure_78 (by decide) ?_
                exact ih_46 b (k + 1) ⟨by omega, by omega⟩ (by first | (rw [bsF, ← hb]; exact (if_neg (by omega)).symm) | (rw [bsF, ← hb]; exact (if_pos (by omega)).symm)) (by first | omega | with_reducible assumption) (by omega) _ _ hI _ (lv_sub hl [2, 3, 1, 0] rfl)
              · skip
                have c_66 : (wyC K P n st b (2 ^ (prL K P n).length)) < (wyC K P n st k (2 ^ (prL K P n).length)) := Nat.lt_of_not_le (fun zz => c_66 ((n_le (a := (wyC K P n st k (2 ^ (prL K P n).length))) (b := (wyC K P n st b (2 ^ (prL K P n).length))) (by have := wyC_le (K := K) (S := P) (n := n) (st := st) (k := k) (2 ^ (prL K P n).length); omega) (by have := wyC_le (K := K) (S := P) (n := n) (st := st) (k := b) (2 ^ (prL K P n).length); omega)).mpr zz))
                refine lv_iload_n hxR hbR dX5_sure_69 rfl (lv_at hl 3 rfl) ?_
                refine lv_goto (tgt := 74) hxR hbR dX5_sure_70 (by decide) ?_
                refine lv_istore_n (lv' := [(2, .int (nI k)), (0, .ref (ad 45)), (1, .int (nI P)), (3, .int (nI k))]) hxR hbR dX5_sure_74 rfl hl (by decide) rfl (fun ls hl => ?_)
                refine lv_iinc (v := nI (k + 1)) (lv' := [(3, .int (nI (k + 1))), (2, .int (nI k)), (0, .ref (ad 45)), (1, .int (nI P))]) hxR hbR dX5_sure_75 hl (k := 3) rfl (show nI k + 1 = nI (k + 1) from nI_add _ 1) (by decide) rfl (fun ls hl => ?_)
                refine lv_goto (tgt := 46) hxR hbR dX5_sure_78 (by decide) ?_
                exact ih_46 k (k + 1) ⟨by omega, by omega⟩ (by first | (rw [bsF, ← hb]; exact (if_neg (by omega)).symm) | (rw [bsF, ← hb]; exact (if_pos (by omega)).symm)) (by first | omega | with_reducible assumption) (by omega) _ _ hI _ (lv_sub hl [2, 3, 1, 0] rfl)
        exact lp_46 _ 0 1 ⟨by omega, by omega⟩ (bsF_1 _).symm (by first | omega | with_reducible assumption) (Nat.lt_succ_self _) _ _ hI _ (lv_sub hl [2, 3, 1, 0] rfl)
      · skip
        have c_32 : ((prL K P n).length) = 0 := (n_eq (a := ((prL K P n).length)) (b := 0) (by omega) (by omega)).mp c_32
        refine lv_aload_n hxR hbR dX5_sure_35 rfl (lv_at hl 0 rfl) ?_
        refine lv_bipush (v := (-5)) hxR hbR dX5_sure_36 (by decide) ?_
        refine kVI (n := 1) (As := [.int (-5)]) (rest := []) (fun w => w ++ (mW E ad2_25 kp2_25 tr2_25 iv2_25 ia2_25 K2_25 R2_25 mv2_25)) hxR hbR hmlR hts hown hK hA hl.1 (isCtx.suf _) hI (c5_refuse l E ad kp (some (ad2_25 45)) (va_up (va_up iv 42 (nI ((prL K P n).length))) 43 (nI (wyN K P n st (2 ^ (prL K P n).length)))) (va_up (va_up (va_up ia 39 p39_25) 40 p40_25) 41 p41_25) K R mv (-5) 5 (by decide) (by decide)) (lw_V q1624 q1626 qs34 q86 q1627) ⟨rfl, by decide +kernel⟩ 16 5 rfl rfl mW_o rfl (Nat.le_of_ble_eq_true rfl) (Nat.le_of_ble_eq_true rfl) ⟨Nat.le_of_ble_eq_true rfl, Nat.le_of_ble_eq_true rfl⟩ (Nat.le_of_ble_eq_true rfl) dX5_sure_38 (fun r_38 u H locs hp hI hz => ?_)
        have hI : wI E AR sR H locs (mW E ad kp (some (ad2_25 45)) (va_up (va_up iv 42 (nI ((prL K P n).length))) 43 (nI (wyN K P n st (2 ^ (prL K P n).length)))) (va_up (va_up (va_up (va_up ia 39 p39_25) 40 p40_25) 41 p41_25) 9 (va_up ((ia 9)) 5 ((ia 9) 5 + 1))) K R mv ++ (mW E ad2_25 kp2_25 tr2_25 iv2_25 ia2_25 K2_25 R2_25 mv2_25)) := hI
        have hI := wI_w (ws' := mW E ad kp (some (ad2_25 45)) (va_up (va_up iv 42 (nI ((prL K P n).length))) 43 (nI (wyN K P n st (2 ^ (prL K P n).length)))) (va_up (va_up (va_up (va_up ia 9 (va_up ((ia 9)) 5 ((ia 9) 5 + 1))) 39 p39_25) 40 p40_25) 41 p41_25) K R mv ++ (mW E ad2_25 kp2_25 tr2_25 iv2_25 ia2_25 K2_25 R2_25 mv2_25)) (by rw [(show (va_up (va_up (va_up (va_up ia 9 (va_up ((ia 9)) 5 ((ia 9) 5 + 1))) 39 p39_25) 40 p40_25) 41 p41_25) = (va_up (va_up (va_up (va_up ia 39 p39_25) 40 p40_25) 41 p41_25) 9 (va_up ((ia 9)) 5 ((ia 9) 5 + 1))) from ((up_s (by decide) (up_s (by decide) (up_s (by decide) rfl)))).symm)]) hI
        have hI : wI E AR sR H locs (mW E ad kp (some (ad2_25 45)) (va_up (va_up iv 42 (nI ((prL K P n).length))) 43 (nI (wyN K P n st (2 ^ (prL K P n).length)))) (va_up (va_up (va_up (va_up ia 9 (va_up ((ia 9)) 5 ((ia 9) 5 + 1))) 39 p39_25) 40 p40_25) 41 p41_25) K R mv ++ (mW E ad2_25 kp2_25 tr2_25 iv2_25 ia2_25 K2_25 R2_25 mv2_25)) := hI
        have hp : r_38 = (-5) := hp
        have hr_38 := hp
        subst hr_38
        have hC : sureC K n (nI P) = (-5) := by
          clear hret hI
          unfold sureC; rw [nI_clamp (n := P) (by omega), if_pos ⟨c_2, c_13⟩]; exact if_pos c_32
        have eia9 : bumpR (ia 9) (sureC K n (nI P)) = va_up ((ia 9)) 5 ((ia 9) 5 + 1) := by rw [hC]; exact bump_5 _
        have hI := wI_w (ws' := mW E ad kp (oT (some ad2_25)) (va_up (va_up iv 42 (nI ((prL K P n).length))) 43 (nI (wyN K P n st (2 ^ (prL K P n).length)))) (va_up (va_up (va_up (va_up ia 9 (bumpR (ia 9) (sureC K n (nI P)))) 39 p39_25) 40 p40_25) 41 p41_25) K R mv ++ (oM E (some ad2_25) kp2_25 tr2_25 iv2_25 ia2_25 K2_25 R2_25 mv2_25)) (by rw [eia9]; try rfl) hI
        obtain ⟨zg0, hzg0⟩ : ∃ z, z = nI ((prL K P n).length) := ⟨_, rfl⟩
        rw [← hzg0] at hI
        obtain ⟨zg1, hzg1⟩ : ∃ z, z = nI (wyN K P n st (2 ^ (prL K P n).length)) := ⟨_, rfl⟩
        rw [← hzg1] at hI
        exact hret (zg0, zg1, p39_25, p40_25, p41_25, (some ad2_25), kp2_25, tr2_25, iv2_25, ia2_25, K2_25, R2_25, mv2_25) (-5) _ _ (0 + 38) (0 + 1946) _ _ dX5_sure_41 hI (by show (-5) = gd (sureC K n (nI P)) (sureV K n st (nI P).toNatClampNeg) (sureC K n (nI P)); rw [hC]; first | rfl | (simp only [nI_clamp (n := P) (by omega)]; rfl) | (simp only [gd_0, nI_clamp (n := P) (by omega)]; split <;> first | rfl | contradiction)) (Nat.le_of_ble_eq_true rfl) (Nat.le_of_ble_eq_true rfl) rfl
    · skip
      have c_13 : 5 < (bitsN P 8) := Nat.lt_of_not_le (fun zz => c_13 ((n_le (a := (bitsN P 8)) (b := 5) (by omega) (by omega)).mpr zz))
      refine lv_aload_n hxR hbR dX5_sure_16 rfl (lv_at hl 0 rfl) ?_
      refine lv_bipush (v := (-2)) hxR hbR dX5_sure_17 (by decide) ?_
      refine kVI (n := 1) (As := [.int (-2)]) (rest := []) (fun w => w ++ (oM E ob kpb trb ivb iab Kb Rb mvb)) hxR hbR hmlR hts hown hK hA hl.1 (isCtx.suf _) hI (c5_refuse l E ad kp (oT ob) iv ia K R mv (-2) 2 (by decide) (by decide)) (lw_V q1624 q1626 qs34 q86 q1627) ⟨rfl, by decide +kernel⟩ 16 5 rfl rfl mW_o rfl (Nat.le_of_ble_eq_true rfl) (Nat.le_of_ble_eq_true rfl) ⟨Nat.le_of_ble_eq_true rfl, Nat.le_of_ble_eq_true rfl⟩ (Nat.le_of_ble_eq_true rfl) dX5_sure_19 (fun r_19 u H locs hp hI hz => ?_)
      have hI : wI E AR sR H locs (mW E ad kp (oT ob) iv (va_up ia 9 (va_up (ia 9) 2 (ia 9 2 + 1))) K R mv ++ (oM E ob kpb trb ivb iab Kb Rb mvb)) := hI
      have hp : r_19 = (-2) := hp
      have hr_19 := hp
      subst hr_19
      have hC : sureC K n (nI P) = (-2) := by
        clear hret hI
        unfold sureC; rw [nI_clamp (n := P) (by omega)]; exact if_neg (fun z => by omega)
      have eia9 : bumpR (ia 9) (sureC K n (nI P)) = va_up (ia 9) 2 (ia 9 2 + 1) := by rw [hC]; exact bump_2 _
      have hI := wI_w (ws' := mW E ad kp (oT ob) (va_up (va_up iv 42 (iv 42)) 43 (iv 43)) (va_up (va_up (va_up (va_up ia 9 (bumpR (ia 9) (sureC K n (nI P)))) 39 (ia 39)) 40 (ia 40)) 41 (ia 41)) K R mv ++ (oM E ob kpb trb ivb iab Kb Rb mvb)) (by rw [eia9, va_up_id (f := iv) (k := 42) (v := iv 42) rfl, va_up_id (f := iv) (k := 43) (v := iv 43) rfl, va_up_id (f := (va_up ia 9 (va_up (ia 9) 2 (ia 9 2 + 1)))) (k := 39) (v := ia 39) (up_n (by decide) rfl), va_up_id (f := (va_up ia 9 (va_up (ia 9) 2 (ia 9 2 + 1)))) (k := 40) (v := ia 40) (up_n (by decide) rfl), va_up_id (f := (va_up ia 9 (va_up (ia 9) 2 (ia 9 2 + 1)))) (k := 41) (v := ia 41) (up_n (by decide) rfl)]; try rfl) hI
      exact hret (iv 42, iv 43, ia 39, ia 40, ia 41, ob, kpb, trb, ivb, iab, Kb, Rb, mvb) (-2) _ _ 0 0 _ _ dX5_sure_22 hI (by show (-2) = gd (sureC K n (nI P)) (sureV K n st (nI P).toNatClampNeg) (sureC K n (nI P)); rw [hC]; first | rfl | (simp only [nI_clamp (n := P) (by omega)]; rfl) | (simp only [gd_0, nI_clamp (n := P) (by omega)]; split <;> first | rfl | contradiction)) (Nat.le_of_ble_eq_true rfl) (Nat.le_of_ble_eq_true rfl) rfl
  · skip
    have c_2 : ¬ (0 ≤ x.toInt ∧ x.toInt < ((2 ^ n : Nat) : Int)) := of_decide_eq_false c_2
    refine lv_if_eq (tgt := 16) hxR hbR dX5_sure_5 (by decide) (fun _ => ?_) (fun c => absurd c (by decide))
    refine lv_aload_n hxR hbR dX5_sure_16 rfl (lv_at hl 0 rfl) ?_
    refine lv_bipush (v := (-2)) hxR hbR dX5_sure_17 (by decide) ?_
    refine kVI (n := 1) (As := [.int (-2)]) (rest := []) (fun w => w ++ (oM E ob kpb trb ivb iab Kb Rb mvb)) hxR hbR hmlR hts hown hK hA hl.1 (isCtx.suf _) hI (c5_refuse l E ad kp (oT ob) iv ia K R mv (-2) 2 (by decide) (by decide)) (lw_V q1624 q1626 qs34 q86 q1627) ⟨rfl, by decide +kernel⟩ 16 5 rfl rfl mW_o rfl (Nat.le_of_ble_eq_true rfl) (Nat.le_of_ble_eq_true rfl) ⟨Nat.le_of_ble_eq_true rfl, Nat.le_of_ble_eq_true rfl⟩ (Nat.le_of_ble_eq_true rfl) dX5_sure_19 (fun r_19 u H locs hp hI hz => ?_)
    have hI : wI E AR sR H locs (mW E ad kp (oT ob) iv (va_up ia 9 (va_up (ia 9) 2 (ia 9 2 + 1))) K R mv ++ (oM E ob kpb trb ivb iab Kb Rb mvb)) := hI
    have hp : r_19 = (-2) := hp
    have hr_19 := hp
    subst hr_19
    have hC : sureC K n x = (-2) := by
      clear hret hI
      unfold sureC; exact if_neg (fun z => c_2 z.1)
    have eia9 : bumpR (ia 9) (sureC K n x) = va_up (ia 9) 2 (ia 9 2 + 1) := by rw [hC]; exact bump_2 _
    have hI := wI_w (ws' := mW E ad kp (oT ob) (va_up (va_up iv 42 (iv 42)) 43 (iv 43)) (va_up (va_up (va_up (va_up ia 9 (bumpR (ia 9) (sureC K n x))) 39 (ia 39)) 40 (ia 40)) 41 (ia 41)) K R mv ++ (oM E ob kpb trb ivb iab Kb Rb mvb)) (by rw [eia9, va_up_id (f := iv) (k := 42) (v := iv 42) rfl, va_up_id (f := iv) (k := 43) (v := iv 43) rfl, va_up_id (f := (va_up ia 9 (va_up (ia 9) 2 (ia 9 2 + 1)))) (k := 39) (v := ia 39) (up_n (by decide) rfl), va_up_id (f := (va_up ia 9 (va_up (ia 9) 2 (ia 9 2 + 1)))) (k := 40) (v := ia 40) (up_n (by decide) rfl), va_up_id (f := (va_up ia 9 (va_up (ia 9) 2 (ia 9 2 + 1)))) (k := 41) (v := ia 41) (up_n (by decide) rfl)]; try rfl) hI
    exact hret (iv 42, iv 43, ia 39, ia 40, ia 41, ob, kpb, trb, ivb, iab, Kb, Rb, mvb) (-2) _ _ 0 0 _ _ dX5_sure_22 hI (by show (-2) = gd (sureC K n x) (sureV K n st x.toNatClampNeg) (sureC K n x); rw [hC]; first | rfl | (simp only [gd_0]; split <;> first | rfl | contradiction)) (Nat.le_of_ble_eq_true rfl) (Nat.le_of_ble_eq_true rfl) rfl

theorem c5_closes (l : Launch) (E : En) (ad : Nat → Nat) (kp : Option Nat) (iv : Nat → Int32) (ia K : Nat → Nat → Int32) (R : Nat → Nat → Int64) (mv : Nat → Int64) (ob : Option (Nat → Nat)) (kpb trb : Option Nat) (ivb : Nat → Int32) (iab Kb : Nat → Nat → Int32) (Rb : Nat → Nat → Int64) (mvb : Nat → Int64) (n st : Nat) (x y : Int32) (hn : iv 10 = nI n) (hst : iv 14 = nI st) (hn7 : n ≤ 7) (hs2 : 2 ≤ st) (hs4 : st ≤ 4) : CtI l E yX5_closes cX5_closes 3 .int 30 38 1946 [.ref (ad 45), .int x, .int y] (mW E ad kp (oT ob) iv ia K R mv ++ (oM E ob kpb trb ivb iab Kb Rb mvb)) (fun (r : Int32) (u : Int32 × (Nat → Int32) × (Option (Nat → Nat)) × (Option Nat) × (Option Nat) × (Nat → Int32) × (Nat → Nat → Int32) × (Nat → Nat → Int32) × (Nat → Nat → Int64) × (Nat → Int64)) => r = gd (twoC n x y) (clsV K n st x.toNatClampNeg y.toNatClampNeg) (twoC n x y)) (fun (u : Int32 × (Nat → Int32) × (Option (Nat → Nat)) × (Option Nat) × (Option Nat) × (Nat → Int32) × (Nat → Nat → Int32) × (Nat → Nat → Int32) × (Nat → Nat → Int64) × (Nat → Int64)) => mW E ad kp (oT u.2.2.1) (va_up iv 30 u.1) (va_up (va_up ia 9 (bumpR (ia 9) (twoC n x y))) 29 u.2.1) K R mv ++ (oM E u.2.2.1 u.2.2.2.1 u.2.2.2.2.1 u.2.2.2.2.2.1 u.2.2.2.2.2.2.1 u.2.2.2.2.2.2.2.1 u.2.2.2.2.2.2.2.2.1 u.2.2.2.2.2.2.2.2.2)) := by
  have h28 : 2 ^ n ≤ 2 ^ 7 := Nat.pow_le_pow_right (by decide) hn7
  refine CtI.of (by decide +kernel) (Nat.le_of_ble_eq_true rfl) ?_
  intro pR eR sR mR aR bR tR cR AR ls QR hxR hbR hmlR hts hown hlk hnm hA hK hI hl hret
  have hl : lv_has ls 3 [(0, .ref (ad 45)), (1, .int x), (2, .int y)] := hl
  refine lv_aload_n hxR hbR dX5_closes_0 rfl (lv_at hl 0 rfl) ?_
  refine lv_iload_n hxR hbR dX5_closes_1 rfl (lv_at hl 1 rfl) ?_
  refine lv_iload_n hxR hbR dX5_closes_2 rfl (lv_at hl 2 rfl) ?_
  refine kVI (n := 2) (As := [.int x, .int y]) (rest := []) (fun w => w ++ (oM E ob kpb trb ivb iab Kb Rb mvb)) hxR hbR hmlR hts hown hK hA hl.1 (isCtx.suf _) hI (c5_areTwo l E ad kp (oT ob) iv ia K R mv n x y hn (by omega)) (lw_V q1731 q1733 qs48 q86 q1734) ⟨rfl, by decide +kernel⟩ 16 5 rfl rfl mW_o rfl (Nat.le_of_ble_eq_true rfl) (Nat.le_of_ble_eq_true rfl) ⟨Nat.le_of_ble_eq_true rfl, Nat.le_of_ble_eq_true rfl⟩ (Nat.le_of_ble_eq_true rfl) dX5_closes_3 (fun r_3 u H locs hp hI hz => ?_)
  have hI : wI E AR sR H locs (mW E ad kp (oT ob) iv ia K R mv ++ (oM E ob kpb trb ivb iab Kb Rb mvb)) := hI
  have hp : r_3 = b2i (decide ((0 ≤ x.toInt ∧ x.toInt < (n : Int)) ∧ (0 ≤ y.toInt ∧ y.toInt < (n : Int)) ∧ ¬ x = y)) := hp
  have hr_3 := hp
  rcases b2i_cases hr_3 with ⟨c_3, rfl⟩ | ⟨c_3, rfl⟩
  · skip
    have c_3 : (0 ≤ x.toInt ∧ x.toInt < (n : Int)) ∧ (0 ≤ y.toInt ∧ y.toInt < (n : Int)) ∧ ¬ x = y := of_decide_eq_true c_3
    obtain ⟨P, hP, rfl⟩ := nat_of c_3.1 (by omega)
    have tP : (nI P).toInt = (P : Int) := nI_toInt (by omega)
    obtain ⟨Q, hQ, rfl⟩ := nat_of c_3.2.1 (by omega)
    have tQ : (nI Q).toInt = (Q : Int) := nI_toInt (by omega)
    refine lv_if_eq (tgt := 18) hxR hbR dX5_closes_6 (by decide) (fun c => absurd c (by decide)) (fun _ => ?_)
    refine lv_aload_n hxR hbR dX5_closes_9 rfl (lv_at hl 0 rfl) ?_
    refine lv_iload_n hxR hbR dX5_closes_10 rfl (lv_at hl 1 rfl) ?_
    refine lv_iload_n hxR hbR dX5_closes_11 rfl (lv_at hl 2 rfl) ?_
    refine kVI (n := 2) (As := [.int (nI P), .int (nI Q)]) (rest := []) (fun w => w) hxR hbR hmlR hts hown hK hA hl.1 isCtx.id hI (c5_closesOf l E ad kp iv ia K R mv ob kpb trb ivb iab Kb Rb mvb n st P Q hn hst (by first | omega | with_reducible assumption) (by first | omega | with_reducible assumption) (by first | omega | with_reducible assumption) (by first | omega | with_reducible assumption) (by first | omega | with_reducible assumption)) (lw_V q1977 q1979 qs75 q86 q1980) ⟨rfl, by decide +kernel⟩ 16 5 rfl rfl (he_l mW_o) rfl (Nat.le_of_ble_eq_true rfl) (Nat.le_of_ble_eq_true rfl) ⟨Nat.le_of_ble_eq_true rfl, Nat.le_of_ble_eq_true rfl⟩ (Nat.le_of_ble_eq_true rfl) dX5_closes_12 (fun r_12 u H locs hp hI hz => ?_)
    obtain ⟨ad2_12, kp2_12, tr2_12, iv2_12, ia2_12, K2_12, R2_12, mv2_12⟩ := u
    have hI : wI E AR sR H locs (mW E ad kp (some (ad2_12 45)) (va_up iv 30 (nI ((GL K n st).length))) (va_up ia 29 (wrL (ia 29) 0 (GL K n st))) K R mv ++ (mW E ad2_12 kp2_12 tr2_12 iv2_12 ia2_12 K2_12 R2_12 mv2_12)) := hI
    have hp : r_12 = nI (cntL (2 ^ n - 1) (GL K n st)) - nI (cntL (2 ^ n - 1) (GL (knF K P Q 0) n st)) := hp
    have hr_12 := hp
    subst hr_12
    refine lv_goto (tgt := 24) hxR hbR dX5_closes_15 (by decide) ?_
    have hC : twoC n (nI P) (nI Q) = 0 := by
      clear hret hI
      exact if_pos c_3
    have eia9 : bumpR (ia 9) (twoC n (nI P) (nI Q)) = ia 9 := by rw [hC]; exact bump_0 _
    have hI := wI_w (ws' := mW E ad kp (oT (some ad2_12)) (va_up iv 30 (nI ((GL K n st).length))) (va_up (va_up ia 9 (bumpR (ia 9) (twoC n (nI P) (nI Q)))) 29 (wrL (ia 29) 0 (GL K n st))) K R mv ++ (oM E (some ad2_12) kp2_12 tr2_12 iv2_12 ia2_12 K2_12 R2_12 mv2_12)) (by rw [eia9, va_up_id (f := ia) (k := 9) (v := ia 9) rfl]; try rfl) hI
    obtain ⟨zg0, hzg0⟩ : ∃ z, z = nI ((GL K n st).length) := ⟨_, rfl⟩
    rw [← hzg0] at hI
    obtain ⟨zg1, hzg1⟩ : ∃ z, z = wrL (ia 29) 0 (GL K n st) := ⟨_, rfl⟩
    rw [← hzg1] at hI
    exact hret (zg0, zg1, (some ad2_12), kp2_12, tr2_12, iv2_12, ia2_12, K2_12, R2_12, mv2_12) (nI (cntL (2 ^ n - 1) (GL K n st)) - nI (cntL (2 ^ n - 1) (GL (knF K P Q 0) n st))) _ _ (0 + 38) (0 + 1946) _ _ dX5_closes_24 hI (by show (nI (cntL (2 ^ n - 1) (GL K n st)) - nI (cntL (2 ^ n - 1) (GL (knF K P Q 0) n st))) = gd (twoC n (nI P) (nI Q)) (clsV K n st (nI P).toNatClampNeg (nI Q).toNatClampNeg) (twoC n (nI P) (nI Q)); rw [hC]; first | rfl | (simp only [nI_clamp (n := P) (by omega), nI_clamp (n := Q) (by omega)]; rfl) | (simp only [gd_0, nI_clamp (n := P) (by omega), nI_clamp (n := Q) (by omega)]; split <;> first | rfl | contradiction)) (Nat.le_of_ble_eq_true rfl) (Nat.le_of_ble_eq_true rfl) rfl
  · skip
    have c_3 : ¬ ((0 ≤ x.toInt ∧ x.toInt < (n : Int)) ∧ (0 ≤ y.toInt ∧ y.toInt < (n : Int)) ∧ ¬ x = y) := of_decide_eq_false c_3
    refine lv_if_eq (tgt := 18) hxR hbR dX5_closes_6 (by decide) (fun _ => ?_) (fun c => absurd c (by decide))
    refine lv_aload_n hxR hbR dX5_closes_18 rfl (lv_at hl 0 rfl) ?_
    refine lv_bipush (v := (-2)) hxR hbR dX5_closes_19 (by decide) ?_
    refine kVI (n := 1) (As := [.int (-2)]) (rest := []) (fun w => w ++ (oM E ob kpb trb ivb iab Kb Rb mvb)) hxR hbR hmlR hts hown hK hA hl.1 (isCtx.suf _) hI (c5_refuse l E ad kp (oT ob) iv ia K R mv (-2) 2 (by decide) (by decide)) (lw_V q1624 q1626 qs34 q86 q1627) ⟨rfl, by decide +kernel⟩ 16 5 rfl rfl mW_o rfl (Nat.le_of_ble_eq_true rfl) (Nat.le_of_ble_eq_true rfl) ⟨Nat.le_of_ble_eq_true rfl, Nat.le_of_ble_eq_true rfl⟩ (Nat.le_of_ble_eq_true rfl) dX5_closes_21 (fun r_21 u H locs hp hI hz => ?_)
    have hI : wI E AR sR H locs (mW E ad kp (oT ob) iv (va_up ia 9 (va_up (ia 9) 2 (ia 9 2 + 1))) K R mv ++ (oM E ob kpb trb ivb iab Kb Rb mvb)) := hI
    have hp : r_21 = (-2) := hp
    have hr_21 := hp
    subst hr_21
    have hC : twoC n x y = (-2) := by
      clear hret hI
      unfold twoC
      repeat' split
      all_goals first | rfl | (exfalso; omega) | contradiction | (exfalso; simp_all; done) | simp_all
    have eia9 : bumpR (ia 9) (twoC n x y) = va_up (ia 9) 2 (ia 9 2 + 1) := by rw [hC]; exact bump_2 _
    have hI := wI_w (ws' := mW E ad kp (oT ob) (va_up iv 30 (iv 30)) (va_up (va_up ia 9 (bumpR (ia 9) (twoC n x y))) 29 (ia 29)) K R mv ++ (oM E ob kpb trb ivb iab Kb Rb mvb)) (by rw [eia9, va_up_id (f := iv) (k := 30) (v := iv 30) rfl, va_up_id (f := (va_up ia 9 (va_up (ia 9) 2 (ia 9 2 + 1)))) (k := 29) (v := ia 29) (up_n (by decide) rfl)]; try rfl) hI
    exact hret (iv 30, ia 29, ob, kpb, trb, ivb, iab, Kb, Rb, mvb) (-2) _ _ 0 0 _ _ dX5_closes_24 hI (by show (-2) = gd (twoC n x y) (clsV K n st x.toNatClampNeg y.toNatClampNeg) (twoC n x y); rw [hC]; first | rfl | (simp only [gd_0]; split <;> first | rfl | contradiction)) (Nat.le_of_ble_eq_true rfl) (Nat.le_of_ble_eq_true rfl) rfl

def cO (ob : Option (Nat → Nat)) : Nat := match ob with | none => 38 | some _ => 0
def sO (ob : Option (Nat → Nat)) : Nat := match ob with | none => 1946 | some _ => 0
theorem c5_freshO (l : Launch) (E : En) (ad : Nat → Nat) (kp : Option Nat) (iv : Nat → Int32) (ia K : Nat → Nat → Int32) (R : Nat → Nat → Int64) (mv : Nat → Int64) (ob : Option (Nat → Nat)) (kpb trb : Option Nat) (ivb : Nat → Int32) (iab Kb : Nat → Nat → Int32) (Rb : Nat → Nat → Int64) (mvb : Nat → Int64) :
    CtR l E yX5_fresh cX5_fresh 1 (.object "ThreeStrangersModel") 2 (cO ob) (sO ob) [.ref (ad 45)] (mW E ad kp (oT ob) iv ia K R mv ++ oM E ob kpb trb ivb iab Kb Rb mvb) (fun (u : (Nat → Nat) × (Option Nat) × (Option Nat) × (Nat → Int32) × (Nat → Nat → Int32) × (Nat → Nat → Int64) × (Nat → Int64)) => u.2.2.2.1 10 = iv 10 ∧ u.2.2.2.1 14 = iv 14 ∧ u.2.2.2.1 15 = iv 15 ∧ u.2.2.2.1 16 = iv 16 ∧ u.2.2.2.1 17 = iv 17 ∧ u.2.2.2.1 18 = iv 18 ∧ u.2.2.2.1 19 = iv 19 ∧ u.2.2.2.2.1 11 = ia 11 ∧ u.2.2.2.2.1 12 = ia 12) (fun (u : (Nat → Nat) × (Option Nat) × (Option Nat) × (Nat → Int32) × (Nat → Nat → Int32) × (Nat → Nat → Int64) × (Nat → Int64)) (q : Nat) => mW E ad kp (some q) iv ia K R mv ++ (mW E (va_up (u.1) 45 q) u.2.1 u.2.2.1 u.2.2.2.1 u.2.2.2.2.1 K u.2.2.2.2.2.1 u.2.2.2.2.2.2)) := by
  cases ob with
  | none =>
    have h := c5_fresh_n l E ad kp iv ia K R mv
    rw [← List.append_nil (mW E ad kp none iv ia K R mv)] at h
    exact h
  | some adb => exact c5_fresh_s0 l E ad kp iv ia K R mv adb kpb trb ivb iab Kb Rb mvb

theorem c5_closesO (l : Launch) (E : En) (ad : Nat → Nat) (kp : Option Nat) (iv : Nat → Int32) (ia K : Nat → Nat → Int32) (R : Nat → Nat → Int64) (mv : Nat → Int64) (ob : Option (Nat → Nat)) (kpb trb : Option Nat) (ivb : Nat → Int32) (iab Kb : Nat → Nat → Int32) (Rb : Nat → Nat → Int64) (mvb : Nat → Int64) (n st P Qq : Nat) (hn : iv 10 = nI n) (hst : iv 14 = nI st) (hn7 : n ≤ 7) (hs2 : 2 ≤ st) (hs4 : st ≤ 4) (hP : P < 8) (hQ : Qq < 8) : CtI l E yX5_closesOf cX5_closesOf 4 .int 12 (cO ob) (sO ob) [.ref (ad 45), .int (nI P), .int (nI Qq)] (mW E ad kp (oT ob) iv ia K R mv ++ (oM E ob kpb trb ivb iab Kb Rb mvb)) (fun (r : Int32) (u : (Nat → Nat) × (Option Nat) × (Option Nat) × (Nat → Int32) × (Nat → Nat → Int32) × (Nat → Nat → Int32) × (Nat → Nat → Int64) × (Nat → Int64)) => r = nI (cntL (2 ^ n - 1) (GL K n st)) - nI (cntL (2 ^ n - 1) (GL (knF K P Qq 0) n st))) (fun (u : (Nat → Nat) × (Option Nat) × (Option Nat) × (Nat → Int32) × (Nat → Nat → Int32) × (Nat → Nat → Int32) × (Nat → Nat → Int64) × (Nat → Int64)) => mW E ad kp (some (u.1 45)) (va_up iv 30 (nI ((GL K n st).length))) (va_up ia 29 (wrL (ia 29) 0 (GL K n st))) K R mv ++ (mW E u.1 u.2.1 u.2.2.1 u.2.2.2.1 u.2.2.2.2.1 u.2.2.2.2.2.1 u.2.2.2.2.2.2.1 u.2.2.2.2.2.2.2)) := by
  have h28 : 2 ^ n ≤ 2 ^ 7 := Nat.pow_le_pow_right (by decide) hn7
  refine CtI.of (by decide +kernel) (Nat.le_of_ble_eq_true rfl) ?_
  intro pR eR sR mR aR bR tR cR AR ls QR hxR hbR hmlR hts hown hlk hnm hA hK hI hl hret
  have hl : lv_has ls 4 [(0, .ref (ad 45)), (1, .int (nI P)), (2, .int (nI Qq))] := hl
  refine lv_aload_n hxR hbR dX5_closesOf_0 rfl (lv_at hl 0 rfl) ?_
  refine kVR (n := 0) (As := []) (rest := []) (fun w => w) hxR hbR hmlR hts hown hK hA hl.1 isCtx.id hI (c5_freshO l E ad kp iv ia K R mv ob kpb trb ivb iab Kb Rb mvb) (lw_V q1759 q1761 qs50 q86 q1762) ⟨rfl, by decide +kernel⟩ 16 5 rfl rfl (he_l mW_o) rfl (Nat.le_of_ble_eq_true rfl) (Nat.le_of_ble_eq_true rfl) ⟨Nat.le_of_eq (Nat.zero_add _), Nat.le_of_eq (Nat.zero_add _)⟩ (Nat.le_of_ble_eq_true rfl) dX5_closesOf_1 (fun u r_1 H locs hp hI hz => ?_)
  obtain ⟨adN_1, kpN_1, trN_1, ivN_1, iaN_1, RN_1, mvN_1⟩ := u
  have hp : ivN_1 10 = iv 10 ∧ ivN_1 14 = iv 14 ∧ ivN_1 15 = iv 15 ∧ ivN_1 16 = iv 16 ∧ ivN_1 17 = iv 17 ∧ ivN_1 18 = iv 18 ∧ ivN_1 19 = iv 19 ∧ iaN_1 11 = ia 11 ∧ iaN_1 12 = ia 12 := hp
  obtain ⟨hv10_1, hv14_1, hv15_1, hv16_1, hv17_1, hv18_1, hv19_1, ha11_1, ha12_1⟩ := hp
  have hI : wI E AR sR H locs (mW E ad kp (some r_1) iv ia K R mv ++ (mW E (va_up adN_1 45 r_1) kpN_1 trN_1 ivN_1 iaN_1 K RN_1 mvN_1)) := hI
  generalize hadb_1 : va_up adN_1 45 r_1 = adb_1 at hI
  have e_1 : r_1 = adb_1 45 := by rw [← hadb_1, va_up_s]
  clear hadb_1
  subst e_1
  refine lv_astore_n (lv' := [(3, .ref (adb_1 45)), (0, .ref (ad 45)), (1, .int (nI P)), (2, .int (nI Qq))]) hxR hbR dX5_closesOf_4 rfl hl (by decide) rfl (fun ls hl => ?_)
  refine lv_aload_n hxR hbR dX5_closesOf_5 rfl (lv_at hl 0 rfl) ?_
  refine lv_iload_n hxR hbR dX5_closesOf_6 rfl (lv_at hl 2 rfl) ?_
  refine lv_iload_n hxR hbR dX5_closesOf_7 rfl (lv_at hl 3 rfl) ?_
  refine lv_iconst (v := 0) hxR hbR dX5_closesOf_8 (by decide) ?_
  refine kVV (n := 3) (As := [.int (nI P), .int (nI Qq), .int 0]) (rest := []) (fun w => (mW E ad kp (some (adb_1 45)) iv ia K R mv) ++ w) hxR hbR hmlR hts hown hK hA hl.1 (isCtx.pre _) hI (c5_knows l E adb_1 kpN_1 trN_1 ivN_1 iaN_1 K RN_1 mvN_1 P Qq 0 (by first | omega | with_reducible assumption) (by first | omega | with_reducible assumption)) (lw_V q1737 q1739 qs49 q86 q1740) ⟨rfl, by decide +kernel⟩ 16 5 rfl rfl mW_o rfl (Nat.le_of_ble_eq_true rfl) (Nat.le_of_ble_eq_true rfl) ⟨Nat.le_of_eq (Nat.zero_add _), Nat.le_of_eq (Nat.zero_add _)⟩ (Nat.le_of_ble_eq_true rfl) dX5_closesOf_9 (fun u H locs hp hI hz => ?_)
  have hI : wI E AR sR H locs (mW E ad kp (some (adb_1 45)) iv ia K R mv ++ (mW E adb_1 kpN_1 trN_1 ivN_1 iaN_1 (knF K P Qq 0) RN_1 mvN_1)) := hI
  refine lv_aload_n hxR hbR dX5_closesOf_12 rfl (lv_at hl 1 rfl) ?_
  refine lv_aload_n hxR hbR dX5_closesOf_13 rfl (lv_at hl 1 rfl) ?_
  refine kVI (n := 0) (As := []) (rest := [.ref (ad 45)]) (fun w => w ++ (mW E adb_1 kpN_1 trN_1 ivN_1 iaN_1 (knF K P Qq 0) RN_1 mvN_1)) hxR hbR hmlR hts hown hK hA hl.1 (isCtx.suf _) hI (c5_all l E ad kp (some (adb_1 45)) iv ia K R mv n hn (by omega)) (lw_V q1664 q1666 qs36 q86 q1667) ⟨rfl, by decide +kernel⟩ 16 5 rfl rfl mW_o rfl (Nat.le_of_ble_eq_true rfl) (Nat.le_of_ble_eq_true rfl) ⟨Nat.le_of_eq (Nat.zero_add _), Nat.le_of_eq (Nat.zero_add _)⟩ (Nat.le_of_ble_eq_true rfl) dX5_closesOf_14 (fun r_14 u H locs hp hI hz => ?_)
  have hI : wI E AR sR H locs (mW E ad kp (some (adb_1 45)) iv ia K R mv ++ (mW E adb_1 kpN_1 trN_1 ivN_1 iaN_1 (knF K P Qq 0) RN_1 mvN_1)) := hI
  have hp : r_14 = nI (2 ^ n - 1) := hp
  have hr_14 := hp
  subst hr_14
  refine kVI (n := 1) (As := [.int (nI (2 ^ n - 1))]) (rest := []) (fun w => w ++ (mW E adb_1 kpN_1 trN_1 ivN_1 iaN_1 (knF K P Qq 0) RN_1 mvN_1)) hxR hbR hmlR hts hown hK hA hl.1 (isCtx.suf _) hI (c5_groupsOf l E ad kp (some (adb_1 45)) iv ia K R mv n st (2 ^ n - 1) hn hst (by omega) (by first | omega | with_reducible assumption) (by first | omega | with_reducible assumption)) (lw_V q1874 q1876 qs65 q86 q1877) ⟨rfl, by decide +kernel⟩ 16 5 rfl rfl mW_o rfl (Nat.le_of_ble_eq_true rfl) (Nat.le_of_ble_eq_true rfl) ⟨Nat.le_of_eq (Nat.zero_add _), Nat.le_of_eq (Nat.zero_add _)⟩ (Nat.le_of_ble_eq_true rfl) dX5_closesOf_17 (fun r_17 u H locs hp hI hz => ?_)
  have hI : wI E AR sR H locs (mW E ad kp (some (adb_1 45)) (va_up iv 30 (nI ((GL K n st).length))) (va_up ia 29 (wrL (ia 29) 0 (GL K n st))) K R mv ++ (mW E adb_1 kpN_1 trN_1 ivN_1 iaN_1 (knF K P Qq 0) RN_1 mvN_1)) := hI
  have hp : r_17 = nI (cntL (2 ^ n - 1) (GL K n st)) := hp
  have hr_17 := hp
  subst hr_17
  refine lv_aload_n hxR hbR dX5_closesOf_20 rfl (lv_at hl 0 rfl) ?_
  refine lv_aload_n hxR hbR dX5_closesOf_21 rfl (lv_at hl 1 rfl) ?_
  refine kVI (n := 0) (As := []) (rest := [.ref (adb_1 45), .int (nI (cntL (2 ^ n - 1) (GL K n st)))]) (fun w => w ++ (mW E adb_1 kpN_1 trN_1 ivN_1 iaN_1 (knF K P Qq 0) RN_1 mvN_1)) hxR hbR hmlR hts hown hK hA hl.1 (isCtx.suf _) hI (c5_all l E ad kp (some (adb_1 45)) (va_up iv 30 (nI ((GL K n st).length))) (va_up ia 29 (wrL (ia 29) 0 (GL K n st))) K R mv n (up_n (by decide) hn) (by omega)) (lw_V q1664 q1666 qs36 q86 q1667) ⟨rfl, by decide +kernel⟩ 16 5 rfl rfl mW_o rfl (Nat.le_of_ble_eq_true rfl) (Nat.le_of_ble_eq_true rfl) ⟨Nat.le_of_eq (Nat.zero_add _), Nat.le_of_eq (Nat.zero_add _)⟩ (Nat.le_of_ble_eq_true rfl) dX5_closesOf_22 (fun r_22 u H locs hp hI hz => ?_)
  have hI : wI E AR sR H locs (mW E ad kp (some (adb_1 45)) (va_up iv 30 (nI ((GL K n st).length))) (va_up ia 29 (wrL (ia 29) 0 (GL K n st))) K R mv ++ (mW E adb_1 kpN_1 trN_1 ivN_1 iaN_1 (knF K P Qq 0) RN_1 mvN_1)) := hI
  have hp : r_22 = nI (2 ^ n - 1) := hp
  have hr_22 := hp
  subst hr_22
  refine kVI (n := 1) (As := [.int (nI (2 ^ n - 1))]) (rest := [.int (nI (cntL (2 ^ n - 1) (GL K n st)))]) (fun w => (mW E ad kp (some (adb_1 45)) (va_up iv 30 (nI ((GL K n st).length))) (va_up ia 29 (wrL (ia 29) 0 (GL K n st))) K R mv) ++ w) hxR hbR hmlR hts hown hK hA hl.1 (isCtx.pre _) hI (c5_groupsOf l E adb_1 kpN_1 trN_1 ivN_1 iaN_1 (knF K P Qq 0) RN_1 mvN_1 n st (2 ^ n - 1) (Eq.trans hv10_1 hn) (Eq.trans hv14_1 hst) (by omega) (by first | omega | with_reducible assumption) (by first | omega | with_reducible assumption)) (lw_V q1874 q1876 qs65 q86 q1877) ⟨rfl, by decide +kernel⟩ 16 5 rfl rfl mW_o rfl (Nat.le_of_ble_eq_true rfl) (Nat.le_of_ble_eq_true rfl) ⟨Nat.le_of_eq (Nat.zero_add _), Nat.le_of_eq (Nat.zero_add _)⟩ (Nat.le_of_ble_eq_true rfl) dX5_closesOf_25 (fun r_25 u H locs hp hI hz => ?_)
  have hI : wI E AR sR H locs (mW E ad kp (some (adb_1 45)) (va_up iv 30 (nI ((GL K n st).length))) (va_up ia 29 (wrL (ia 29) 0 (GL K n st))) K R mv ++ (mW E adb_1 kpN_1 trN_1 (va_up ivN_1 30 (nI ((GL (knF K P Qq 0) n st).length))) (va_up iaN_1 29 (wrL (iaN_1 29) 0 (GL (knF K P Qq 0) n st))) (knF K P Qq 0) RN_1 mvN_1)) := hI
  have hp : r_25 = nI (cntL (2 ^ n - 1) (GL (knF K P Qq 0) n st)) := hp
  have hr_25 := hp
  subst hr_25
  refine lv_isub hxR hbR dX5_closesOf_28 ?_
  exact hret (adb_1, kpN_1, trN_1, (va_up ivN_1 30 (nI ((GL (knF K P Qq 0) n st).length))), (va_up iaN_1 29 (wrL (iaN_1 29) 0 (GL (knF K P Qq 0) n st))), knF K P Qq 0, RN_1, mvN_1) ((nI (cntL (2 ^ n - 1) (GL K n st))) - (nI (cntL (2 ^ n - 1) (GL (knF K P Qq 0) n st)))) _ _ _ _ _ _ dX5_closesOf_29 hI (by show ((nI (cntL (2 ^ n - 1) (GL K n st))) - (nI (cntL (2 ^ n - 1) (GL (knF K P Qq 0) n st)))) = nI (cntL (2 ^ n - 1) (GL K n st)) - nI (cntL (2 ^ n - 1) (GL (knF K P Qq 0) n st)); rfl) (Nat.le_of_eq (Nat.zero_add _)) (Nat.le_of_eq (Nat.zero_add _)) rfl

theorem c5_worst (l : Launch) (E : En) (ad : Nat → Nat) (kp : Option Nat) (iv : Nat → Int32) (ia K : Nat → Nat → Int32) (R : Nat → Nat → Int64) (mv : Nat → Int64) (ob : Option (Nat → Nat)) (kpb trb : Option Nat) (ivb : Nat → Int32) (iab Kb : Nat → Nat → Int32) (Rb : Nat → Nat → Int64) (mvb : Nat → Int64) (n st : Nat) (hn : iv 10 = nI n) (hst : iv 14 = nI st) (hn7 : n ≤ 7) (hs2 : 2 ≤ st) (hs4 : st ≤ 4) : CtI l E yX5_worst cX5_worst 6 .int 30 38 1946 [.ref (ad 45)] (mW E ad kp (oT ob) iv ia K R mv ++ (oM E ob kpb trb ivb iab Kb Rb mvb)) (fun (r : Int32) (u : Int32 × (Nat → Int32) × (Option (Nat → Nat)) × (Option Nat) × (Option Nat) × (Nat → Int32) × (Nat → Nat → Int32) × (Nat → Nat → Int32) × (Nat → Nat → Int64) × (Nat → Int64)) => r = gd (worstC K n st) ((wsI K n st n).1) (worstC K n st)) (fun (u : Int32 × (Nat → Int32) × (Option (Nat → Nat)) × (Option Nat) × (Option Nat) × (Nat → Int32) × (Nat → Nat → Int32) × (Nat → Nat → Int32) × (Nat → Nat → Int64) × (Nat → Int64)) => mW E ad kp (oT u.2.2.1) (va_up iv 30 u.1) (va_up (va_up ia 9 (bumpR (ia 9) (worstC K n st))) 29 u.2.1) K R mv ++ (oM E u.2.2.1 u.2.2.2.1 u.2.2.2.2.1 u.2.2.2.2.2.1 u.2.2.2.2.2.2.1 u.2.2.2.2.2.2.2.1 u.2.2.2.2.2.2.2.2.1 u.2.2.2.2.2.2.2.2.2)) := by
  have h28 : 2 ^ n ≤ 2 ^ 7 := Nat.pow_le_pow_right (by decide) hn7
  refine CtI.of (by decide +kernel) (Nat.le_of_ble_eq_true rfl) ?_
  intro pR eR sR mR aR bR tR cR AR ls QR hxR hbR hmlR hts hown hlk hnm hA hK hI hl hret
  have hl : lv_has ls 6 [(0, .ref (ad 45))] := hl
  refine lv_iconst (v := (-1)) hxR hbR dX5_worst_0 (by decide) ?_
  refine lv_istore_n (lv' := [(1, .int (-1)), (0, .ref (ad 45))]) hxR hbR dX5_worst_1 rfl hl (by decide) rfl (fun ls hl => ?_)
  refine lv_iconst (v := (-1)) hxR hbR dX5_worst_2 (by decide) ?_
  refine lv_istore_n (lv' := [(2, .int (-1)), (1, .int (-1)), (0, .ref (ad 45))]) hxR hbR dX5_worst_3 rfl hl (by decide) rfl (fun ls hl => ?_)
  refine lv_iconst (v := 0) hxR hbR dX5_worst_4 (by decide) ?_
  refine lv_istore_n (lv' := [(3, .int 0), (2, .int (-1)), (1, .int (-1)), (0, .ref (ad 45))]) hxR hbR dX5_worst_5 rfl hl (by decide) rfl (fun ls hl => ?_)
  have hI := wI_w (ws' := mW E ad kp (oT ob) (va_up iv 30 (iv 30)) ia K R mv ++ (oM E ob kpb trb ivb iab Kb Rb mvb)) (by rw [va_up_id (f := iv) (k := 30) (v := iv 30) rfl]) hI
  have hI := wI_w (ws' := mW E ad kp (oT ob) (va_up iv 30 (iv 30)) (va_up ia 29 (ia 29)) K R mv ++ (oM E ob kpb trb ivb iab Kb Rb mvb)) (by rw [va_up_id (f := ia) (k := 29) (v := ia 29) rfl]) hI
  have lp_6 : ∀ (fu : Nat) (p : Nat) (b : Int32) (v : Int32) (c30 : Int32) (g29 : Nat → Int32) (obx : Option (Nat → Nat)) (kpx : Option Nat) (trx : Option Nat) (ivx : Nat → Int32) (iax : Nat → Nat → Int32) (Kx : Nat → Nat → Int32) (Rx : Nat → Nat → Int64) (mvx : Nat → Int64) (cN : Nat) (sN : Nat), (p ≤ n) → ((b, v) = wsI K n st p) → (cN + cO obx ≤ 38) → (sN + sO obx ≤ 1946) → n - p < fu → ∀ (H : Heap) (locs : List Loc), wI E AR sR H locs (mW E ad kp (oT obx) (va_up iv 30 c30) (va_up ia 29 g29) K R mv ++ (oM E obx kpx trx ivx iax Kx Rx mvx)) → ∀ ls : Array Slot, lv_has ls 6 [(0, .ref (ad 45)), (1, .int b), (2, .int v), (3, .int (nI p))] → W pR l eR (rmF 30 38 1946) sR mR aR bR tR cR H locs cN sN QR (F0 mR 6 ls []) := by
    intro fu
    induction fu with
    | zero =>
      intro p b v c30 g29 obx kpx trx ivx iax Kx Rx mvx cN sN hp9 hb hcN hsN hfu
      exact absurd hfu (Nat.not_lt_zero _)
    | succ fu ih_6 =>
      intro p b v c30 g29 obx kpx trx ivx iax Kx Rx mvx cN sN hp9 hb hcN hsN hfu H locs hI ls hl
      refine lv_iload_n hxR hbR dX5_worst_6 rfl (lv_at hl 3 rfl) ?_
      refine lv_aload_n hxR hbR dX5_worst_7 rfl (lv_at hl 0 rfl) ?_
      refine r_get hxR hbR hts hown hK hI okX5 (ci := 5) rfl 16 (he_l mW_o) 10 (by decide) q1488 rfl (v := .int (nI n)) (al (up_n (by decide) hn)) dX5_worst_8 ?_
      refine lv_icmp_ge (tgt := 79) hxR hbR dX5_worst_11 (by decide) (fun c_11 => ?_) (fun c_11 => ?_)
      · skip
        have c_11 : n ≤ p := (n_le (a := n) (b := p) (by omega) (by omega)).mp c_11
        refine lv_iload_n hxR hbR dX5_worst_79 rfl (lv_at hl 1 rfl) ?_
        refine lv_iconst (v := (-1)) hxR hbR dX5_worst_80 (by decide) ?_
        refine lv_icmp_ne (tgt := 93) hxR hbR dX5_worst_81 (by decide) (fun c_81 => ?_) (fun c_81 => ?_)
        · skip
          have i_81 : ¬ (b.toInt = (-1)) := by have zz := mt i_eq.mpr c_81; exact zz
          refine lv_iload_n hxR hbR dX5_worst_93 rfl (lv_at hl 1 rfl) ?_
          have hC : worstC K n st = 0 := by
            rw [show p = n by omega] at hb
            clear hret hI
            unfold worstC; rw [← hb]; exact if_neg c_81
          have eia9 : bumpR (ia 9) (worstC K n st) = ia 9 := by rw [hC]; exact bump_0 _
          have hI := wI_w (ws' := mW E ad kp (oT obx) (va_up iv 30 c30) (va_up (va_up ia 9 (bumpR (ia 9) (worstC K n st))) 29 g29) K R mv ++ (oM E obx kpx trx ivx iax Kx Rx mvx)) (by rw [eia9, va_up_id (f := ia) (k := 9) (v := ia 9) rfl]; try rfl) hI
          exact hret (c30, g29, obx, kpx, trx, ivx, iax, Kx, Rx, mvx) b _ _ cN sN _ _ dX5_worst_94 hI (by show b = gd (worstC K n st) ((wsI K n st n).1) (worstC K n st); rw [hC]; have hpn : p = n := (by omega); rw [hpn] at hb; rw [← hb]; try rfl) (by omega) (by omega) rfl
        · skip
          have i_81 : b.toInt = (-1) := by have zz := i_eq.mp c_81; exact zz
          refine lv_aload_n hxR hbR dX5_worst_84 rfl (lv_at hl 0 rfl) ?_
          refine lv_bipush (v := (-5)) hxR hbR dX5_worst_85 (by decide) ?_
          refine kVI (n := 1) (As := [.int (-5)]) (rest := []) (fun w => w ++ (oM E obx kpx trx ivx iax Kx Rx mvx)) hxR hbR hmlR hts hown hK hA hl.1 (isCtx.suf _) hI (c5_refuse l E ad kp (oT obx) (va_up iv 30 c30) (va_up ia 29 g29) K R mv (-5) 5 (by decide) (by decide)) (lw_V q1624 q1626 qs34 q86 q1627) ⟨rfl, by decide +kernel⟩ 16 5 rfl rfl mW_o rfl (Nat.le_of_ble_eq_true rfl) (Nat.le_of_ble_eq_true rfl) ⟨by omega, by omega⟩ (Nat.le_of_ble_eq_true rfl) dX5_worst_87 (fun r_87 u H locs hp hI hz => ?_)
          have hI : wI E AR sR H locs (mW E ad kp (oT obx) (va_up iv 30 c30) (va_up (va_up ia 29 g29) 9 (va_up ((ia 9)) 5 ((ia 9) 5 + 1))) K R mv ++ (oM E obx kpx trx ivx iax Kx Rx mvx)) := hI
          have hI := wI_w (ws' := mW E ad kp (oT obx) (va_up iv 30 c30) (va_up (va_up ia 9 (va_up ((ia 9)) 5 ((ia 9) 5 + 1))) 29 g29) K R mv ++ (oM E obx kpx trx ivx iax Kx Rx mvx)) (by rw [(show (va_up (va_up ia 9 (va_up ((ia 9)) 5 ((ia 9) 5 + 1))) 29 g29) = (va_up (va_up ia 29 g29) 9 (va_up ((ia 9)) 5 ((ia 9) 5 + 1))) from ((up_s (by decide) rfl)).symm)]) hI
          have hI : wI E AR sR H locs (mW E ad kp (oT obx) (va_up iv 30 c30) (va_up (va_up ia 9 (va_up ((ia 9)) 5 ((ia 9) 5 + 1))) 29 g29) K R mv ++ (oM E obx kpx trx ivx iax Kx Rx mvx)) := hI
          have hp : r_87 = (-5) := hp
          have hr_87 := hp
          subst hr_87
          refine lv_goto (tgt := 94) hxR hbR dX5_worst_90 (by decide) ?_
          have hC : worstC K n st = (-5) := by
            rw [show p = n by omega] at hb
            clear hret hI
            unfold worstC; rw [← hb]; exact if_pos c_81
          have eia9 : bumpR (ia 9) (worstC K n st) = va_up ((ia 9)) 5 ((ia 9) 5 + 1) := by rw [hC]; exact bump_5 _
          have hI := wI_w (ws' := mW E ad kp (oT obx) (va_up iv 30 c30) (va_up (va_up ia 9 (bumpR (ia 9) (worstC K n st))) 29 g29) K R mv ++ (oM E obx kpx trx ivx iax Kx Rx mvx)) (by rw [eia9]; try rfl) hI
          exact hret (c30, g29, obx, kpx, trx, ivx, iax, Kx, Rx, mvx) (-5) _ _ cN sN _ _ dX5_worst_94 hI (by show (-5) = gd (worstC K n st) ((wsI K n st n).1) (worstC K n st); rw [hC]; first | rfl | (simp only [gd_0]; split <;> first | rfl | contradiction)) (by omega) (by omega) rfl
      · skip
        have c_11 : p < n := Nat.lt_of_not_le (fun zz => c_11 ((n_le (a := n) (b := p) (by omega) (by omega)).mpr zz))
        refine lv_iload_n hxR hbR dX5_worst_14 rfl (lv_at hl 3 rfl) ?_
        refine lv_iconst (v := 1) hxR hbR dX5_worst_15 (by decide) ?_
        refine lv_iadd hxR hbR dX5_worst_16 ?_
        refine lv_as (y := nI (p + 1)) (nI_add p 1) ?_
        refine lv_istore (lv' := [(4, .int (nI (p + 1))), (0, .ref (ad 45)), (1, .int b), (2, .int v), (3, .int (nI p))]) hxR hbR dX5_worst_17 hl (by decide) rfl (fun ls hl => ?_)
        have lp_19 : ∀ (fu : Nat) (q : Nat) (b2 : Int32) (v2 : Int32) (c302 : Int32) (g292 : Nat → Int32) (obx2 : Option (Nat → Nat)) (kpx2 : Option Nat) (trx2 : Option Nat) (ivx2 : Nat → Int32) (iax2 : Nat → Nat → Int32) (Kx2 : Nat → Nat → Int32) (Rx2 : Nat → Nat → Int64) (mvx2 : Nat → Int64) (cN2 : Nat) (sN2 : Nat), (p < q ∧ q ≤ n) → ((b2, v2) = wsJ K n st p (wsI K n st p) q) → (cN2 + cO obx2 ≤ 38) → (sN2 + sO obx2 ≤ 1946) → n - q < fu → ∀ (H : Heap) (locs : List Loc), wI E AR sR H locs (mW E ad kp (oT obx2) (va_up iv 30 c302) (va_up ia 29 g292) K R mv ++ (oM E obx2 kpx2 trx2 ivx2 iax2 Kx2 Rx2 mvx2)) → ∀ ls : Array Slot, lv_has ls 6 [(0, .ref (ad 45)), (1, .int b2), (2, .int v2), (3, .int (nI p)), (4, .int (nI q))] → W pR l eR (rmF 30 38 1946) sR mR aR bR tR cR H locs cN2 sN2 QR (F0 mR 19 ls []) := by
          intro fu
          induction fu with
          | zero =>
            intro q b2 v2 c302 g292 obx2 kpx2 trx2 ivx2 iax2 Kx2 Rx2 mvx2 cN2 sN2 hq9 hb2 hcN2 hsN2 hfu
            exact absurd hfu (Nat.not_lt_zero _)
          | succ fu ih_19 =>
            intro q b2 v2 c302 g292 obx2 kpx2 trx2 ivx2 iax2 Kx2 Rx2 mvx2 cN2 sN2 hq9 hb2 hcN2 hsN2 hfu H locs hI ls hl
            refine lv_iload hxR hbR dX5_worst_19 (lv_at hl 4 rfl) ?_
            refine lv_aload_n hxR hbR dX5_worst_21 rfl (lv_at hl 0 rfl) ?_
            refine r_get hxR hbR hts hown hK hI okX5 (ci := 5) rfl 16 (he_l mW_o) 10 (by decide) q1488 rfl (v := .int (nI n)) (al (up_n (by decide) hn)) dX5_worst_22 ?_
            refine lv_icmp_ge (tgt := 73) hxR hbR dX5_worst_25 (by decide) (fun c_25 => ?_) (fun c_25 => ?_)
            · skip
              have c_25 : n ≤ q := (n_le (a := n) (b := q) (by omega) (by omega)).mp c_25
              refine lv_iinc (v := nI (p + 1)) (lv' := [(3, .int (nI (p + 1))), (0, .ref (ad 45)), (1, .int b2), (2, .int v2), (4, .int (nI q))]) hxR hbR dX5_worst_73 hl (k := 3) rfl (show nI p + 1 = nI (p + 1) from nI_add _ 1) (by decide) rfl (fun ls hl => ?_)
              refine lv_goto (tgt := 6) hxR hbR dX5_worst_76 (by decide) ?_
              exact ih_6 (p + 1) b2 v2 c302 g292 obx2 kpx2 trx2 ivx2 iax2 Kx2 Rx2 mvx2 cN2 sN2 (by first | omega | with_reducible assumption) (by rw [hb2, show q = n by omega]; rfl) (by first | omega | with_reducible assumption) (by first | omega | with_reducible assumption) (by omega) _ _ hI _ (lv_sub hl [1, 2, 3, 0] rfl)
            · skip
              have c_25 : q < n := Nat.lt_of_not_le (fun zz => c_25 ((n_le (a := n) (b := q) (by omega) (by omega)).mpr zz))
              refine lv_aload_n hxR hbR dX5_worst_28 rfl (lv_at hl 0 rfl) ?_
              refine r_get hxR hbR hts hown hK hI okX5 (ci := 5) rfl 16 (he_l mW_o) 13 (by decide) q1491 rfl (v := .ref (ad 13)) rfl dX5_worst_29 ?_
              refine lv_iload_n hxR hbR dX5_worst_32 rfl (lv_at hl 3 rfl) ?_
              refine r_aald hxR hbR hK hI 28 2 (r := ad (50 + p)) rfl rfl (n := 8) (J := p) (he_l rfl) (by omega) (by decide) rfl dX5_worst_33 ?_
              refine lv_iload hxR hbR dX5_worst_34 (lv_at hl 4 rfl) ?_
              refine r_iald hxR hbR hK hI p (n := 8) (J := q) (f := K p) (v := (K p) q) (he_l (mW_K p (by omega))) (by omega) (by decide) rfl dX5_worst_36 ?_
              refine lv_iconst (v := (-1)) hxR hbR dX5_worst_37 (by decide) ?_
              refine lv_icmp_ne (tgt := 67) hxR hbR dX5_worst_38 (by decide) (fun c_38 => ?_) (fun c_38 => ?_)
              · skip
                have i_38 : ¬ (((K p) q).toInt = (-1)) := by have zz := mt i_eq.mpr c_38; exact zz
                refine lv_iinc (v := nI (q + 1)) (lv' := [(4, .int (nI (q + 1))), (0, .ref (ad 45)), (1, .int b2), (2, .int v2), (3, .int (nI p))]) hxR hbR dX5_worst_67 hl (k := 4) rfl (show nI q + 1 = nI (q + 1) from nI_add _ 1) (by decide) rfl (fun ls hl => ?_)
                refine lv_goto (tgt := 19) hxR hbR dX5_worst_70 (by decide) ?_
                exact ih_19 (q + 1) b2 v2 c302 g292 obx2 kpx2 trx2 ivx2 iax2 Kx2 Rx2 mvx2 cN2 sN2 ⟨by omega, by omega⟩ (by rw [wsJ_y hq9.1, ← hb2]; first | exact (wsG_n1 c_38).symm | exact (wsG_n2 (b := (b2, v2)) c_53).symm | exact (wsG_y (b := (b2, v2)) c_38 (Int32.not_le.mp c_53)).symm) (by first | with_reducible assumption | (show _ + 0 ≤ _; omega)) (by first | with_reducible assumption | (show _ + 0 ≤ _; omega)) (by omega) _ _ hI _ (lv_sub hl [1, 2, 3, 4, 0] rfl)
              · skip
                have i_38 : ((K p) q).toInt = (-1) := by have zz := i_eq.mp c_38; exact zz
                refine lv_aload_n hxR hbR dX5_worst_41 rfl (lv_at hl 0 rfl) ?_
                refine lv_iload_n hxR hbR dX5_worst_42 rfl (lv_at hl 3 rfl) ?_
                refine lv_iload hxR hbR dX5_worst_43 (lv_at hl 4 rfl) ?_
                refine kVI (n := 2) (As := [.int (nI p), .int (nI q)]) (rest := []) (fun w => w) hxR hbR hmlR hts hown hK hA hl.1 isCtx.id hI (c5_closesO l E ad kp (va_up iv 30 c302) (va_up ia 29 g292) K R mv obx2 kpx2 trx2 ivx2 iax2 Kx2 Rx2 mvx2 n st p q (up_n (by decide) hn) (up_n (by decide) hst) (by first | omega | with_reducible assumption) (by first | omega | with_reducible assumption) (by first | omega | with_reducible assumption) (by omega) (by first | omega | with_reducible assumption)) (lw_V q1977 q1979 qs75 q86 q1980) ⟨rfl, by decide +kernel⟩ 16 5 rfl rfl (he_l mW_o) rfl (Nat.le_of_ble_eq_true rfl) (Nat.le_of_ble_eq_true rfl) ⟨by omega, by omega⟩ (Nat.le_of_ble_eq_true rfl) dX5_worst_45 (fun r_45 u H locs hp hI hz => ?_)
                obtain ⟨ad2_45, kp2_45, tr2_45, iv2_45, ia2_45, K2_45, R2_45, mv2_45⟩ := u
                have hI : wI E AR sR H locs (mW E ad kp (some (ad2_45 45)) (va_up (va_up iv 30 c302) 30 (nI ((GL K n st).length))) (va_up (va_up ia 29 g292) 29 (wrL (g292) 0 (GL K n st))) K R mv ++ (mW E ad2_45 kp2_45 tr2_45 iv2_45 ia2_45 K2_45 R2_45 mv2_45)) := hI
                have hI := wI_w (ws' := mW E ad kp (some (ad2_45 45)) (va_up iv 30 (nI ((GL K n st).length))) (va_up ia 29 (wrL (g292) 0 (GL K n st))) K R mv ++ (mW E ad2_45 kp2_45 tr2_45 iv2_45 ia2_45 K2_45 R2_45 mv2_45)) (by rw [(show (va_up iv 30 (nI ((GL K n st).length))) = (va_up (va_up iv 30 c302) 30 (nI ((GL K n st).length))) from (up_0).symm), (show (va_up ia 29 (wrL (g292) 0 (GL K n st))) = (va_up (va_up ia 29 g292) 29 (wrL (g292) 0 (GL K n st))) from (up_0).symm)]) hI
                have hI : wI E AR sR H locs (mW E ad kp (some (ad2_45 45)) (va_up iv 30 (nI ((GL K n st).length))) (va_up ia 29 (wrL (g292) 0 (GL K n st))) K R mv ++ (mW E ad2_45 kp2_45 tr2_45 iv2_45 ia2_45 K2_45 R2_45 mv2_45)) := hI
                have hp : r_45 = nI (cntL (2 ^ n - 1) (GL K n st)) - nI (cntL (2 ^ n - 1) (GL (knF K p q 0) n st)) := hp
                have hr_45 := hp
                subst hr_45
                refine lv_istore (lv' := [(5, .int (nI (cntL (2 ^ n - 1) (GL K n st)) - nI (cntL (2 ^ n - 1) (GL (knF K p q 0) n st)))), (0, .ref (ad 45)), (1, .int b2), (2, .int v2), (3, .int (nI p)), (4, .int (nI q))]) hxR hbR dX5_worst_48 hl (by decide) rfl (fun ls hl => ?_)
                refine lv_iload hxR hbR dX5_worst_50 (lv_at hl 0 rfl) ?_
                refine lv_iload_n hxR hbR dX5_worst_52 rfl (lv_at hl 3 rfl) ?_
                refine lv_icmp_le (tgt := 67) hxR hbR dX5_worst_53 (by decide) (fun c_53 => ?_) (fun c_53 => ?_)
                · skip
                  have i_53 : (nI (cntL (2 ^ n - 1) (GL K n st)) - nI (cntL (2 ^ n - 1) (GL (knF K p q 0) n st))).toInt ≤ v2.toInt := by have zz := i_le.mp c_53; exact zz
                  refine lv_iinc (v := nI (q + 1)) (lv' := [(4, .int (nI (q + 1))), (5, .int (nI (cntL (2 ^ n - 1) (GL K n st)) - nI (cntL (2 ^ n - 1) (GL (knF K p q 0) n st)))), (0, .ref (ad 45)), (1, .int b2), (2, .int v2), (3, .int (nI p))]) hxR hbR dX5_worst_67 hl (k := 5) rfl (show nI q + 1 = nI (q + 1) from nI_add _ 1) (by decide) rfl (fun ls hl => ?_)
                  refine lv_goto (tgt := 19) hxR hbR dX5_worst_70 (by decide) ?_
                  exact ih_19 (q + 1) b2 v2 (nI ((GL K n st).length)) (wrL (g292) 0 (GL K n st)) (some ad2_45) kp2_45 tr2_45 iv2_45 ia2_45 K2_45 R2_45 mv2_45 (cN2 + (cO obx2)) (sN2 + (sO obx2)) ⟨by omega, by omega⟩ (by rw [wsJ_y hq9.1, ← hb2]; first | exact (wsG_n1 c_38).symm | exact (wsG_n2 (b := (b2, v2)) c_53).symm | exact (wsG_y (b := (b2, v2)) c_38 (Int32.not_le.mp c_53)).symm) (by first | with_reducible assumption | (show _ + 0 ≤ _; omega)) (by first | with_reducible assumption | (show _ + 0 ≤ _; omega)) (by omega) _ _ hI _ (lv_sub hl [2, 3, 4, 5, 0] rfl)
                · skip
                  have i_53 : ¬ ((nI (cntL (2 ^ n - 1) (GL K n st)) - nI (cntL (2 ^ n - 1) (GL (knF K p q 0) n st))).toInt ≤ v2.toInt) := by have zz := mt i_le.mpr c_53; exact zz
                  refine lv_bipush (v := 10) hxR hbR dX5_worst_56 (by decide) ?_
                  refine lv_iload_n hxR hbR dX5_worst_58 rfl (lv_at hl 4 rfl) ?_
                  refine lv_imul hxR hbR dX5_worst_59 ?_
                  refine lv_as (y := nI (10 * p)) (pk_mul 10 p) ?_
                  refine lv_iload hxR hbR dX5_worst_60 (lv_at hl 5 rfl) ?_
                  refine lv_iadd hxR hbR dX5_worst_62 ?_
                  refine lv_as (y := nI ((10 * p) + q)) (nI_add (10 * p) q) ?_
                  refine lv_istore_n (lv' := [(1, .int (nI ((10 * p) + q))), (5, .int (nI (cntL (2 ^ n - 1) (GL K n st)) - nI (cntL (2 ^ n - 1) (GL (knF K p q 0) n st)))), (0, .ref (ad 45)), (2, .int v2), (3, .int (nI p)), (4, .int (nI q))]) hxR hbR dX5_worst_63 rfl hl (by decide) rfl (fun ls hl => ?_)
                  refine lv_iload hxR hbR dX5_worst_64 (lv_at hl 1 rfl) ?_
                  refine lv_istore_n (lv' := [(2, .int (nI (cntL (2 ^ n - 1) (GL K n st)) - nI (cntL (2 ^ n - 1) (GL (knF K p q 0) n st)))), (1, .int (nI ((10 * p) + q))), (5, .int (nI (cntL (2 ^ n - 1) (GL K n st)) - nI (cntL (2 ^ n - 1) (GL (knF K p q 0) n st)))), (0, .ref (ad 45)), (3, .int (nI p)), (4, .int (nI q))]) hxR hbR dX5_worst_66 rfl hl (by decide) rfl (fun ls hl => ?_)
                  refine lv_iinc (v := nI (q + 1)) (lv' := [(4, .int (nI (q + 1))), (2, .int (nI (cntL (2 ^ n - 1) (GL K n st)) - nI (cntL (2 ^ n - 1) (GL (knF K p q 0) n st)))), (1, .int (nI ((10 * p) + q))), (5, .int (nI (cntL (2 ^ n - 1) (GL K n st)) - nI (cntL (2 ^ n - 1) (GL (knF K p q 0) n st)))), (0, .ref (ad 45)), (3, .int (nI p))]) hxR hbR dX5_worst_67 hl (k := 5) rfl (show nI q + 1 = nI (q + 1) from nI_add _ 1) (by decide) rfl (fun ls hl => ?_)
                  refine lv_goto (tgt := 19) hxR hbR dX5_worst_70 (by decide) ?_
                  exact ih_19 (q + 1) (nI ((10 * p) + q)) (nI (cntL (2 ^ n - 1) (GL K n st)) - nI (cntL (2 ^ n - 1) (GL (knF K p q 0) n st))) (nI ((GL K n st).length)) (wrL (g292) 0 (GL K n st)) (some ad2_45) kp2_45 tr2_45 iv2_45 ia2_45 K2_45 R2_45 mv2_45 (cN2 + (cO obx2)) (sN2 + (sO obx2)) ⟨by omega, by omega⟩ (by rw [wsJ_y hq9.1, ← hb2]; first | exact (wsG_n1 c_38).symm | exact (wsG_n2 (b := (b2, v2)) c_53).symm | exact (wsG_y (b := (b2, v2)) c_38 (Int32.not_le.mp c_53)).symm) (by first | with_reducible assumption | (show _ + 0 ≤ _; omega)) (by first | with_reducible assumption | (show _ + 0 ≤ _; omega)) (by omega) _ _ hI _ (lv_sub hl [4, 2, 1, 5, 0] rfl)
        exact lp_19 _ (p + 1) b v c30 g29 obx kpx trx ivx iax Kx Rx mvx cN sN ⟨by omega, by omega⟩ (by rw [wsJ_0 (Nat.le_refl _)]; exact hb) (by first | omega | with_reducible assumption) (by first | omega | with_reducible assumption) (Nat.lt_succ_self _) _ _ hI _ (lv_sub hl [1, 2, 3, 4, 0] rfl)
  exact lp_6 _ 0 (-1) (-1) (iv 30) (ia 29) ob kpb trb ivb iab Kb Rb mvb 0 0 (by first | omega | with_reducible assumption) rfl (by cases ob; exact Nat.le_refl _; exact Nat.le_of_ble_eq_true rfl) (by cases ob; exact Nat.le_refl _; exact Nat.le_of_ble_eq_true rfl) (Nat.lt_succ_self _) _ _ hI _ (lv_sub hl [3, 2, 1, 0] rfl)

theorem c5_wrongCoach (l : Launch) (E : En) (ad : Nat → Nat) (kp tr : Option Nat) (iv : Nat → Int32) (ia K : Nat → Nat → Int32) (R : Nat → Nat → Int64) (mv : Nat → Int64) (n st P N : Nat) (hn : iv 10 = nI n) (hst : iv 14 = nI st) (hn7 : n ≤ 7) (hs2 : 2 ≤ st) (hs4 : st ≤ 4) (hP : P < 8) (hN : N < 8) : CtI l E yX5_wrongCoach cX5_wrongCoach 4 .int 3 0 0 [.ref (ad 45), .ref (ad (60 + P)), .int (nI N)] (mW E ad kp tr iv ia K R mv) (fun (r : Int32) (u : Int32) => r = wrV K n st (R P) N ∧ (r = -1 → u = nI (rode (R P) N))) (fun (u : Int32) => mW E ad kp tr (va_up iv 44 u) ia K R mv) := by
  have h28 : 2 ^ n ≤ 2 ^ 7 := Nat.pow_le_pow_right (by decide) hn7
  refine CtI.of (by decide +kernel) (Nat.le_of_ble_eq_true rfl) ?_
  intro pR eR sR mR aR bR tR cR AR ls QR hxR hbR hmlR hts hown hlk hnm hA hK hI hl hret
  have hl : lv_has ls 4 [(0, .ref (ad 45)), (1, .ref (ad (60 + P))), (2, .int (nI N))] := hl
  refine lv_aload_n hxR hbR dX5_wrongCoach_0 rfl (lv_at hl 0 rfl) ?_
  refine lv_iconst (v := 0) hxR hbR dX5_wrongCoach_1 (by decide) ?_
  refine r_put (v := .int 0) (ws1 := mW E ad kp tr (va_up iv 44 0) ia K R mv) hxR hbR hts hown hK hI okX5 (ci := 5) rfl 16 mW_o 44 (by decide) q1522 rfl rfl rfl rfl (Nat.le_of_ble_eq_true rfl) mW_i44 dX5_wrongCoach_2 (fun H locs hI => ?_)
  refine lv_iconst (v := 0) hxR hbR dX5_wrongCoach_5 (by decide) ?_
  refine lv_istore_n (lv' := [(3, .int 0), (0, .ref (ad 45)), (1, .ref (ad (60 + P))), (2, .int (nI N))]) hxR hbR dX5_wrongCoach_6 rfl hl (by decide) rfl (fun ls hl => ?_)
  have lp_7 : ∀ (fu : Nat) (i : Nat) (rd : Nat), (i ≤ N) → (rd = rode (R P) i) → (∀ j, j < i → okT K n st (R P) j = true) → N - i < fu → ∀ (H : Heap) (locs : List Loc), wI E AR sR H locs (mW E ad kp tr (va_up iv 44 (nI rd)) ia K R mv) → ∀ ls : Array Slot, lv_has ls 4 [(0, .ref (ad 45)), (1, .ref (ad (60 + P))), (2, .int (nI N)), (3, .int (nI i))] → W pR l eR (rmF 3 0 0) sR mR aR bR tR cR H locs 0 0 QR (F0 mR 7 ls []) := by
    intro fu
    induction fu with
    | zero =>
      intro i rd hi hrd hok hfu
      exact absurd hfu (Nat.not_lt_zero _)
    | succ fu ih_7 =>
      intro i rd hi hrd hok hfu H locs hI ls hl
      have hrl : rode (R P) i < 2 ^ n := rode_lt (fun j hj => okT_lt (hok j hj))
      refine lv_iload_n hxR hbR dX5_wrongCoach_7 rfl (lv_at hl 3 rfl) ?_
      refine lv_iload_n hxR hbR dX5_wrongCoach_8 rfl (lv_at hl 2 rfl) ?_
      refine lv_icmp_ge (tgt := 71) hxR hbR dX5_wrongCoach_9 (by decide) (fun c_9 => ?_) (fun c_9 => ?_)
      · skip
        have c_9 : N ≤ i := (n_le (a := N) (b := i) (by omega) (by omega)).mp c_9
        refine lv_iconst (v := (-1)) hxR hbR dX5_wrongCoach_71 (by decide) ?_
        have hiN : i = N := by omega
        exact hret (nI rd) (-1) _ _ _ _ _ _ dX5_wrongCoach_72 hI (by show (-1) = wrV K n st (R P) N ∧ ((-1) = -1 → (nI rd) = nI (rode (R P) N)); exact ⟨(wrG_y (fun j hj => hok j (by omega))).symm, fun _ => by rw [hrd, hiN]⟩) (Nat.le_of_ble_eq_true rfl) (Nat.le_of_ble_eq_true rfl) rfl
      · skip
        have c_9 : i < N := Nat.lt_of_not_le (fun zz => c_9 ((n_le (a := N) (b := i) (by omega) (by omega)).mpr zz))
        refine lv_aload_n hxR hbR dX5_wrongCoach_12 rfl (lv_at hl 1 rfl) ?_
        refine lv_iload_n hxR hbR dX5_wrongCoach_13 rfl (lv_at hl 3 rfl) ?_
        refine r_lald hxR hbR hK hI (8 + P) (n := 40) (J := i) (f := R P) (v := (R P) i) (mW_R P hP) (by omega) (by decide) rfl dX5_wrongCoach_14 ?_
        refine lv_lconst (v := 0) hxR hbR dX5_wrongCoach_15 (by decide) ?_
        refine lv_aload_n hxR hbR dX5_wrongCoach_16 rfl (lv_at hl 0 rfl) ?_
        refine kVI (n := 0) (As := []) (rest := [.long (0 : Int64), .long ((R P) i)]) (fun w => w) hxR hbR hmlR hts hown hK hA hl.1 isCtx.id hI (c5_all l E ad kp tr (va_up iv 44 (nI rd)) ia K R mv n (up_n (by decide) hn) (by omega)) (lw_V q1664 q1666 qs36 q86 q1667) ⟨rfl, by decide +kernel⟩ 16 5 rfl rfl mW_o rfl (Nat.le_of_ble_eq_true rfl) (Nat.le_of_ble_eq_true rfl) ⟨Nat.le_of_ble_eq_true rfl, Nat.le_of_ble_eq_true rfl⟩ (Nat.le_of_ble_eq_true rfl) dX5_wrongCoach_17 (fun r_17 u H locs hp hI hz => ?_)
        have hI : wI E AR sR H locs (mW E ad kp tr (va_up iv 44 (nI rd)) ia K R mv) := hI
        have hp : r_17 = nI (2 ^ n - 1) := hp
        have hr_17 := hp
        subst hr_17
        refine lv_i2l (v := (nI (2 ^ n - 1)).toInt64) hxR hbR dX5_wrongCoach_20 rfl ?_
        refine kSI (n := 3) (As := [.long ((R P) i), .long (0 : Int64), .long ((nI (2 ^ n - 1)).toInt64)]) (rest := []) (fun w => w ++ (mW E ad kp tr (va_up iv 44 (nI rd)) ia K R mv)) hxR hbR hmlR hts hown hK hA hl.1 (isCtx.suf _) hI (c5_in l E  ((R P) i) (0 : Int64) ((nI (2 ^ n - 1)).toInt64) ) (lw_S q1619 q1620 q86 q1621) (by decide +kernel) rfl (Nat.le_of_ble_eq_true rfl) (Nat.le_of_ble_eq_true rfl) ⟨Nat.le_of_ble_eq_true rfl, Nat.le_of_ble_eq_true rfl⟩ (Nat.le_of_ble_eq_true rfl) dX5_wrongCoach_21 (fun r_21 u H locs hp hI hz => ?_)
        have hI : wI E AR sR H locs (mW E ad kp tr (va_up iv 44 (nI rd)) ia K R mv) := hI
        have hp : r_21 = b2i (inL ((R P) i) (0 : Int64) ((nI (2 ^ n - 1)).toInt64)) := hp
        have hr_21 := hp
        rcases b2i_cases hr_21 with ⟨c_21, rfl⟩ | ⟨c_21, rfl⟩
        · skip
          have c_21 : (0 : Int64).toInt ≤ ((R P) i).toInt ∧ ((R P) i).toInt ≤ ((nI (2 ^ n - 1)).toInt64).toInt := of_decide_eq_true c_21
          have c_21 : 0 ≤ (R P i).toInt ∧ (R P i).toInt ≤ ((2 ^ n - 1 : Nat) : Int) := by simp only [Int32.toInt_toInt64] at c_21; rw [nI_toInt (by omega)] at c_21; exact c_21
          have htl : tS (R P) i < 2 ^ n := by have := Nat.two_pow_pos n; unfold tS; omega
          refine lv_if_eq (tgt := 50) hxR hbR dX5_wrongCoach_24 (by decide) (fun c => absurd c (by decide)) (fun _ => ?_)
          refine lv_aload_n hxR hbR dX5_wrongCoach_27 rfl (lv_at hl 0 rfl) ?_
          refine lv_aload_n hxR hbR dX5_wrongCoach_28 rfl (lv_at hl 1 rfl) ?_
          refine lv_iload_n hxR hbR dX5_wrongCoach_29 rfl (lv_at hl 3 rfl) ?_
          refine r_lald hxR hbR hK hI (8 + P) (n := 40) (J := i) (f := R P) (v := (R P) i) (mW_R P hP) (by omega) (by decide) rfl dX5_wrongCoach_30 ?_
          refine lv_l2i (v := ((R P) i).toInt32) hxR hbR dX5_wrongCoach_31 rfl ?_
          refine lv_as (y := nI (tS (R P) i)) (tS_int c_21 (by omega)) ?_
          refine kVI (n := 1) (As := [.int (nI (tS (R P) i))]) (rest := []) (fun w => w) hxR hbR hmlR hts hown hK hA hl.1 isCtx.id hI (c5_isGroupNow l E ad kp tr (va_up iv 44 (nI rd)) ia K R mv n st (tS (R P) i) (up_n (by decide) hn) (up_n (by decide) hst) (by omega) (by first | omega | with_reducible assumption) (by omega)) (lw_V q1866 q1868 qs64 q86 q1869) ⟨rfl, by decide +kernel⟩ 16 5 rfl rfl mW_o rfl (Nat.le_of_ble_eq_true rfl) (Nat.le_of_ble_eq_true rfl) ⟨Nat.le_of_ble_eq_true rfl, Nat.le_of_ble_eq_true rfl⟩ (Nat.le_of_ble_eq_true rfl) dX5_wrongCoach_32 (fun r_32 u H locs hp hI hz => ?_)
          have hI : wI E AR sR H locs (mW E ad kp tr (va_up iv 44 (nI rd)) ia K R mv) := hI
          have hp : r_32 = b2i (isGrp K n st (tS (R P) i)) := hp
          have hr_32 := hp
          rcases b2i_cases hr_32 with ⟨c_32, rfl⟩ | ⟨c_32, rfl⟩
          · skip
            have c_32 : bitsN (tS (R P) i) 8 = st ∧ ∀ p, p < n → ∀ q, q < p → (tS (R P) i).testBit p = true → (tS (R P) i).testBit q = true → K p q = -1 := of_decide_eq_true c_32
            have g_32 : isGrp K n st (tS (R P) i) = true := decide_eq_true c_32
            refine lv_if_eq (tgt := 50) hxR hbR dX5_wrongCoach_35 (by decide) (fun c => absurd c (by decide)) (fun _ => ?_)
            refine lv_aload_n hxR hbR dX5_wrongCoach_38 rfl (lv_at hl 1 rfl) ?_
            refine lv_iload_n hxR hbR dX5_wrongCoach_39 rfl (lv_at hl 3 rfl) ?_
            refine r_lald hxR hbR hK hI (8 + P) (n := 40) (J := i) (f := R P) (v := (R P) i) (mW_R P hP) (by omega) (by decide) rfl dX5_wrongCoach_40 ?_
            refine lv_l2i (v := ((R P) i).toInt32) hxR hbR dX5_wrongCoach_41 rfl ?_
            refine lv_as (y := nI (tS (R P) i)) (tS_int c_21 (by omega)) ?_
            refine lv_aload_n hxR hbR dX5_wrongCoach_42 rfl (lv_at hl 0 rfl) ?_
            refine r_get hxR hbR hts hown hK hI okX5 (ci := 5) rfl 16 mW_o 44 (by decide) q1522 rfl (v := .int (nI rd)) (al va_up_s) dX5_wrongCoach_43 ?_
            refine lv_iand hxR hbR dX5_wrongCoach_46 ?_
            refine lv_as (y := nI ((tS (R P) i) &&& rd)) (nb_and (tS (R P) i) rd) ?_
            refine lv_if_eq (tgt := 52) hxR hbR dX5_wrongCoach_47 (by decide) (fun c_47 => ?_) (fun c_47 => ?_)
            · skip
              have c_47 : ((tS (R P) i) &&& rd) = 0 := (n_eq (a := ((tS (R P) i) &&& rd)) (b := 0) (by have := @Nat.and_le_left (tS (R P) i) rd; omega) (by decide)).mp c_47
              refine lv_aload_n hxR hbR dX5_wrongCoach_52 rfl (lv_at hl 0 rfl) ?_
              refine lv_dup hxR hbR dX5_wrongCoach_53 rfl ?_
              refine r_get hxR hbR hts hown hK hI okX5 (ci := 5) rfl 16 mW_o 44 (by decide) q1522 rfl (v := .int (nI rd)) (al va_up_s) dX5_wrongCoach_54 ?_
              refine lv_aload_n hxR hbR dX5_wrongCoach_57 rfl (lv_at hl 1 rfl) ?_
              refine lv_iload_n hxR hbR dX5_wrongCoach_58 rfl (lv_at hl 3 rfl) ?_
              refine r_lald hxR hbR hK hI (8 + P) (n := 40) (J := i) (f := R P) (v := (R P) i) (mW_R P hP) (by omega) (by decide) rfl dX5_wrongCoach_59 ?_
              refine lv_l2i (v := ((R P) i).toInt32) hxR hbR dX5_wrongCoach_60 rfl ?_
              refine lv_as (y := nI (tS (R P) i)) (tS_int c_21 (by omega)) ?_
              refine lv_ior hxR hbR dX5_wrongCoach_61 ?_
              refine lv_as (y := nI (rd ||| (tS (R P) i))) (nb_or rd (tS (R P) i)) ?_
              refine r_put (v := .int (nI (rd ||| (tS (R P) i)))) (ws1 := mW E ad kp tr (va_up iv 44 (nI (rd ||| (tS (R P) i)))) ia K R mv) hxR hbR hts hown hK hI okX5 (ci := 5) rfl 16 mW_o 44 (by decide) q1522 rfl rfl rfl rfl (Nat.le_of_ble_eq_true rfl) (Eq.trans mW_i44 (mW_c1 up_0)) dX5_wrongCoach_62 (fun H locs hI => ?_)
              refine lv_iinc (v := nI (i + 1)) (lv' := [(3, .int (nI (i + 1))), (0, .ref (ad 45)), (1, .ref (ad (60 + P))), (2, .int (nI N))]) hxR hbR dX5_wrongCoach_65 hl (k := 3) rfl (show nI i + 1 = nI (i + 1) from nI_add _ 1) (by decide) rfl (fun ls hl => ?_)
              refine lv_goto (tgt := 7) hxR hbR dX5_wrongCoach_68 (by decide) ?_
              exact ih_7 (i + 1) (rd ||| (tS (R P) i)) (by first | omega | with_reducible assumption) (by rw [hrd]; rfl) (wr_s hok (okT_t c_21 g_32 (hrd ▸ c_47))) (by omega) _ _ hI _ (lv_sub hl [1, 2, 3, 0] rfl)
            · skip
              have c_47 : ¬ ((tS (R P) i) &&& rd) = 0 := fun zz => c_47 ((n_eq (a := ((tS (R P) i) &&& rd)) (b := 0) (by have := @Nat.and_le_left (tS (R P) i) rd; omega) (by decide)).mpr zz)
              refine lv_iload_n hxR hbR dX5_wrongCoach_50 rfl (lv_at hl 3 rfl) ?_
              exact hret (nI rd) (nI i) _ _ _ _ _ _ dX5_wrongCoach_51 hI (by show (nI i) = wrV K n st (R P) N ∧ ((nI i) = -1 → (nI rd) = nI (rode (R P) N)); exact ⟨by first | exact (wrG_n hok (okT_f1 c_21) (by omega) c_9 (by omega)).symm | exact (wrG_n hok (okT_f2 g_32) (by omega) c_9 (by omega)).symm | exact (wrG_n hok (okT_f3 (hrd ▸ c_47)) (by omega) c_9 (by omega)).symm, fun h => by have h9 := congrArg Int32.toInt h; rw [nI_toInt (by omega)] at h9; have h8 : (-1 : Int32).toInt = -1 := rfl; omega⟩) (Nat.le_of_ble_eq_true rfl) (Nat.le_of_ble_eq_true rfl) rfl
          · skip
            have c_32 : ¬ (bitsN (tS (R P) i) 8 = st ∧ ∀ p, p < n → ∀ q, q < p → (tS (R P) i).testBit p = true → (tS (R P) i).testBit q = true → K p q = -1) := of_decide_eq_false c_32
            have g_32 : isGrp K n st (tS (R P) i) = false := decide_eq_false c_32
            refine lv_if_eq (tgt := 50) hxR hbR dX5_wrongCoach_35 (by decide) (fun _ => ?_) (fun c => absurd c (by decide))
            refine lv_iload_n hxR hbR dX5_wrongCoach_50 rfl (lv_at hl 3 rfl) ?_
            exact hret (nI rd) (nI i) _ _ _ _ _ _ dX5_wrongCoach_51 hI (by show (nI i) = wrV K n st (R P) N ∧ ((nI i) = -1 → (nI rd) = nI (rode (R P) N)); exact ⟨by first | exact (wrG_n hok (okT_f1 c_21) (by omega) c_9 (by omega)).symm | exact (wrG_n hok (okT_f2 g_32) (by omega) c_9 (by omega)).symm | exact (wrG_n hok (okT_f3 (hrd ▸ c_47)) (by omega) c_9 (by omega)).symm, fun h => by have h9 := congrArg Int32.toInt h; rw [nI_toInt (by omega)] at h9; have h8 : (-1 : Int32).toInt = -1 := rfl; omega⟩) (Nat.le_of_ble_eq_true rfl) (Nat.le_of_ble_eq_true rfl) rfl
        · skip
          have c_21 : ¬ ((0 : Int64).toInt ≤ ((R P) i).toInt ∧ ((R P) i).toInt ≤ ((nI (2 ^ n - 1)).toInt64).toInt) := of_decide_eq_false c_21
          have c_21 : ¬ (0 ≤ (R P i).toInt ∧ (R P i).toInt ≤ ((2 ^ n - 1 : Nat) : Int)) := by simp only [Int32.toInt_toInt64] at c_21; rw [nI_toInt (by omega)] at c_21; exact c_21
          refine lv_if_eq (tgt := 50) hxR hbR dX5_wrongCoach_24 (by decide) (fun _ => ?_) (fun c => absurd c (by decide))
          refine lv_iload_n hxR hbR dX5_wrongCoach_50 rfl (lv_at hl 3 rfl) ?_
          exact hret (nI rd) (nI i) _ _ _ _ _ _ dX5_wrongCoach_51 hI (by show (nI i) = wrV K n st (R P) N ∧ ((nI i) = -1 → (nI rd) = nI (rode (R P) N)); exact ⟨by first | exact (wrG_n hok (okT_f1 c_21) (by omega) c_9 (by omega)).symm | exact (wrG_n hok (okT_f2 g_32) (by omega) c_9 (by omega)).symm | exact (wrG_n hok (okT_f3 (hrd ▸ c_47)) (by omega) c_9 (by omega)).symm, fun h => by have h9 := congrArg Int32.toInt h; rw [nI_toInt (by omega)] at h9; have h8 : (-1 : Int32).toInt = -1 := rfl; omega⟩) (Nat.le_of_ble_eq_true rfl) (Nat.le_of_ble_eq_true rfl) rfl
  exact lp_7 _ 0 0 (by first | omega | with_reducible assumption) rfl (fun j h => absurd h (Nat.not_lt_zero _)) (Nat.lt_succ_self _) _ _ hI _ (lv_sub hl [1, 2, 3, 0] rfl)

theorem c5_noDay (l : Launch) (E : En) (ad : Nat → Nat) (kp tr : Option Nat) (iv : Nat → Int32) (ia K : Nat → Nat → Int32) (R : Nat → Nat → Int64) (mv : Nat → Int64) (x k : Int32) (hsz : ∀ P, P < 8 → ∃ k, k ≤ 40 ∧ ia 2 P = nI k) : CtI l E yX5_noDay cX5_noDay 4 .int 3 0 0 [.ref (ad 45), .int x, .int k] (mW E ad kp tr iv ia K R mv) (fun (r : Int32) (u : Unit) => r = noDayV (ia 0) (ia 2) x k) (fun (u : Unit) => mW E ad kp tr iv (va_up ia 9 (bumpR (ia 9) (noDayV (ia 0) (ia 2) x k))) K R mv) := by
  refine CtI.of (by decide +kernel) (Nat.le_of_ble_eq_true rfl) ?_
  intro pR eR sR mR aR bR tR cR AR ls QR hxR hbR hmlR hts hown hlk hnm hA hK hI hl hret
  have hl : lv_has ls 4 [(0, .ref (ad 45)), (1, .int x), (2, .int k)] := hl
  refine lv_iload_n hxR hbR dX5_noDay_0 rfl (lv_at hl 1 rfl) ?_
  refine lv_i2l (v := x.toInt64) hxR hbR dX5_noDay_1 rfl ?_
  refine lv_lconst (v := 0) hxR hbR dX5_noDay_2 (by decide) ?_
  refine lv_ldc2 (v := 7) hxR hbR hown (hts _ q1618) dX5_noDay_3 ?_
  refine kSI (n := 3) (As := [.long x.toInt64, .long (0 : Int64), .long (7 : Int64)]) (rest := []) (fun w => w ++ (mW E ad kp tr iv ia K R mv)) hxR hbR hmlR hts hown hK hA hl.1 (isCtx.suf _) hI (c5_in l E  x.toInt64 (0 : Int64) (7 : Int64) ) (lw_S q1619 q1620 q86 q1621) (by decide +kernel) rfl (Nat.le_of_ble_eq_true rfl) (Nat.le_of_ble_eq_true rfl) ⟨Nat.le_of_ble_eq_true rfl, Nat.le_of_ble_eq_true rfl⟩ (Nat.le_of_ble_eq_true rfl) dX5_noDay_6 (fun r_6 u H locs hp hI hz => ?_)
  have hI : wI E AR sR H locs (mW E ad kp tr iv ia K R mv) := hI
  have hp : r_6 = b2i (inL x.toInt64 (0 : Int64) (7 : Int64)) := hp
  have hr_6 := hp
  rcases b2i_cases hr_6 with ⟨c_6, rfl⟩ | ⟨c_6, rfl⟩
  · skip
    have c_6 : (0 : Int64).toInt ≤ x.toInt64.toInt ∧ x.toInt64.toInt ≤ (7 : Int64).toInt := of_decide_eq_true c_6
    have c_6 : 0 ≤ x.toInt ∧ x.toInt ≤ 7 := by simp only [Int32.toInt_toInt64] at c_6; exact c_6
    refine lv_if_eq (tgt := 24) hxR hbR dX5_noDay_9 (by decide) (fun c => absurd c (by decide)) (fun _ => ?_)
    refine lv_iload_n hxR hbR dX5_noDay_12 rfl (lv_at hl 2 rfl) ?_
    refine lv_i2l (v := k.toInt64) hxR hbR dX5_noDay_13 rfl ?_
    refine lv_lconst (v := 0) hxR hbR dX5_noDay_14 (by decide) ?_
    refine lv_ldc2 (v := 7) hxR hbR hown (hts _ q1618) dX5_noDay_15 ?_
    refine kSI (n := 3) (As := [.long k.toInt64, .long (0 : Int64), .long (7 : Int64)]) (rest := []) (fun w => w ++ (mW E ad kp tr iv ia K R mv)) hxR hbR hmlR hts hown hK hA hl.1 (isCtx.suf _) hI (c5_in l E  k.toInt64 (0 : Int64) (7 : Int64) ) (lw_S q1619 q1620 q86 q1621) (by decide +kernel) rfl (Nat.le_of_ble_eq_true rfl) (Nat.le_of_ble_eq_true rfl) ⟨Nat.le_of_ble_eq_true rfl, Nat.le_of_ble_eq_true rfl⟩ (Nat.le_of_ble_eq_true rfl) dX5_noDay_18 (fun r_18 u H locs hp hI hz => ?_)
    have hI : wI E AR sR H locs (mW E ad kp tr iv ia K R mv) := hI
    have hp : r_18 = b2i (inL k.toInt64 (0 : Int64) (7 : Int64)) := hp
    have hr_18 := hp
    rcases b2i_cases hr_18 with ⟨c_18, rfl⟩ | ⟨c_18, rfl⟩
    · skip
      have c_18 : (0 : Int64).toInt ≤ k.toInt64.toInt ∧ k.toInt64.toInt ≤ (7 : Int64).toInt := of_decide_eq_true c_18
      have c_18 : 0 ≤ k.toInt ∧ k.toInt ≤ 7 := by simp only [Int32.toInt_toInt64] at c_18; exact c_18
      obtain ⟨N, hN, rfl⟩ := nat_of_le (k := 7) c_18 (by decide)
      have tN : (nI N).toInt = (N : Int) := nI_toInt (by omega)
      refine lv_if_ne (tgt := 31) hxR hbR dX5_noDay_21 (by decide) (fun _ => ?_) (fun c => absurd c (by decide))
      refine lv_aload_n hxR hbR dX5_noDay_31 rfl (lv_at hl 0 rfl) ?_
      refine lv_iload_n hxR hbR dX5_noDay_32 rfl (lv_at hl 1 rfl) ?_
      refine kVI (n := 1) (As := [.int x]) (rest := []) (fun w => w) hxR hbR hmlR hts hown hK hA hl.1 isCtx.id hI (c5_noRow l E ad kp tr iv ia K R mv x ) (lw_V q1632 q1634 qs35 q86 q1635) ⟨rfl, by decide +kernel⟩ 16 5 rfl rfl mW_o rfl (Nat.le_of_ble_eq_true rfl) (Nat.le_of_ble_eq_true rfl) ⟨Nat.le_of_ble_eq_true rfl, Nat.le_of_ble_eq_true rfl⟩ (Nat.le_of_ble_eq_true rfl) dX5_noDay_33 (fun r_33 u H locs hp hI hz => ?_)
      have hI : wI E AR sR H locs (mW E ad kp tr iv (va_up ia 9 (bumpR (ia 9) (noRowV (ia 0) x))) K R mv) := hI
      have hp : r_33 = noRowV (ia 0) x := hp
      have hr_33 := hp
      subst hr_33
      refine lv_istore_n (lv' := [(3, .int (noRowV (ia 0) x)), (0, .ref (ad 45)), (1, .int x), (2, .int (nI N))]) hxR hbR dX5_noDay_36 rfl hl (by decide) rfl (fun ls hl => ?_)
      refine lv_iload_n hxR hbR dX5_noDay_37 rfl (lv_at hl 0 rfl) ?_
      refine lv_if_eq (tgt := 43) hxR hbR dX5_noDay_38 (by decide) (fun c_38 => ?_) (fun c_38 => ?_)
      · skip
        have i_38 : (noRowV (ia 0) x).toInt = 0 := by have zz := i_eq.mp c_38; exact zz
        obtain ⟨P, hP, rfl⟩ := nr8 c_38
        have tP : (nI P).toInt = (P : Int) := nI_toInt (by omega)
        obtain ⟨z9, hz9, hz8⟩ := hsz P hP
        have hzc : (ia 2 P).toNatClampNeg = z9 := by rw [hz8]; exact nI_clamp (by omega)
        have hI := wI_w (ws' := mW E ad kp tr iv ia K R mv) (by rw [c_38, bump_0, va_up_id (f := ia) (k := 9) (v := ia 9) rfl]) hI
        refine lv_aload_n hxR hbR dX5_noDay_43 rfl (lv_at hl 1 rfl) ?_
        refine r_get hxR hbR hts hown hK hI okX5 (ci := 5) rfl 16 mW_o 2 (by decide) q1480 rfl (v := .ref (ad 2)) rfl dX5_noDay_44 ?_
        refine lv_iload_n hxR hbR dX5_noDay_47 rfl (lv_at hl 2 rfl) ?_
        refine r_iald hxR hbR hK hI 19 (n := 8) (J := P) (f := ia 2) (v := nI z9) (mW_g2 rfl) (by omega) (by decide) hz8 dX5_noDay_48 ?_
        refine lv_iload_n hxR hbR dX5_noDay_49 rfl (lv_at hl 3 rfl) ?_
        refine lv_icmp_ge (tgt := 62) hxR hbR dX5_noDay_50 (by decide) (fun c_50 => ?_) (fun c_50 => ?_)
        · skip
          have c_50 : N ≤ z9 := (n_le (a := N) (b := z9) (by omega) (by omega)).mp c_50
          refine lv_iconst (v := 0) hxR hbR dX5_noDay_62 (by decide) ?_
          have hC : noDayV (ia 0) (ia 2) (nI P) (nI N) = 0 := by
            clear hret hI
            unfold noDayV; rw [if_pos ⟨c_6, c_18⟩, if_pos c_38, nI_clamp (n := P) (by omega), hzc]; first | exact if_pos (by omega) | exact if_neg (by omega)
          have eia9 : bumpR (ia 9) (noDayV (ia 0) (ia 2) (nI P) (nI N)) = ia 9 := by rw [hC]; exact bump_0 _
          have hI := wI_w (ws' := mW E ad kp tr iv (va_up ia 9 (bumpR (ia 9) (noDayV (ia 0) (ia 2) (nI P) (nI N)))) K R mv) (by rw [eia9, va_up_id (f := ia) (k := 9) (v := ia 9) rfl]; try rfl) hI
          exact hret () 0 _ _ 0 0 _ _ dX5_noDay_63 hI (by show 0 = noDayV (ia 0) (ia 2) (nI P) (nI N); exact hC.symm) (Nat.le_of_ble_eq_true rfl) (Nat.le_of_ble_eq_true rfl) rfl
        · skip
          have c_50 : z9 < N := Nat.lt_of_not_le (fun zz => c_50 ((n_le (a := N) (b := z9) (by omega) (by omega)).mpr zz))
          refine lv_aload_n hxR hbR dX5_noDay_53 rfl (lv_at hl 1 rfl) ?_
          refine lv_bipush (v := (-2)) hxR hbR dX5_noDay_54 (by decide) ?_
          refine kVI (n := 1) (As := [.int (-2)]) (rest := []) (fun w => w) hxR hbR hmlR hts hown hK hA hl.1 isCtx.id hI (c5_refuse l E ad kp tr iv ia K R mv (-2) 2 (by decide) (by decide)) (lw_V q1624 q1626 qs34 q86 q1627) ⟨rfl, by decide +kernel⟩ 16 5 rfl rfl mW_o rfl (Nat.le_of_ble_eq_true rfl) (Nat.le_of_ble_eq_true rfl) ⟨Nat.le_of_ble_eq_true rfl, Nat.le_of_ble_eq_true rfl⟩ (Nat.le_of_ble_eq_true rfl) dX5_noDay_56 (fun r_56 u H locs hp hI hz => ?_)
          have hI : wI E AR sR H locs (mW E ad kp tr iv (va_up ia 9 (va_up (ia 9) 2 (ia 9 2 + 1))) K R mv) := hI
          have hp : r_56 = (-2) := hp
          have hr_56 := hp
          subst hr_56
          refine lv_goto (tgt := 63) hxR hbR dX5_noDay_59 (by decide) ?_
          have hC : noDayV (ia 0) (ia 2) (nI P) (nI N) = (-2) := by
            clear hret hI
            unfold noDayV; rw [if_pos ⟨c_6, c_18⟩, if_pos c_38, nI_clamp (n := P) (by omega), hzc]; first | exact if_pos (by omega) | exact if_neg (by omega)
          have eia9 : bumpR (ia 9) (noDayV (ia 0) (ia 2) (nI P) (nI N)) = va_up (ia 9) 2 (ia 9 2 + 1) := by rw [hC]; exact bump_2 _
          have hI := wI_w (ws' := mW E ad kp tr iv (va_up ia 9 (bumpR (ia 9) (noDayV (ia 0) (ia 2) (nI P) (nI N)))) K R mv) (by rw [eia9]; try rfl) hI
          exact hret () (-2) _ _ 0 0 _ _ dX5_noDay_63 hI (by show (-2) = noDayV (ia 0) (ia 2) (nI P) (nI N); exact hC.symm) (Nat.le_of_ble_eq_true rfl) (Nat.le_of_ble_eq_true rfl) rfl
      · skip
        have i_38 : ¬ ((noRowV (ia 0) x).toInt = 0) := by have zz := mt i_eq.mpr c_38; exact zz
        refine lv_iload_n hxR hbR dX5_noDay_41 rfl (lv_at hl 0 rfl) ?_
        have hC : noDayV (ia 0) (ia 2) x (nI N) = noRowV (ia 0) x := by
          clear hret hI
          unfold noDayV; rw [if_pos ⟨c_6, c_18⟩]; exact if_neg c_38
        have eia9 : bumpR (ia 9) (noDayV (ia 0) (ia 2) x (nI N)) = bumpR (ia 9) (noRowV (ia 0) x) := by rw [hC]
        have hI := wI_w (ws' := mW E ad kp tr iv (va_up ia 9 (bumpR (ia 9) (noDayV (ia 0) (ia 2) x (nI N)))) K R mv) (by rw [eia9]; try rfl) hI
        exact hret () (noRowV (ia 0) x) _ _ 0 0 _ _ dX5_noDay_42 hI (by show (noRowV (ia 0) x) = noDayV (ia 0) (ia 2) x (nI N); exact hC.symm) (Nat.le_of_ble_eq_true rfl) (Nat.le_of_ble_eq_true rfl) rfl
    · skip
      have c_18 : ¬ ((0 : Int64).toInt ≤ k.toInt64.toInt ∧ k.toInt64.toInt ≤ (7 : Int64).toInt) := of_decide_eq_false c_18
      have c_18 : ¬ (0 ≤ k.toInt ∧ k.toInt ≤ 7) := by simp only [Int32.toInt_toInt64] at c_18; exact c_18
      refine lv_if_ne (tgt := 31) hxR hbR dX5_noDay_21 (by decide) (fun c => absurd c (by decide)) (fun _ => ?_)
      refine lv_aload_n hxR hbR dX5_noDay_24 rfl (lv_at hl 0 rfl) ?_
      refine lv_bipush (v := (-2)) hxR hbR dX5_noDay_25 (by decide) ?_
      refine kVI (n := 1) (As := [.int (-2)]) (rest := []) (fun w => w) hxR hbR hmlR hts hown hK hA hl.1 isCtx.id hI (c5_refuse l E ad kp tr iv ia K R mv (-2) 2 (by decide) (by decide)) (lw_V q1624 q1626 qs34 q86 q1627) ⟨rfl, by decide +kernel⟩ 16 5 rfl rfl mW_o rfl (Nat.le_of_ble_eq_true rfl) (Nat.le_of_ble_eq_true rfl) ⟨Nat.le_of_ble_eq_true rfl, Nat.le_of_ble_eq_true rfl⟩ (Nat.le_of_ble_eq_true rfl) dX5_noDay_27 (fun r_27 u H locs hp hI hz => ?_)
      have hI : wI E AR sR H locs (mW E ad kp tr iv (va_up ia 9 (va_up (ia 9) 2 (ia 9 2 + 1))) K R mv) := hI
      have hp : r_27 = (-2) := hp
      have hr_27 := hp
      subst hr_27
      have hC : noDayV (ia 0) (ia 2) x k = (-2) := by
        clear hret hI
        unfold noDayV
        repeat' split
        all_goals first | rfl | (exfalso; omega) | contradiction | (exfalso; simp_all; done) | simp_all
      have eia9 : bumpR (ia 9) (noDayV (ia 0) (ia 2) x k) = va_up (ia 9) 2 (ia 9 2 + 1) := by rw [hC]; exact bump_2 _
      have hI := wI_w (ws' := mW E ad kp tr iv (va_up ia 9 (bumpR (ia 9) (noDayV (ia 0) (ia 2) x k))) K R mv) (by rw [eia9]; try rfl) hI
      exact hret () (-2) _ _ 0 0 _ _ dX5_noDay_30 hI (by show (-2) = noDayV (ia 0) (ia 2) x k; exact hC.symm) (Nat.le_of_ble_eq_true rfl) (Nat.le_of_ble_eq_true rfl) rfl
  · skip
    have c_6 : ¬ ((0 : Int64).toInt ≤ x.toInt64.toInt ∧ x.toInt64.toInt ≤ (7 : Int64).toInt) := of_decide_eq_false c_6
    have c_6 : ¬ (0 ≤ x.toInt ∧ x.toInt ≤ 7) := by simp only [Int32.toInt_toInt64] at c_6; exact c_6
    refine lv_if_eq (tgt := 24) hxR hbR dX5_noDay_9 (by decide) (fun _ => ?_) (fun c => absurd c (by decide))
    refine lv_aload_n hxR hbR dX5_noDay_24 rfl (lv_at hl 0 rfl) ?_
    refine lv_bipush (v := (-2)) hxR hbR dX5_noDay_25 (by decide) ?_
    refine kVI (n := 1) (As := [.int (-2)]) (rest := []) (fun w => w) hxR hbR hmlR hts hown hK hA hl.1 isCtx.id hI (c5_refuse l E ad kp tr iv ia K R mv (-2) 2 (by decide) (by decide)) (lw_V q1624 q1626 qs34 q86 q1627) ⟨rfl, by decide +kernel⟩ 16 5 rfl rfl mW_o rfl (Nat.le_of_ble_eq_true rfl) (Nat.le_of_ble_eq_true rfl) ⟨Nat.le_of_ble_eq_true rfl, Nat.le_of_ble_eq_true rfl⟩ (Nat.le_of_ble_eq_true rfl) dX5_noDay_27 (fun r_27 u H locs hp hI hz => ?_)
    have hI : wI E AR sR H locs (mW E ad kp tr iv (va_up ia 9 (va_up (ia 9) 2 (ia 9 2 + 1))) K R mv) := hI
    have hp : r_27 = (-2) := hp
    have hr_27 := hp
    subst hr_27
    have hC : noDayV (ia 0) (ia 2) x k = (-2) := by
      clear hret hI
      unfold noDayV
      repeat' split
      all_goals first | rfl | (exfalso; omega) | contradiction | (exfalso; simp_all; done) | simp_all
    have eia9 : bumpR (ia 9) (noDayV (ia 0) (ia 2) x k) = va_up (ia 9) 2 (ia 9 2 + 1) := by rw [hC]; exact bump_2 _
    have hI := wI_w (ws' := mW E ad kp tr iv (va_up ia 9 (bumpR (ia 9) (noDayV (ia 0) (ia 2) x k))) K R mv) (by rw [eia9]; try rfl) hI
    exact hret () (-2) _ _ 0 0 _ _ dX5_noDay_30 hI (by show (-2) = noDayV (ia 0) (ia 2) x k; exact hC.symm) (Nat.le_of_ble_eq_true rfl) (Nat.le_of_ble_eq_true rfl) rfl

theorem c5_judge (l : Launch) (E : En) (ad : Nat → Nat) (kp tr : Option Nat) (iv : Nat → Int32) (ia K : Nat → Nat → Int32) (R : Nat → Nat → Int64) (mv : Nat → Int64) (n st : Nat) (x k : Int32) (hn : iv 10 = nI n) (hst : iv 14 = nI st) (hn7 : n ≤ 7) (hs2 : 2 ≤ st) (hs4 : st ≤ 4) (hsz : ∀ P, P < 8 → ∃ k, k ≤ 40 ∧ ia 2 P = nI k) : CtI l E yX5_judge cX5_judge 4 .int 6 0 0 [.ref (ad 45), .int x, .int k] (mW E ad kp tr iv ia K R mv) (fun (r : Int32) (u : Int32) => r = gd (noDayV (ia 0) (ia 2) x k) (wrV K n st (R x.toNatClampNeg) k.toNatClampNeg) (noDayV (ia 0) (ia 2) x k)) (fun (u : Int32) => mW E ad kp tr (va_up iv 44 u) (va_up ia 9 (bumpR (ia 9) (noDayV (ia 0) (ia 2) x k))) K R mv) := by
  refine CtI.of (by decide +kernel) (Nat.le_of_ble_eq_true rfl) ?_
  intro pR eR sR mR aR bR tR cR AR ls QR hxR hbR hmlR hts hown hlk hnm hA hK hI hl hret
  have hl : lv_has ls 4 [(0, .ref (ad 45)), (1, .int x), (2, .int k)] := hl
  refine lv_aload_n hxR hbR dX5_judge_0 rfl (lv_at hl 0 rfl) ?_
  refine lv_iload_n hxR hbR dX5_judge_1 rfl (lv_at hl 1 rfl) ?_
  refine lv_iload_n hxR hbR dX5_judge_2 rfl (lv_at hl 2 rfl) ?_
  refine kVI (n := 2) (As := [.int x, .int k]) (rest := []) (fun w => w) hxR hbR hmlR hts hown hK hA hl.1 isCtx.id hI (c5_noDay l E ad kp tr iv ia K R mv x k (by first | omega | with_reducible assumption)) (lw_V q2001 q2003 qs77 q86 q2004) ⟨rfl, by decide +kernel⟩ 16 5 rfl rfl mW_o rfl (Nat.le_of_ble_eq_true rfl) (Nat.le_of_ble_eq_true rfl) ⟨Nat.le_of_ble_eq_true rfl, Nat.le_of_ble_eq_true rfl⟩ (Nat.le_of_ble_eq_true rfl) dX5_judge_3 (fun r_3 u H locs hp hI hz => ?_)
  have hI : wI E AR sR H locs (mW E ad kp tr iv (va_up ia 9 (bumpR (ia 9) (noDayV (ia 0) (ia 2) x k))) K R mv) := hI
  have hp : r_3 = noDayV (ia 0) (ia 2) x k := hp
  have hr_3 := hp
  subst hr_3
  refine lv_istore_n (lv' := [(3, .int (noDayV (ia 0) (ia 2) x k)), (0, .ref (ad 45)), (1, .int x), (2, .int k)]) hxR hbR dX5_judge_6 rfl hl (by decide) rfl (fun ls hl => ?_)
  refine lv_iload_n hxR hbR dX5_judge_7 rfl (lv_at hl 0 rfl) ?_
  refine lv_if_eq (tgt := 15) hxR hbR dX5_judge_8 (by decide) (fun c_8 => ?_) (fun c_8 => ?_)
  · skip
    have i_8 : (noDayV (ia 0) (ia 2) x k).toInt = 0 := by have zz := i_eq.mp c_8; exact zz
    obtain ⟨P, hP, rfl⟩ := nd_x c_8
    have tP : (nI P).toInt = (P : Int) := nI_toInt (by omega)
    obtain ⟨N, hN, rfl⟩ := nd_k c_8
    have tN : (nI N).toInt = (N : Int) := nI_toInt (by omega)
    have hzN := nd_le9 hP hN c_8
    have hI := wI_w (ws' := mW E ad kp tr iv ia K R mv) (by rw [c_8, bump_0, va_up_id (f := ia) (k := 9) (v := ia 9) rfl]) hI
    refine lv_aload_n hxR hbR dX5_judge_15 rfl (lv_at hl 1 rfl) ?_
    refine lv_aload_n hxR hbR dX5_judge_16 rfl (lv_at hl 1 rfl) ?_
    refine r_get hxR hbR hts hown hK hI okX5 (ci := 5) rfl 16 mW_o 3 (by decide) q1481 rfl (v := .ref (ad 3)) rfl dX5_judge_17 ?_
    refine lv_iload_n hxR hbR dX5_judge_20 rfl (lv_at hl 2 rfl) ?_
    refine r_aald hxR hbR hK hI 20 3 (r := ad (60 + P)) rfl rfl (n := 8) (J := P) rfl (by omega) (by decide) rfl dX5_judge_21 ?_
    refine lv_iload_n hxR hbR dX5_judge_22 rfl (lv_at hl 3 rfl) ?_
    refine kVI (n := 2) (As := [.ref (ad (60 + P)), .int (nI N)]) (rest := []) (fun w => w) hxR hbR hmlR hts hown hK hA hl.1 isCtx.id hI (c5_wrongCoach l E ad kp tr iv ia K R mv n st P N hn hst (by first | omega | with_reducible assumption) (by first | omega | with_reducible assumption) (by first | omega | with_reducible assumption) (by first | omega | with_reducible assumption) (by first | omega | with_reducible assumption)) (lw_V q2005 q2007 qs78 q86 q2008) ⟨rfl, by decide +kernel⟩ 16 5 rfl rfl mW_o rfl (Nat.le_of_ble_eq_true rfl) (Nat.le_of_ble_eq_true rfl) ⟨Nat.le_of_ble_eq_true rfl, Nat.le_of_ble_eq_true rfl⟩ (Nat.le_of_ble_eq_true rfl) dX5_judge_23 (fun r_23 u H locs hp hI hz => ?_)
    obtain ⟨c44_23, rfl⟩ : ∃ z, z = u := ⟨_, rfl⟩
    have hI : wI E AR sR H locs (mW E ad kp tr (va_up iv 44 c44_23) ia K R mv) := hI
    have hp : r_23 = wrV K n st (R P) N ∧ (r_23 = -1 → c44_23 = nI (rode (R P) N)) := hp
    obtain ⟨hr_23, hc_23⟩ := hp
    subst hr_23
    have hC : noDayV (ia 0) (ia 2) (nI P) (nI N) = 0 := by
      clear hret hI
      exact c_8
    have eia9 : bumpR (ia 9) (noDayV (ia 0) (ia 2) (nI P) (nI N)) = ia 9 := by rw [hC]; exact bump_0 _
    have hI := wI_w (ws' := mW E ad kp tr (va_up iv 44 c44_23) (va_up ia 9 (bumpR (ia 9) (noDayV (ia 0) (ia 2) (nI P) (nI N)))) K R mv) (by rw [eia9, va_up_id (f := ia) (k := 9) (v := ia 9) rfl]; try rfl) hI
    exact hret c44_23 (wrV K n st (R P) N) _ _ 0 0 _ _ dX5_judge_26 hI (by show (wrV K n st (R P) N) = gd (noDayV (ia 0) (ia 2) (nI P) (nI N)) (wrV K n st (R (nI P).toNatClampNeg) (nI N).toNatClampNeg) (noDayV (ia 0) (ia 2) (nI P) (nI N)); rw [hC]; first | rfl | (simp only [nI_clamp (n := P) (by omega), nI_clamp (n := N) (by omega)]; rfl) | (simp only [gd_0, nI_clamp (n := P) (by omega), nI_clamp (n := N) (by omega)]; split <;> first | rfl | contradiction)) (Nat.le_of_ble_eq_true rfl) (Nat.le_of_ble_eq_true rfl) rfl
  · skip
    have i_8 : ¬ ((noDayV (ia 0) (ia 2) x k).toInt = 0) := by have zz := mt i_eq.mpr c_8; exact zz
    refine lv_iload_n hxR hbR dX5_judge_11 rfl (lv_at hl 0 rfl) ?_
    refine lv_goto (tgt := 26) hxR hbR dX5_judge_12 (by decide) ?_
    have hC : noDayV (ia 0) (ia 2) x k = noDayV (ia 0) (ia 2) x k := by
      clear hret hI
      rfl
    have hI := wI_w (ws' := mW E ad kp tr (va_up iv 44 (iv 44)) (va_up ia 9 (bumpR (ia 9) (noDayV (ia 0) (ia 2) x k))) K R mv) (by rw [va_up_id (f := iv) (k := 44) (v := iv 44) rfl]; try rfl) hI
    exact hret (iv 44) (noDayV (ia 0) (ia 2) x k) _ _ 0 0 _ _ dX5_judge_26 hI (by show (noDayV (ia 0) (ia 2) x k) = gd (noDayV (ia 0) (ia 2) x k) (wrV K n st (R x.toNatClampNeg) k.toNatClampNeg) (noDayV (ia 0) (ia 2) x k); rw [hC]; exact (gd_n c_8).symm) (Nat.le_of_ble_eq_true rfl) (Nat.le_of_ble_eq_true rfl) rfl

theorem c5_rides (l : Launch) (E : En) (ad : Nat → Nat) (kp tr : Option Nat) (iv : Nat → Int32) (ia K : Nat → Nat → Int32) (R : Nat → Nat → Int64) (mv : Nat → Int64) (n st : Nat) (x k : Int32) (hn : iv 10 = nI n) (hst : iv 14 = nI st) (hn7 : n ≤ 7) (hs2 : 2 ≤ st) (hs4 : st ≤ 4) (hsz : ∀ P, P < 8 → ∃ k, k ≤ 40 ∧ ia 2 P = nI k) : CtI l E yX5_rides cX5_rides 5 .int 6 0 0 [.ref (ad 45), .int x, .int k] (mW E ad kp tr iv ia K R mv) (fun (r : Int32) (u : Int32) => r = gd (ridC (ia 0) (ia 2) K R n st x k) k (ridC (ia 0) (ia 2) K R n st x k)) (fun (u : Int32) => mW E ad kp tr (va_up (va_up (va_up iv 16 (gd (ridC (ia 0) (ia 2) K R n st x k) (iv 16 + k) (iv 16))) 17 (gd (ridC (ia 0) (ia 2) K R n st x k) (iv 17 + 1) (iv 17))) 44 u) (va_up ia 9 (bumpR (ia 9) (ridC (ia 0) (ia 2) K R n st x k))) (gd (ridC (ia 0) (ia 2) K R n st x k) (ridK n K (R x.toNatClampNeg) k.toNatClampNeg) K) R mv) := by
  have h28 : 2 ^ n ≤ 2 ^ 7 := Nat.pow_le_pow_right (by decide) hn7
  refine CtI.of (by decide +kernel) (Nat.le_of_ble_eq_true rfl) ?_
  intro pR eR sR mR aR bR tR cR AR ls QR hxR hbR hmlR hts hown hlk hnm hA hK hI hl hret
  have hl : lv_has ls 5 [(0, .ref (ad 45)), (1, .int x), (2, .int k)] := hl
  refine lv_aload_n hxR hbR dX5_rides_0 rfl (lv_at hl 0 rfl) ?_
  refine lv_iload_n hxR hbR dX5_rides_1 rfl (lv_at hl 1 rfl) ?_
  refine lv_iload_n hxR hbR dX5_rides_2 rfl (lv_at hl 2 rfl) ?_
  refine kVI (n := 2) (As := [.int x, .int k]) (rest := []) (fun w => w) hxR hbR hmlR hts hown hK hA hl.1 isCtx.id hI (c5_noDay l E ad kp tr iv ia K R mv x k (by first | omega | with_reducible assumption)) (lw_V q2001 q2003 qs77 q86 q2004) ⟨rfl, by decide +kernel⟩ 16 5 rfl rfl mW_o rfl (Nat.le_of_ble_eq_true rfl) (Nat.le_of_ble_eq_true rfl) ⟨Nat.le_of_ble_eq_true rfl, Nat.le_of_ble_eq_true rfl⟩ (Nat.le_of_ble_eq_true rfl) dX5_rides_3 (fun r_3 u H locs hp hI hz => ?_)
  have hI : wI E AR sR H locs (mW E ad kp tr iv (va_up ia 9 (bumpR (ia 9) (noDayV (ia 0) (ia 2) x k))) K R mv) := hI
  have hp : r_3 = noDayV (ia 0) (ia 2) x k := hp
  have hr_3 := hp
  subst hr_3
  refine lv_istore_n (lv' := [(3, .int (noDayV (ia 0) (ia 2) x k)), (0, .ref (ad 45)), (1, .int x), (2, .int k)]) hxR hbR dX5_rides_6 rfl hl (by decide) rfl (fun ls hl => ?_)
  refine lv_iload_n hxR hbR dX5_rides_7 rfl (lv_at hl 0 rfl) ?_
  refine lv_if_eq (tgt := 13) hxR hbR dX5_rides_8 (by decide) (fun c_8 => ?_) (fun c_8 => ?_)
  · skip
    have i_8 : (noDayV (ia 0) (ia 2) x k).toInt = 0 := by have zz := i_eq.mp c_8; exact zz
    obtain ⟨P, hP, rfl⟩ := nd_x c_8
    have tP : (nI P).toInt = (P : Int) := nI_toInt (by omega)
    obtain ⟨N, hN, rfl⟩ := nd_k c_8
    have tN : (nI N).toInt = (N : Int) := nI_toInt (by omega)
    have hzN := nd_le9 hP hN c_8
    have hI := wI_w (ws' := mW E ad kp tr iv ia K R mv) (by rw [c_8, bump_0, va_up_id (f := ia) (k := 9) (v := ia 9) rfl]) hI
    refine lv_aload_n hxR hbR dX5_rides_13 rfl (lv_at hl 1 rfl) ?_
    refine lv_aload_n hxR hbR dX5_rides_14 rfl (lv_at hl 1 rfl) ?_
    refine r_get hxR hbR hts hown hK hI okX5 (ci := 5) rfl 16 mW_o 3 (by decide) q1481 rfl (v := .ref (ad 3)) rfl dX5_rides_15 ?_
    refine lv_iload_n hxR hbR dX5_rides_18 rfl (lv_at hl 2 rfl) ?_
    refine r_aald hxR hbR hK hI 20 3 (r := ad (60 + P)) rfl rfl (n := 8) (J := P) rfl (by omega) (by decide) rfl dX5_rides_19 ?_
    refine lv_iload_n hxR hbR dX5_rides_20 rfl (lv_at hl 3 rfl) ?_
    refine kVI (n := 2) (As := [.ref (ad (60 + P)), .int (nI N)]) (rest := []) (fun w => w) hxR hbR hmlR hts hown hK hA hl.1 isCtx.id hI (c5_wrongCoach l E ad kp tr iv ia K R mv n st P N hn hst (by first | omega | with_reducible assumption) (by first | omega | with_reducible assumption) (by first | omega | with_reducible assumption) (by first | omega | with_reducible assumption) (by first | omega | with_reducible assumption)) (lw_V q2005 q2007 qs78 q86 q2008) ⟨rfl, by decide +kernel⟩ 16 5 rfl rfl mW_o rfl (Nat.le_of_ble_eq_true rfl) (Nat.le_of_ble_eq_true rfl) ⟨Nat.le_of_ble_eq_true rfl, Nat.le_of_ble_eq_true rfl⟩ (Nat.le_of_ble_eq_true rfl) dX5_rides_21 (fun r_21 u H locs hp hI hz => ?_)
    obtain ⟨c44_21, rfl⟩ : ∃ z, z = u := ⟨_, rfl⟩
    have hI : wI E AR sR H locs (mW E ad kp tr (va_up iv 44 c44_21) ia K R mv) := hI
    have hp : r_21 = wrV K n st (R P) N ∧ (r_21 = -1 → c44_21 = nI (rode (R P) N)) := hp
    obtain ⟨hr_21, hc_21⟩ := hp
    subst hr_21
    refine lv_iconst (v := (-1)) hxR hbR dX5_rides_24 (by decide) ?_
    refine lv_icmp_eq (tgt := 35) hxR hbR dX5_rides_25 (by decide) (fun c_25 => ?_) (fun c_25 => ?_)
    · skip
      have i_25 : (wrV K n st (R P) N).toInt = (-1) := by have zz := i_eq.mp c_25; exact zz
      have hall := wrG_all (by omega) c_25
      refine lv_iconst (v := 0) hxR hbR dX5_rides_35 (by decide) ?_
      refine lv_istore (lv' := [(4, .int 0), (3, .int (noDayV (ia 0) (ia 2) (nI P) (nI N))), (0, .ref (ad 45)), (1, .int (nI P)), (2, .int (nI N))]) hxR hbR dX5_rides_36 hl (by decide) rfl (fun ls hl => ?_)
      have lp_38 : ∀ (fu : Nat) (i : Nat) (Kx : Nat → Nat → Int32), (i ≤ N) → (Kx = ridK n K (R P) i) → N - i < fu → ∀ (H : Heap) (locs : List Loc), wI E AR sR H locs (mW E ad kp tr (va_up iv 44 c44_21) ia Kx R mv) → ∀ ls : Array Slot, lv_has ls 5 [(0, .ref (ad 45)), (1, .int (nI P)), (2, .int (nI N)), (4, .int (nI i))] → W pR l eR (rmF 6 0 0) sR mR aR bR tR cR H locs 0 0 QR (F0 mR 38 ls []) := by
        intro fu
        induction fu with
        | zero =>
          intro i Kx hi hKx hfu
          exact absurd hfu (Nat.not_lt_zero _)
        | succ fu ih_38 =>
          intro i Kx hi hKx hfu H locs hI ls hl
          refine lv_iload hxR hbR dX5_rides_38 (lv_at hl 3 rfl) ?_
          refine lv_iload_n hxR hbR dX5_rides_40 rfl (lv_at hl 2 rfl) ?_
          refine lv_icmp_ge (tgt := 65) hxR hbR dX5_rides_41 (by decide) (fun c_41 => ?_) (fun c_41 => ?_)
          · skip
            have c_41 : N ≤ i := (n_le (a := N) (b := i) (by omega) (by omega)).mp c_41
            have hiN : i = N := by omega
            refine lv_aload_n hxR hbR dX5_rides_65 rfl (lv_at hl 0 rfl) ?_
            refine lv_dup hxR hbR dX5_rides_66 rfl ?_
            refine r_get hxR hbR hts hown hK hI okX5 (ci := 5) rfl 16 mW_o 16 (by decide) q1494 rfl (v := .int (iv 16)) (al (up_n (by decide) rfl)) dX5_rides_67 ?_
            refine lv_iload_n hxR hbR dX5_rides_70 rfl (lv_at hl 2 rfl) ?_
            refine lv_iadd hxR hbR dX5_rides_71 ?_
            refine r_put (v := .int ((iv 16) + (nI N))) (ws1 := mW E ad kp tr (va_up (va_up iv 16 ((iv 16) + (nI N))) 44 c44_21) ia Kx R mv) hxR hbR hts hown hK hI okX5 (ci := 5) rfl 16 mW_o 16 (by decide) q1494 rfl rfl rfl rfl (Nat.le_of_ble_eq_true rfl) (Eq.trans mW_i16 (mW_c1 (up_s (by decide) rfl))) dX5_rides_72 (fun H locs hI => ?_)
            refine lv_aload_n hxR hbR dX5_rides_75 rfl (lv_at hl 0 rfl) ?_
            refine lv_dup hxR hbR dX5_rides_76 rfl ?_
            refine r_get hxR hbR hts hown hK hI okX5 (ci := 5) rfl 16 mW_o 17 (by decide) q1495 rfl (v := .int (iv 17)) (al (up_n (by decide) (up_n (by decide) rfl))) dX5_rides_77 ?_
            refine lv_iconst (v := 1) hxR hbR dX5_rides_80 (by decide) ?_
            refine lv_iadd hxR hbR dX5_rides_81 ?_
            refine r_put (v := .int ((iv 17) + 1)) (ws1 := mW E ad kp tr (va_up (va_up (va_up iv 16 ((iv 16) + (nI N))) 17 ((iv 17) + 1)) 44 c44_21) ia Kx R mv) hxR hbR hts hown hK hI okX5 (ci := 5) rfl 16 mW_o 17 (by decide) q1495 rfl rfl rfl rfl (Nat.le_of_ble_eq_true rfl) (Eq.trans mW_i17 (mW_c1 (up_s (by decide) rfl))) dX5_rides_82 (fun H locs hI => ?_)
            refine lv_iload_n hxR hbR dX5_rides_85 rfl (lv_at hl 2 rfl) ?_
            have hC : ridC (ia 0) (ia 2) K R n st (nI P) (nI N) = 0 := by
              clear hret hI
              unfold ridC; rw [if_pos c_8]; simp only [nI_clamp (n := P) (by omega), nI_clamp (n := N) (by omega)]; exact if_pos c_25
            have eiv16 : gd (ridC (ia 0) (ia 2) K R n st (nI P) (nI N)) (iv 16 + (nI N)) (iv 16) = (iv 16) + (nI N) := by rw [hC]; first | rfl | (simp only [nI_clamp (n := P) (by omega), nI_clamp (n := N) (by omega)]; rfl) | (simp only [gd_0, nI_clamp (n := P) (by omega), nI_clamp (n := N) (by omega)]; split <;> first | rfl | contradiction)
            have eiv17 : gd (ridC (ia 0) (ia 2) K R n st (nI P) (nI N)) (iv 17 + 1) (iv 17) = (iv 17) + 1 := by rw [hC]; first | rfl | (simp only [nI_clamp (n := P) (by omega), nI_clamp (n := N) (by omega)]; rfl) | (simp only [gd_0, nI_clamp (n := P) (by omega), nI_clamp (n := N) (by omega)]; split <;> first | rfl | contradiction)
            have eia9 : bumpR (ia 9) (ridC (ia 0) (ia 2) K R n st (nI P) (nI N)) = ia 9 := by rw [hC]; exact bump_0 _
            have eK : gd (ridC (ia 0) (ia 2) K R n st (nI P) (nI N)) (ridK n K (R (nI P).toNatClampNeg) (nI N).toNatClampNeg) K = Kx := by rw [hC, hKx, hiN]; simp only [nI_clamp (n := P) (by omega), nI_clamp (n := N) (by omega)]; rfl
            have hI := wI_w (ws' := mW E ad kp tr (va_up (va_up (va_up iv 16 (gd (ridC (ia 0) (ia 2) K R n st (nI P) (nI N)) (iv 16 + (nI N)) (iv 16))) 17 (gd (ridC (ia 0) (ia 2) K R n st (nI P) (nI N)) (iv 17 + 1) (iv 17))) 44 c44_21) (va_up ia 9 (bumpR (ia 9) (ridC (ia 0) (ia 2) K R n st (nI P) (nI N)))) (gd (ridC (ia 0) (ia 2) K R n st (nI P) (nI N)) (ridK n K (R (nI P).toNatClampNeg) (nI N).toNatClampNeg) K) R mv) (by rw [eiv16, eiv17, eia9, eK, va_up_id (f := ia) (k := 9) (v := ia 9) rfl]; try rfl) hI
            exact hret c44_21 (nI N) _ _ 0 0 _ _ dX5_rides_86 hI (by show (nI N) = gd (ridC (ia 0) (ia 2) K R n st (nI P) (nI N)) (nI N) (ridC (ia 0) (ia 2) K R n st (nI P) (nI N)); rw [hC]; first | rfl | (simp only [nI_clamp (n := P) (by omega), nI_clamp (n := N) (by omega)]; rfl) | (simp only [gd_0, nI_clamp (n := P) (by omega), nI_clamp (n := N) (by omega)]; split <;> first | rfl | contradiction)) (Nat.le_of_ble_eq_true rfl) (Nat.le_of_ble_eq_true rfl) rfl
          · skip
            have c_41 : i < N := Nat.lt_of_not_le (fun zz => c_41 ((n_le (a := N) (b := i) (by omega) (by omega)).mpr zz))
            refine lv_aload_n hxR hbR dX5_rides_44 rfl (lv_at hl 0 rfl) ?_
            refine lv_aload_n hxR hbR dX5_rides_45 rfl (lv_at hl 0 rfl) ?_
            refine r_get hxR hbR hts hown hK hI okX5 (ci := 5) rfl 16 mW_o 3 (by decide) q1481 rfl (v := .ref (ad 3)) rfl dX5_rides_46 ?_
            refine lv_iload_n hxR hbR dX5_rides_49 rfl (lv_at hl 1 rfl) ?_
            refine r_aald hxR hbR hK hI 20 3 (r := ad (60 + P)) rfl rfl (n := 8) (J := P) rfl (by omega) (by decide) rfl dX5_rides_50 ?_
            refine lv_iload hxR hbR dX5_rides_51 (lv_at hl 3 rfl) ?_
            refine r_lald hxR hbR hK hI (8 + P) (n := 40) (J := i) (f := R P) (v := (R P) i) (mW_R P (by omega)) (by omega) (by decide) rfl dX5_rides_53 ?_
            refine lv_l2i (v := ((R P) i).toInt32) hxR hbR dX5_rides_54 rfl ?_
            refine lv_as (y := nI (tS (R P) i)) (tS_int (okT_1 (hall _ (by omega))) (by omega)) ?_
            have htl := okT_lt (hall i (by omega))
            refine kVI (n := 1) (As := [.int (nI (tS (R P) i))]) (rest := []) (fun w => w) hxR hbR hmlR hts hown hK hA hl.1 isCtx.id hI (c5_meets l E ad kp tr (va_up iv 44 c44_21) ia Kx R mv n (tS (R P) i) (up_n (by decide) hn) (by omega) (by omega)) (lw_V q1845 q1847 qs62 q86 q1848) ⟨rfl, by decide +kernel⟩ 16 5 rfl rfl mW_o rfl (Nat.le_of_ble_eq_true rfl) (Nat.le_of_ble_eq_true rfl) ⟨Nat.le_of_ble_eq_true rfl, Nat.le_of_ble_eq_true rfl⟩ (Nat.le_of_ble_eq_true rfl) dX5_rides_55 (fun r_55 u H locs hp hI hz => ?_)
            have hI : wI E AR sR H locs (mW E ad kp tr (va_up iv 44 c44_21) ia (meetK Kx (tS (R P) i) n) R mv) := hI
            have hp : r_55 = nI (mC Kx (tS (R P) i) n) := hp
            have hr_55 := hp
            subst hr_55
            refine lv_pop hxR hbR dX5_rides_58 rfl ?_
            refine lv_iinc (v := nI (i + 1)) (lv' := [(4, .int (nI (i + 1))), (0, .ref (ad 45)), (1, .int (nI P)), (2, .int (nI N))]) hxR hbR dX5_rides_59 hl (k := 3) rfl (show nI i + 1 = nI (i + 1) from nI_add _ 1) (by decide) rfl (fun ls hl => ?_)
            refine lv_goto (tgt := 38) hxR hbR dX5_rides_62 (by decide) ?_
            exact ih_38 (i + 1) (meetK Kx (tS (R P) i) n) (by first | omega | with_reducible assumption) (by rw [hKx]; rfl) (by omega) _ _ hI _ (lv_sub hl [1, 2, 3, 0] rfl)
      exact lp_38 _ 0 K (by first | omega | with_reducible assumption) rfl (Nat.lt_succ_self _) _ _ hI _ (lv_sub hl [2, 3, 4, 0] rfl)
    · skip
      have i_25 : ¬ ((wrV K n st (R P) N).toInt = (-1)) := by have zz := mt i_eq.mpr c_25; exact zz
      refine lv_aload_n hxR hbR dX5_rides_28 rfl (lv_at hl 1 rfl) ?_
      refine lv_bipush (v := (-5)) hxR hbR dX5_rides_29 (by decide) ?_
      refine kVI (n := 1) (As := [.int (-5)]) (rest := []) (fun w => w) hxR hbR hmlR hts hown hK hA hl.1 isCtx.id hI (c5_refuse l E ad kp tr (va_up iv 44 c44_21) ia K R mv (-5) 5 (by decide) (by decide)) (lw_V q1624 q1626 qs34 q86 q1627) ⟨rfl, by decide +kernel⟩ 16 5 rfl rfl mW_o rfl (Nat.le_of_ble_eq_true rfl) (Nat.le_of_ble_eq_true rfl) ⟨Nat.le_of_ble_eq_true rfl, Nat.le_of_ble_eq_true rfl⟩ (Nat.le_of_ble_eq_true rfl) dX5_rides_31 (fun r_31 u H locs hp hI hz => ?_)
      have hI : wI E AR sR H locs (mW E ad kp tr (va_up iv 44 c44_21) (va_up ia 9 (va_up (ia 9) 5 (ia 9 5 + 1))) K R mv) := hI
      have hp : r_31 = (-5) := hp
      have hr_31 := hp
      subst hr_31
      have hC : ridC (ia 0) (ia 2) K R n st (nI P) (nI N) = (-5) := by
        clear hret hI
        unfold ridC; rw [if_pos c_8]; simp only [nI_clamp (n := P) (by omega), nI_clamp (n := N) (by omega)]; exact if_neg c_25
      have eiv16 : gd (ridC (ia 0) (ia 2) K R n st (nI P) (nI N)) (iv 16 + (nI N)) (iv 16) = iv 16 := by rw [hC]; first | rfl | (simp only [nI_clamp (n := P) (by omega), nI_clamp (n := N) (by omega)]; rfl) | (simp only [gd_0, nI_clamp (n := P) (by omega), nI_clamp (n := N) (by omega)]; split <;> first | rfl | contradiction)
      have eiv17 : gd (ridC (ia 0) (ia 2) K R n st (nI P) (nI N)) (iv 17 + 1) (iv 17) = iv 17 := by rw [hC]; first | rfl | (simp only [nI_clamp (n := P) (by omega), nI_clamp (n := N) (by omega)]; rfl) | (simp only [gd_0, nI_clamp (n := P) (by omega), nI_clamp (n := N) (by omega)]; split <;> first | rfl | contradiction)
      have eia9 : bumpR (ia 9) (ridC (ia 0) (ia 2) K R n st (nI P) (nI N)) = va_up (ia 9) 5 (ia 9 5 + 1) := by rw [hC]; exact bump_5 _
      have eK : gd (ridC (ia 0) (ia 2) K R n st (nI P) (nI N)) (ridK n K (R (nI P).toNatClampNeg) (nI N).toNatClampNeg) K = K := by rw [hC]; first | rfl | (simp only [nI_clamp (n := P) (by omega), nI_clamp (n := N) (by omega)]; rfl) | (simp only [gd_0, nI_clamp (n := P) (by omega), nI_clamp (n := N) (by omega)]; split <;> first | rfl | contradiction)
      have hI := wI_w (ws' := mW E ad kp tr (va_up (va_up (va_up iv 16 (gd (ridC (ia 0) (ia 2) K R n st (nI P) (nI N)) (iv 16 + (nI N)) (iv 16))) 17 (gd (ridC (ia 0) (ia 2) K R n st (nI P) (nI N)) (iv 17 + 1) (iv 17))) 44 c44_21) (va_up ia 9 (bumpR (ia 9) (ridC (ia 0) (ia 2) K R n st (nI P) (nI N)))) (gd (ridC (ia 0) (ia 2) K R n st (nI P) (nI N)) (ridK n K (R (nI P).toNatClampNeg) (nI N).toNatClampNeg) K) R mv) (by rw [eiv16, eiv17, eia9, eK, va_up_id (f := iv) (k := 16) (v := iv 16) rfl, va_up_id (f := iv) (k := 17) (v := iv 17) rfl]; try rfl) hI
      exact hret c44_21 (-5) _ _ 0 0 _ _ dX5_rides_34 hI (by show (-5) = gd (ridC (ia 0) (ia 2) K R n st (nI P) (nI N)) (nI N) (ridC (ia 0) (ia 2) K R n st (nI P) (nI N)); rw [hC]; first | rfl | (simp only [nI_clamp (n := P) (by omega), nI_clamp (n := N) (by omega)]; rfl) | (simp only [gd_0, nI_clamp (n := P) (by omega), nI_clamp (n := N) (by omega)]; split <;> first | rfl | contradiction)) (Nat.le_of_ble_eq_true rfl) (Nat.le_of_ble_eq_true rfl) rfl
  · skip
    have i_8 : ¬ ((noDayV (ia 0) (ia 2) x k).toInt = 0) := by have zz := mt i_eq.mpr c_8; exact zz
    refine lv_iload_n hxR hbR dX5_rides_11 rfl (lv_at hl 0 rfl) ?_
    have hC : ridC (ia 0) (ia 2) K R n st x k = noDayV (ia 0) (ia 2) x k := by
      clear hret hI
      exact if_neg c_8
    have eiv16 : gd (ridC (ia 0) (ia 2) K R n st x k) (iv 16 + k) (iv 16) = iv 16 := by rw [hC]; exact gd_n c_8
    have eiv17 : gd (ridC (ia 0) (ia 2) K R n st x k) (iv 17 + 1) (iv 17) = iv 17 := by rw [hC]; exact gd_n c_8
    have eia9 : bumpR (ia 9) (ridC (ia 0) (ia 2) K R n st x k) = bumpR (ia 9) (noDayV (ia 0) (ia 2) x k) := by rw [hC]
    have eK : gd (ridC (ia 0) (ia 2) K R n st x k) (ridK n K (R x.toNatClampNeg) k.toNatClampNeg) K = K := by rw [hC]; exact gd_n c_8
    have hI := wI_w (ws' := mW E ad kp tr (va_up (va_up (va_up iv 16 (gd (ridC (ia 0) (ia 2) K R n st x k) (iv 16 + k) (iv 16))) 17 (gd (ridC (ia 0) (ia 2) K R n st x k) (iv 17 + 1) (iv 17))) 44 (iv 44)) (va_up ia 9 (bumpR (ia 9) (ridC (ia 0) (ia 2) K R n st x k))) (gd (ridC (ia 0) (ia 2) K R n st x k) (ridK n K (R x.toNatClampNeg) k.toNatClampNeg) K) R mv) (by rw [eiv16, eiv17, eia9, eK, va_up_id (f := iv) (k := 16) (v := iv 16) rfl, va_up_id (f := iv) (k := 17) (v := iv 17) rfl, va_up_id (f := iv) (k := 44) (v := iv 44) rfl]; try rfl) hI
    exact hret (iv 44) (noDayV (ia 0) (ia 2) x k) _ _ 0 0 _ _ dX5_rides_12 hI (by show (noDayV (ia 0) (ia 2) x k) = gd (ridC (ia 0) (ia 2) K R n st x k) k (ridC (ia 0) (ia 2) K R n st x k); rw [hC]; exact (gd_n c_8).symm) (Nat.le_of_ble_eq_true rfl) (Nat.le_of_ble_eq_true rfl) rfl

theorem c5_behind (l : Launch) (E : En) (ad : Nat → Nat) (kp : Option Nat) (iv : Nat → Int32) (ia K : Nat → Nat → Int32) (R : Nat → Nat → Int64) (mv : Nat → Int64) (ob : Option (Nat → Nat)) (kpb trb : Option Nat) (ivb : Nat → Int32) (iab Kb : Nat → Nat → Int32) (Rb : Nat → Nat → Int64) (mvb : Nat → Int64) (n st : Nat) (x k w : Int32) (hn : iv 10 = nI n) (hst : iv 14 = nI st) (hn7 : n ≤ 7) (hs2 : 2 ≤ st) (hs4 : st ≤ 4) (hsz : ∀ P, P < 8 → ∃ k, k ≤ 40 ∧ ia 2 P = nI k) : CtI l E yX5_behind cX5_behind 7 .int 20 38 1946 [.ref (ad 45), .int x, .int k, .int w] (mW E ad kp (oT ob) iv ia K R mv ++ (oM E ob kpb trb ivb iab Kb Rb mvb)) (fun (r : Int32) (u : Int32 × (Option (Nat → Nat)) × (Option Nat) × (Option Nat) × (Nat → Int32) × (Nat → Nat → Int32) × (Nat → Nat → Int32) × (Nat → Nat → Int64) × (Nat → Int64)) => r = gd (behC (ia 0) (ia 2) K R n st x k w) (behV K R n st x k w) (behC (ia 0) (ia 2) K R n st x k w)) (fun (u : Int32 × (Option (Nat → Nat)) × (Option Nat) × (Option Nat) × (Nat → Int32) × (Nat → Nat → Int32) × (Nat → Nat → Int32) × (Nat → Nat → Int64) × (Nat → Int64)) => mW E ad kp (oT u.2.1) (va_up iv 44 u.1) (va_up ia 9 (bumpR (ia 9) (behC (ia 0) (ia 2) K R n st x k w))) K R mv ++ (oM E u.2.1 u.2.2.1 u.2.2.2.1 u.2.2.2.2.1 u.2.2.2.2.2.1 u.2.2.2.2.2.2.1 u.2.2.2.2.2.2.2.1 u.2.2.2.2.2.2.2.2)) := by
  have h28 : 2 ^ n ≤ 2 ^ 7 := Nat.pow_le_pow_right (by decide) hn7
  refine CtI.of (by decide +kernel) (Nat.le_of_ble_eq_true rfl) ?_
  intro pR eR sR mR aR bR tR cR AR ls QR hxR hbR hmlR hts hown hlk hnm hA hK hI hl hret
  have hl : lv_has ls 7 [(0, .ref (ad 45)), (1, .int x), (2, .int k), (3, .int w)] := hl
  refine lv_iload_n hxR hbR dX5_behind_0 rfl (lv_at hl 3 rfl) ?_
  refine lv_i2l (v := w.toInt64) hxR hbR dX5_behind_1 rfl ?_
  refine lv_lconst (v := 0) hxR hbR dX5_behind_2 (by decide) ?_
  refine lv_lconst (v := 1) hxR hbR dX5_behind_3 (by decide) ?_
  refine kSI (n := 3) (As := [.long w.toInt64, .long (0 : Int64), .long (1 : Int64)]) (rest := []) (fun w => w ++ (mW E ad kp (oT ob) iv ia K R mv ++ (oM E ob kpb trb ivb iab Kb Rb mvb))) hxR hbR hmlR hts hown hK hA hl.1 (isCtx.suf _) hI (c5_in l E  w.toInt64 (0 : Int64) (1 : Int64) ) (lw_S q1619 q1620 q86 q1621) (by decide +kernel) rfl (Nat.le_of_ble_eq_true rfl) (Nat.le_of_ble_eq_true rfl) ⟨Nat.le_of_ble_eq_true rfl, Nat.le_of_ble_eq_true rfl⟩ (Nat.le_of_ble_eq_true rfl) dX5_behind_4 (fun r_4 u H locs hp hI hz => ?_)
  have hI : wI E AR sR H locs (mW E ad kp (oT ob) iv ia K R mv ++ (oM E ob kpb trb ivb iab Kb Rb mvb)) := hI
  have hp : r_4 = b2i (inL w.toInt64 (0 : Int64) (1 : Int64)) := hp
  have hr_4 := hp
  rcases b2i_cases hr_4 with ⟨c_4, rfl⟩ | ⟨c_4, rfl⟩
  · skip
    have c_4 : (0 : Int64).toInt ≤ w.toInt64.toInt ∧ w.toInt64.toInt ≤ (1 : Int64).toInt := of_decide_eq_true c_4
    have c_4 : 0 ≤ w.toInt ∧ w.toInt ≤ 1 := by simp only [Int32.toInt_toInt64] at c_4; exact c_4
    refine lv_if_ne (tgt := 17) hxR hbR dX5_behind_7 (by decide) (fun _ => ?_) (fun c => absurd c (by decide))
    refine lv_aload_n hxR hbR dX5_behind_17 rfl (lv_at hl 0 rfl) ?_
    refine lv_iload_n hxR hbR dX5_behind_18 rfl (lv_at hl 1 rfl) ?_
    refine lv_iload_n hxR hbR dX5_behind_19 rfl (lv_at hl 2 rfl) ?_
    refine kVI (n := 2) (As := [.int x, .int k]) (rest := []) (fun w => w ++ (oM E ob kpb trb ivb iab Kb Rb mvb)) hxR hbR hmlR hts hown hK hA hl.1 (isCtx.suf _) hI (c5_noDay l E ad kp (oT ob) iv ia K R mv x k (by first | omega | with_reducible assumption)) (lw_V q2001 q2003 qs77 q86 q2004) ⟨rfl, by decide +kernel⟩ 16 5 rfl rfl mW_o rfl (Nat.le_of_ble_eq_true rfl) (Nat.le_of_ble_eq_true rfl) ⟨Nat.le_of_ble_eq_true rfl, Nat.le_of_ble_eq_true rfl⟩ (Nat.le_of_ble_eq_true rfl) dX5_behind_20 (fun r_20 u H locs hp hI hz => ?_)
    have hI : wI E AR sR H locs (mW E ad kp (oT ob) iv (va_up ia 9 (bumpR (ia 9) (noDayV (ia 0) (ia 2) x k))) K R mv ++ (oM E ob kpb trb ivb iab Kb Rb mvb)) := hI
    have hp : r_20 = noDayV (ia 0) (ia 2) x k := hp
    have hr_20 := hp
    subst hr_20
    refine lv_istore (lv' := [(4, .int (noDayV (ia 0) (ia 2) x k)), (0, .ref (ad 45)), (1, .int x), (2, .int k), (3, .int w)]) hxR hbR dX5_behind_23 hl (by decide) rfl (fun ls hl => ?_)
    refine lv_iload hxR hbR dX5_behind_25 (lv_at hl 0 rfl) ?_
    refine lv_if_eq (tgt := 33) hxR hbR dX5_behind_27 (by decide) (fun c_27 => ?_) (fun c_27 => ?_)
    · skip
      have i_27 : (noDayV (ia 0) (ia 2) x k).toInt = 0 := by have zz := i_eq.mp c_27; exact zz
      obtain ⟨P, hP, rfl⟩ := nd_x c_27
      have tP : (nI P).toInt = (P : Int) := nI_toInt (by omega)
      obtain ⟨N, hN, rfl⟩ := nd_k c_27
      have tN : (nI N).toInt = (N : Int) := nI_toInt (by omega)
      have hzN := nd_le9 hP hN c_27
      have hI := wI_w (ws' := mW E ad kp (oT ob) iv ia K R mv ++ (oM E ob kpb trb ivb iab Kb Rb mvb)) (by rw [c_27, bump_0, va_up_id (f := ia) (k := 9) (v := ia 9) rfl]) hI
      refine lv_aload_n hxR hbR dX5_behind_33 rfl (lv_at hl 1 rfl) ?_
      refine lv_aload_n hxR hbR dX5_behind_34 rfl (lv_at hl 1 rfl) ?_
      refine r_get hxR hbR hts hown hK hI okX5 (ci := 5) rfl 16 (he_l mW_o) 3 (by decide) q1481 rfl (v := .ref (ad 3)) rfl dX5_behind_35 ?_
      refine lv_iload_n hxR hbR dX5_behind_38 rfl (lv_at hl 2 rfl) ?_
      refine r_aald hxR hbR hK hI 20 3 (r := ad (60 + P)) rfl rfl (n := 8) (J := P) (he_l rfl) (by omega) (by decide) rfl dX5_behind_39 ?_
      refine lv_iload_n hxR hbR dX5_behind_40 rfl (lv_at hl 3 rfl) ?_
      refine kVI (n := 2) (As := [.ref (ad (60 + P)), .int (nI N)]) (rest := []) (fun w => w ++ (oM E ob kpb trb ivb iab Kb Rb mvb)) hxR hbR hmlR hts hown hK hA hl.1 (isCtx.suf _) hI (c5_wrongCoach l E ad kp (oT ob) iv ia K R mv n st P N hn hst (by first | omega | with_reducible assumption) (by first | omega | with_reducible assumption) (by first | omega | with_reducible assumption) (by first | omega | with_reducible assumption) (by first | omega | with_reducible assumption)) (lw_V q2005 q2007 qs78 q86 q2008) ⟨rfl, by decide +kernel⟩ 16 5 rfl rfl mW_o rfl (Nat.le_of_ble_eq_true rfl) (Nat.le_of_ble_eq_true rfl) ⟨Nat.le_of_ble_eq_true rfl, Nat.le_of_ble_eq_true rfl⟩ (Nat.le_of_ble_eq_true rfl) dX5_behind_41 (fun r_41 u H locs hp hI hz => ?_)
      obtain ⟨c44_41, rfl⟩ : ∃ z, z = u := ⟨_, rfl⟩
      have hI : wI E AR sR H locs (mW E ad kp (oT ob) (va_up iv 44 c44_41) ia K R mv ++ (oM E ob kpb trb ivb iab Kb Rb mvb)) := hI
      have hp : r_41 = wrV K n st (R P) N ∧ (r_41 = -1 → c44_41 = nI (rode (R P) N)) := hp
      obtain ⟨hr_41, hc_41⟩ := hp
      subst hr_41
      refine lv_iconst (v := (-1)) hxR hbR dX5_behind_44 (by decide) ?_
      refine lv_icmp_eq (tgt := 55) hxR hbR dX5_behind_45 (by decide) (fun c_45 => ?_) (fun c_45 => ?_)
      · skip
        have i_45 : (wrV K n st (R P) N).toInt = (-1) := by have zz := i_eq.mp c_45; exact zz
        have hall := wrG_all (by omega) c_45
        refine lv_iload_n hxR hbR dX5_behind_55 rfl (lv_at hl 4 rfl) ?_
        refine lv_if_ne (tgt := 71) hxR hbR dX5_behind_56 (by decide) (fun c_56 => ?_) (fun c_56 => ?_)
        · skip
          have i_56 : ¬ (w.toInt = 0) := by have zz := mt i_eq.mpr c_56; exact zz
          refine lv_aload_n hxR hbR dX5_behind_71 rfl (lv_at hl 1 rfl) ?_
          refine kVR (n := 0) (As := []) (rest := []) (fun w => w) hxR hbR hmlR hts hown hK hA hl.1 isCtx.id hI (c5_fresh l E ad kp (va_up iv 44 c44_41) ia K R mv ob kpb trb ivb iab Kb Rb mvb) (lw_V q1759 q1761 qs50 q86 q1762) ⟨rfl, by decide +kernel⟩ 16 5 rfl rfl (he_l mW_o) rfl (Nat.le_of_ble_eq_true rfl) (Nat.le_of_ble_eq_true rfl) ⟨Nat.le_of_ble_eq_true rfl, Nat.le_of_ble_eq_true rfl⟩ (Nat.le_of_ble_eq_true rfl) dX5_behind_72 (fun u r_72 H locs hp hI hz => ?_)
          obtain ⟨adN_72, kpN_72, trN_72, ivN_72, iaN_72, RN_72, mvN_72⟩ := u
          have hp : ivN_72 10 = iv 10 ∧ ivN_72 14 = iv 14 ∧ ivN_72 15 = iv 15 ∧ ivN_72 16 = iv 16 ∧ ivN_72 17 = iv 17 ∧ ivN_72 18 = iv 18 ∧ ivN_72 19 = iv 19 ∧ iaN_72 11 = ia 11 ∧ iaN_72 12 = ia 12 := hp
          obtain ⟨hv10_72, hv14_72, hv15_72, hv16_72, hv17_72, hv18_72, hv19_72, ha11_72, ha12_72⟩ := hp
          have hI : wI E AR sR H locs (mW E ad kp (some r_72) (va_up iv 44 c44_41) ia K R mv ++ (mW E (va_up adN_72 45 r_72) kpN_72 trN_72 ivN_72 iaN_72 K RN_72 mvN_72)) := hI
          generalize hadb_72 : va_up adN_72 45 r_72 = adb_72 at hI
          have e_72 : r_72 = adb_72 45 := by rw [← hadb_72, va_up_s]
          clear hadb_72
          subst e_72
          refine lv_astore (lv' := [(5, .ref (adb_72 45)), (4, .int (noDayV (ia 0) (ia 2) (nI P) (nI N))), (0, .ref (ad 45)), (1, .int (nI P)), (2, .int (nI N)), (3, .int w)]) hxR hbR dX5_behind_75 hl (by decide) rfl (fun ls hl => ?_)
          refine lv_iconst (v := 0) hxR hbR dX5_behind_77 (by decide) ?_
          refine lv_istore (lv' := [(6, .int 0), (5, .ref (adb_72 45)), (4, .int (noDayV (ia 0) (ia 2) (nI P) (nI N))), (0, .ref (ad 45)), (1, .int (nI P)), (2, .int (nI N)), (3, .int w)]) hxR hbR dX5_behind_78 hl (by decide) rfl (fun ls hl => ?_)
          have lp_80 : ∀ (fu : Nat) (i : Nat) (Kx : Nat → Nat → Int32), (i ≤ N) → (Kx = ridK n K (R P) i) → N - i < fu → ∀ (H : Heap) (locs : List Loc), wI E AR sR H locs (mW E ad kp (some (adb_72 45)) (va_up iv 44 c44_41) ia K R mv ++ (mW E adb_72 kpN_72 trN_72 ivN_72 iaN_72 Kx RN_72 mvN_72)) → ∀ ls : Array Slot, lv_has ls 7 [(0, .ref (ad 45)), (1, .int (nI P)), (2, .int (nI N)), (3, .int w), (4, .int (noDayV (ia 0) (ia 2) (nI P) (nI N))), (5, .ref (adb_72 45)), (6, .int (nI i))] → W pR l eR (rmF 20 38 1946) sR mR aR bR tR cR H locs 38 1946 QR (F0 mR 80 ls []) := by
            intro fu
            induction fu with
            | zero =>
              intro i Kx hi hKx hfu
              exact absurd hfu (Nat.not_lt_zero _)
            | succ fu ih_80 =>
              intro i Kx hi hKx hfu H locs hI ls hl
              refine lv_iload hxR hbR dX5_behind_80 (lv_at hl 6 rfl) ?_
              refine lv_iload_n hxR hbR dX5_behind_82 rfl (lv_at hl 2 rfl) ?_
              refine lv_icmp_ge (tgt := 108) hxR hbR dX5_behind_83 (by decide) (fun c_83 => ?_) (fun c_83 => ?_)
              · skip
                have c_83 : N ≤ i := (n_le (a := N) (b := i) (by omega) (by omega)).mp c_83
                refine lv_aload hxR hbR dX5_behind_108 (lv_at hl 5 rfl) ?_
                refine lv_aload_n hxR hbR dX5_behind_110 rfl (lv_at hl 0 rfl) ?_
                refine kVI (n := 0) (As := []) (rest := [.ref (adb_72 45)]) (fun w => w ++ (mW E adb_72 kpN_72 trN_72 ivN_72 iaN_72 Kx RN_72 mvN_72)) hxR hbR hmlR hts hown hK hA hl.1 (isCtx.suf _) hI (c5_all l E ad kp (some (adb_72 45)) (va_up iv 44 c44_41) ia K R mv n (up_n (by decide) hn) (by omega)) (lw_V q1664 q1666 qs36 q86 q1667) ⟨rfl, by decide +kernel⟩ 16 5 rfl rfl mW_o rfl (Nat.le_of_ble_eq_true rfl) (Nat.le_of_ble_eq_true rfl) ⟨Nat.le_of_ble_eq_true rfl, Nat.le_of_ble_eq_true rfl⟩ (Nat.le_of_ble_eq_true rfl) dX5_behind_111 (fun r_111 u H locs hp hI hz => ?_)
                have hI : wI E AR sR H locs (mW E ad kp (some (adb_72 45)) (va_up iv 44 c44_41) ia K R mv ++ (mW E adb_72 kpN_72 trN_72 ivN_72 iaN_72 Kx RN_72 mvN_72)) := hI
                have hp : r_111 = nI (2 ^ n - 1) := hp
                have hr_111 := hp
                subst hr_111
                refine kVI (n := 1) (As := [.int (nI (2 ^ n - 1))]) (rest := []) (fun w => (mW E ad kp (some (adb_72 45)) (va_up iv 44 c44_41) ia K R mv) ++ w) hxR hbR hmlR hts hown hK hA hl.1 (isCtx.pre _) hI (c5_groupsOf l E adb_72 kpN_72 trN_72 ivN_72 iaN_72 Kx RN_72 mvN_72 n st (2 ^ n - 1) (Eq.trans hv10_72 hn) (Eq.trans hv14_72 hst) (by omega) (by first | omega | with_reducible assumption) (by first | omega | with_reducible assumption)) (lw_V q1874 q1876 qs65 q86 q1877) ⟨rfl, by decide +kernel⟩ 16 5 rfl rfl mW_o rfl (Nat.le_of_ble_eq_true rfl) (Nat.le_of_ble_eq_true rfl) ⟨Nat.le_of_ble_eq_true rfl, Nat.le_of_ble_eq_true rfl⟩ (Nat.le_of_ble_eq_true rfl) dX5_behind_114 (fun r_114 u H locs hp hI hz => ?_)
                have hI : wI E AR sR H locs (mW E ad kp (some (adb_72 45)) (va_up iv 44 c44_41) ia K R mv ++ (mW E adb_72 kpN_72 trN_72 (va_up ivN_72 30 (nI ((GL Kx n st).length))) (va_up iaN_72 29 (wrL (iaN_72 29) 0 (GL Kx n st))) Kx RN_72 mvN_72)) := hI
                have hp : r_114 = nI (cntL (2 ^ n - 1) (GL Kx n st)) := hp
                have hr_114 := hp
                subst hr_114
                have hC : behC (ia 0) (ia 2) K R n st (nI P) (nI N) w = 0 := by
                  clear hret hI
                  unfold behC; rw [if_pos c_4]; rw [if_pos c_27]; simp only [nI_clamp (n := P) (by omega), nI_clamp (n := N) (by omega)]; exact if_pos c_45
                have hiN : i = N := by omega
                have eia9 : bumpR (ia 9) (behC (ia 0) (ia 2) K R n st (nI P) (nI N) w) = ia 9 := by rw [hC]; exact bump_0 _
                have hI := wI_w (ws' := mW E ad kp (oT (some adb_72)) (va_up iv 44 c44_41) (va_up ia 9 (bumpR (ia 9) (behC (ia 0) (ia 2) K R n st (nI P) (nI N) w))) K R mv ++ (oM E (some adb_72) kpN_72 trN_72 (va_up ivN_72 30 (nI ((GL Kx n st).length))) (va_up iaN_72 29 (wrL (iaN_72 29) 0 (GL Kx n st))) Kx RN_72 mvN_72)) (by rw [eia9, va_up_id (f := ia) (k := 9) (v := ia 9) rfl]; try rfl) hI
                obtain ⟨zg4, hzg4⟩ : ∃ z, z = va_up ivN_72 30 (nI ((GL Kx n st).length)) := ⟨_, rfl⟩
                rw [← hzg4] at hI
                obtain ⟨zg5, hzg5⟩ : ∃ z, z = va_up iaN_72 29 (wrL (iaN_72 29) 0 (GL Kx n st)) := ⟨_, rfl⟩
                rw [← hzg5] at hI
                exact hret (c44_41, (some adb_72), kpN_72, trN_72, zg4, zg5, Kx, RN_72, mvN_72) (nI (cntL (2 ^ n - 1) (GL Kx n st))) _ _ 38 1946 _ _ dX5_behind_117 hI (by show (nI (cntL (2 ^ n - 1) (GL Kx n st))) = gd (behC (ia 0) (ia 2) K R n st (nI P) (nI N) w) (behV K R n st (nI P) (nI N) w) (behC (ia 0) (ia 2) K R n st (nI P) (nI N) w); rw [hC]; unfold behV; simp only [nI_clamp (n := P) (by omega), nI_clamp (n := N) (by omega)]; rw [if_neg c_56, ← hiN, ← hKx]; rfl) (Nat.le_of_ble_eq_true rfl) (Nat.le_of_ble_eq_true rfl) rfl
              · skip
                have c_83 : i < N := Nat.lt_of_not_le (fun zz => c_83 ((n_le (a := N) (b := i) (by omega) (by omega)).mpr zz))
                refine lv_aload hxR hbR dX5_behind_86 (lv_at hl 5 rfl) ?_
                refine lv_aload_n hxR hbR dX5_behind_88 rfl (lv_at hl 0 rfl) ?_
                refine r_get hxR hbR hts hown hK hI okX5 (ci := 5) rfl 16 (he_l mW_o) 3 (by decide) q1481 rfl (v := .ref (ad 3)) rfl dX5_behind_89 ?_
                refine lv_iload_n hxR hbR dX5_behind_92 rfl (lv_at hl 1 rfl) ?_
                refine r_aald hxR hbR hK hI 20 3 (r := ad (60 + P)) rfl rfl (n := 8) (J := P) (he_l rfl) (by omega) (by decide) rfl dX5_behind_93 ?_
                refine lv_iload hxR hbR dX5_behind_94 (lv_at hl 6 rfl) ?_
                refine r_lald hxR hbR hK hI (8 + P) (n := 40) (J := i) (f := R P) (v := (R P) i) (he_l (mW_R P (by omega))) (by omega) (by decide) rfl dX5_behind_96 ?_
                refine lv_l2i (v := ((R P) i).toInt32) hxR hbR dX5_behind_97 rfl ?_
                refine lv_as (y := nI (tS (R P) i)) (tS_int (okT_1 (hall _ (by omega))) (by omega)) ?_
                have htl := okT_lt (hall i (by omega))
                refine kVI (n := 1) (As := [.int (nI (tS (R P) i))]) (rest := []) (fun w => (mW E ad kp (some (adb_72 45)) (va_up iv 44 c44_41) ia K R mv) ++ w) hxR hbR hmlR hts hown hK hA hl.1 (isCtx.pre _) hI (c5_meets l E adb_72 kpN_72 trN_72 ivN_72 iaN_72 Kx RN_72 mvN_72 n (tS (R P) i) (Eq.trans hv10_72 hn) (by omega) (by omega)) (lw_V q1845 q1847 qs62 q86 q1848) ⟨rfl, by decide +kernel⟩ 16 5 rfl rfl mW_o rfl (Nat.le_of_ble_eq_true rfl) (Nat.le_of_ble_eq_true rfl) ⟨Nat.le_of_ble_eq_true rfl, Nat.le_of_ble_eq_true rfl⟩ (Nat.le_of_ble_eq_true rfl) dX5_behind_98 (fun r_98 u H locs hp hI hz => ?_)
                have hI : wI E AR sR H locs (mW E ad kp (some (adb_72 45)) (va_up iv 44 c44_41) ia K R mv ++ (mW E adb_72 kpN_72 trN_72 ivN_72 iaN_72 (meetK Kx (tS (R P) i) n) RN_72 mvN_72)) := hI
                have hp : r_98 = nI (mC Kx (tS (R P) i) n) := hp
                have hr_98 := hp
                subst hr_98
                refine lv_pop hxR hbR dX5_behind_101 rfl ?_
                refine lv_iinc (v := nI (i + 1)) (lv' := [(6, .int (nI (i + 1))), (0, .ref (ad 45)), (1, .int (nI P)), (2, .int (nI N)), (3, .int w), (4, .int (noDayV (ia 0) (ia 2) (nI P) (nI N))), (5, .ref (adb_72 45))]) hxR hbR dX5_behind_102 hl (k := 6) rfl (show nI i + 1 = nI (i + 1) from nI_add _ 1) (by decide) rfl (fun ls hl => ?_)
                refine lv_goto (tgt := 80) hxR hbR dX5_behind_105 (by decide) ?_
                exact ih_80 (i + 1) (meetK Kx (tS (R P) i) n) (by first | omega | with_reducible assumption) (by rw [hKx]; rfl) (by omega) _ _ hI _ (lv_sub hl [1, 2, 3, 4, 5, 6, 0] rfl)
          exact lp_80 _ 0 K (by first | omega | with_reducible assumption) rfl (Nat.lt_succ_self _) _ _ hI _ (lv_sub hl [3, 4, 5, 6, 2, 1, 0] rfl)
        · skip
          have i_56 : w.toInt = 0 := by have zz := i_eq.mp c_56; exact zz
          refine lv_aload_n hxR hbR dX5_behind_59 rfl (lv_at hl 1 rfl) ?_
          refine kVI (n := 0) (As := []) (rest := []) (fun w => w ++ (oM E ob kpb trb ivb iab Kb Rb mvb)) hxR hbR hmlR hts hown hK hA hl.1 (isCtx.suf _) hI (c5_all l E ad kp (oT ob) (va_up iv 44 c44_41) ia K R mv n (up_n (by decide) hn) (by omega)) (lw_V q1664 q1666 qs36 q86 q1667) ⟨rfl, by decide +kernel⟩ 16 5 rfl rfl mW_o rfl (Nat.le_of_ble_eq_true rfl) (Nat.le_of_ble_eq_true rfl) ⟨Nat.le_of_ble_eq_true rfl, Nat.le_of_ble_eq_true rfl⟩ (Nat.le_of_ble_eq_true rfl) dX5_behind_60 (fun r_60 u H locs hp hI hz => ?_)
          have hI : wI E AR sR H locs (mW E ad kp (oT ob) (va_up iv 44 c44_41) ia K R mv ++ (oM E ob kpb trb ivb iab Kb Rb mvb)) := hI
          have hp : r_60 = nI (2 ^ n - 1) := hp
          have hr_60 := hp
          subst hr_60
          refine lv_aload_n hxR hbR dX5_behind_63 rfl (lv_at hl 1 rfl) ?_
          refine r_get hxR hbR hts hown hK hI okX5 (ci := 5) rfl 16 (he_l mW_o) 44 (by decide) q1522 rfl (v := .int c44_41) (al va_up_s) dX5_behind_64 ?_
          refine lv_as (y := nI (rode (R P) N)) (hc_41 c_45) ?_
          refine lv_iconst (v := (-1)) hxR hbR dX5_behind_67 (by decide) ?_
          refine lv_ixor hxR hbR dX5_behind_68 ?_
          refine lv_iand hxR hbR dX5_behind_69 ?_
          refine lv_as (y := nI (nd (2 ^ n - 1) (rode (R P) N))) (nb_nd (2 ^ n - 1) (rode (R P) N)) ?_
          have hC : behC (ia 0) (ia 2) K R n st (nI P) (nI N) w = 0 := by
            clear hret hI
            unfold behC; rw [if_pos c_4]; rw [if_pos c_27]; simp only [nI_clamp (n := P) (by omega), nI_clamp (n := N) (by omega)]; exact if_pos c_45
          have eia9 : bumpR (ia 9) (behC (ia 0) (ia 2) K R n st (nI P) (nI N) w) = ia 9 := by rw [hC]; exact bump_0 _
          have hI := wI_w (ws' := mW E ad kp (oT ob) (va_up iv 44 c44_41) (va_up ia 9 (bumpR (ia 9) (behC (ia 0) (ia 2) K R n st (nI P) (nI N) w))) K R mv ++ (oM E ob kpb trb ivb iab Kb Rb mvb)) (by rw [eia9, va_up_id (f := ia) (k := 9) (v := ia 9) rfl]; try rfl) hI
          exact hret (c44_41, ob, kpb, trb, ivb, iab, Kb, Rb, mvb) (nI (nd (2 ^ n - 1) (rode (R P) N))) _ _ 0 0 _ _ dX5_behind_70 hI (by show (nI (nd (2 ^ n - 1) (rode (R P) N))) = gd (behC (ia 0) (ia 2) K R n st (nI P) (nI N) w) (behV K R n st (nI P) (nI N) w) (behC (ia 0) (ia 2) K R n st (nI P) (nI N) w); rw [hC]; unfold behV; simp only [nI_clamp (n := P) (by omega), nI_clamp (n := N) (by omega)]; rw [if_pos c_56]; rfl) (Nat.le_of_ble_eq_true rfl) (Nat.le_of_ble_eq_true rfl) rfl
      · skip
        have i_45 : ¬ ((wrV K n st (R P) N).toInt = (-1)) := by have zz := mt i_eq.mpr c_45; exact zz
        refine lv_aload_n hxR hbR dX5_behind_48 rfl (lv_at hl 1 rfl) ?_
        refine lv_bipush (v := (-5)) hxR hbR dX5_behind_49 (by decide) ?_
        refine kVI (n := 1) (As := [.int (-5)]) (rest := []) (fun w => w ++ (oM E ob kpb trb ivb iab Kb Rb mvb)) hxR hbR hmlR hts hown hK hA hl.1 (isCtx.suf _) hI (c5_refuse l E ad kp (oT ob) (va_up iv 44 c44_41) ia K R mv (-5) 5 (by decide) (by decide)) (lw_V q1624 q1626 qs34 q86 q1627) ⟨rfl, by decide +kernel⟩ 16 5 rfl rfl mW_o rfl (Nat.le_of_ble_eq_true rfl) (Nat.le_of_ble_eq_true rfl) ⟨Nat.le_of_ble_eq_true rfl, Nat.le_of_ble_eq_true rfl⟩ (Nat.le_of_ble_eq_true rfl) dX5_behind_51 (fun r_51 u H locs hp hI hz => ?_)
        have hI : wI E AR sR H locs (mW E ad kp (oT ob) (va_up iv 44 c44_41) (va_up ia 9 (va_up (ia 9) 5 (ia 9 5 + 1))) K R mv ++ (oM E ob kpb trb ivb iab Kb Rb mvb)) := hI
        have hp : r_51 = (-5) := hp
        have hr_51 := hp
        subst hr_51
        have hC : behC (ia 0) (ia 2) K R n st (nI P) (nI N) w = (-5) := by
          clear hret hI
          unfold behC; rw [if_pos c_4]; rw [if_pos c_27]; simp only [nI_clamp (n := P) (by omega), nI_clamp (n := N) (by omega)]; exact if_neg c_45
        have eia9 : bumpR (ia 9) (behC (ia 0) (ia 2) K R n st (nI P) (nI N) w) = va_up (ia 9) 5 (ia 9 5 + 1) := by rw [hC]; exact bump_5 _
        have hI := wI_w (ws' := mW E ad kp (oT ob) (va_up iv 44 c44_41) (va_up ia 9 (bumpR (ia 9) (behC (ia 0) (ia 2) K R n st (nI P) (nI N) w))) K R mv ++ (oM E ob kpb trb ivb iab Kb Rb mvb)) (by rw [eia9]; try rfl) hI
        exact hret (c44_41, ob, kpb, trb, ivb, iab, Kb, Rb, mvb) (-5) _ _ 0 0 _ _ dX5_behind_54 hI (by show (-5) = gd (behC (ia 0) (ia 2) K R n st (nI P) (nI N) w) (behV K R n st (nI P) (nI N) w) (behC (ia 0) (ia 2) K R n st (nI P) (nI N) w); rw [hC]; first | rfl | (simp only [nI_clamp (n := P) (by omega), nI_clamp (n := N) (by omega)]; rfl) | (simp only [gd_0, nI_clamp (n := P) (by omega), nI_clamp (n := N) (by omega)]; split <;> first | rfl | contradiction)) (Nat.le_of_ble_eq_true rfl) (Nat.le_of_ble_eq_true rfl) rfl
    · skip
      have i_27 : ¬ ((noDayV (ia 0) (ia 2) x k).toInt = 0) := by have zz := mt i_eq.mpr c_27; exact zz
      refine lv_iload hxR hbR dX5_behind_30 (lv_at hl 0 rfl) ?_
      have hC : behC (ia 0) (ia 2) K R n st x k w = noDayV (ia 0) (ia 2) x k := by
        clear hret hI
        unfold behC; rw [if_pos c_4]; exact if_neg c_27
      have eia9 : bumpR (ia 9) (behC (ia 0) (ia 2) K R n st x k w) = bumpR (ia 9) (noDayV (ia 0) (ia 2) x k) := by rw [hC]
      have hI := wI_w (ws' := mW E ad kp (oT ob) (va_up iv 44 (iv 44)) (va_up ia 9 (bumpR (ia 9) (behC (ia 0) (ia 2) K R n st x k w))) K R mv ++ (oM E ob kpb trb ivb iab Kb Rb mvb)) (by rw [eia9, va_up_id (f := iv) (k := 44) (v := iv 44) rfl]; try rfl) hI
      exact hret (iv 44, ob, kpb, trb, ivb, iab, Kb, Rb, mvb) (noDayV (ia 0) (ia 2) x k) _ _ 0 0 _ _ dX5_behind_32 hI (by show (noDayV (ia 0) (ia 2) x k) = gd (behC (ia 0) (ia 2) K R n st x k w) (behV K R n st x k w) (behC (ia 0) (ia 2) K R n st x k w); rw [hC]; exact (gd_n c_27).symm) (Nat.le_of_ble_eq_true rfl) (Nat.le_of_ble_eq_true rfl) rfl
  · skip
    have c_4 : ¬ ((0 : Int64).toInt ≤ w.toInt64.toInt ∧ w.toInt64.toInt ≤ (1 : Int64).toInt) := of_decide_eq_false c_4
    have c_4 : ¬ (0 ≤ w.toInt ∧ w.toInt ≤ 1) := by simp only [Int32.toInt_toInt64] at c_4; exact c_4
    refine lv_if_ne (tgt := 17) hxR hbR dX5_behind_7 (by decide) (fun c => absurd c (by decide)) (fun _ => ?_)
    refine lv_aload_n hxR hbR dX5_behind_10 rfl (lv_at hl 0 rfl) ?_
    refine lv_bipush (v := (-2)) hxR hbR dX5_behind_11 (by decide) ?_
    refine kVI (n := 1) (As := [.int (-2)]) (rest := []) (fun w => w ++ (oM E ob kpb trb ivb iab Kb Rb mvb)) hxR hbR hmlR hts hown hK hA hl.1 (isCtx.suf _) hI (c5_refuse l E ad kp (oT ob) iv ia K R mv (-2) 2 (by decide) (by decide)) (lw_V q1624 q1626 qs34 q86 q1627) ⟨rfl, by decide +kernel⟩ 16 5 rfl rfl mW_o rfl (Nat.le_of_ble_eq_true rfl) (Nat.le_of_ble_eq_true rfl) ⟨Nat.le_of_ble_eq_true rfl, Nat.le_of_ble_eq_true rfl⟩ (Nat.le_of_ble_eq_true rfl) dX5_behind_13 (fun r_13 u H locs hp hI hz => ?_)
    have hI : wI E AR sR H locs (mW E ad kp (oT ob) iv (va_up ia 9 (va_up (ia 9) 2 (ia 9 2 + 1))) K R mv ++ (oM E ob kpb trb ivb iab Kb Rb mvb)) := hI
    have hp : r_13 = (-2) := hp
    have hr_13 := hp
    subst hr_13
    have hC : behC (ia 0) (ia 2) K R n st x k w = (-2) := by
      clear hret hI
      exact if_neg c_4
    have eia9 : bumpR (ia 9) (behC (ia 0) (ia 2) K R n st x k w) = va_up (ia 9) 2 (ia 9 2 + 1) := by rw [hC]; exact bump_2 _
    have hI := wI_w (ws' := mW E ad kp (oT ob) (va_up iv 44 (iv 44)) (va_up ia 9 (bumpR (ia 9) (behC (ia 0) (ia 2) K R n st x k w))) K R mv ++ (oM E ob kpb trb ivb iab Kb Rb mvb)) (by rw [eia9, va_up_id (f := iv) (k := 44) (v := iv 44) rfl]; try rfl) hI
    exact hret (iv 44, ob, kpb, trb, ivb, iab, Kb, Rb, mvb) (-2) _ _ 0 0 _ _ dX5_behind_16 hI (by show (-2) = gd (behC (ia 0) (ia 2) K R n st x k w) (behV K R n st x k w) (behC (ia 0) (ia 2) K R n st x k w); rw [hC]; first | rfl | (simp only [gd_0]; split <;> first | rfl | contradiction)) (Nat.le_of_ble_eq_true rfl) (Nat.le_of_ble_eq_true rfl) rfl
