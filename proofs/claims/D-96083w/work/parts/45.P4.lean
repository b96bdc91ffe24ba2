theorem c5_run (l : Launch) (E : En) (ad : Nat → Nat) (kp tr : Option Nat) (iv : Nat → Int32) (ia K : Nat → Nat → Int32) (R : Nat → Nat → Int64) (mv : Nat → Int64) (n st : Nat) (x : Int32) (hn : iv 10 = nI n) (hst : iv 14 = nI st) (hn7 : n ≤ 7) (hs2 : 2 ≤ st) (hs4 : st ≤ 4) (hh : ∀ q, q < n → ∃ x, x < 24 ∧ ia 11 q = nI x) (hkd : ∀ P, P < 8 → ∃ k, k < 100 ∧ ia 5 P = nI k) (hby : ∀ P, P < 8 → ∃ k, k < 100 ∧ ia 6 P = nI k) : CtI l E yX5_run cX5_run 3 .int 270 0 0 [.ref (ad 45), .int x] (mW E ad kp tr iv ia K R mv) (fun (r : Int32) (u : Int32 × (Nat → Int32) × Int32 × Int32 × (Nat → Int32) × (Nat → Int32) × (Nat → Int32)) => r = gd (noManV (ia 0) x) (nI ((dayC K (ia 12) (ia 11) n st (kdV (ia 5) x) (kdV (ia 6) x)).length)) (noManV (ia 0) x)) (fun (u : Int32 × (Nat → Int32) × Int32 × Int32 × (Nat → Int32) × (Nat → Int32) × (Nat → Int32)) => mW E ad kp tr (va_up (va_up (va_up iv 30 u.1) 33 u.2.2.1) 34 u.2.2.2.1) (va_up (va_up (va_up (va_up (va_up ia 9 (bumpR (ia 9) (noManV (ia 0) x))) 29 u.2.1) 31 u.2.2.2.2.1) 32 u.2.2.2.2.2.1) 35 u.2.2.2.2.2.2) K R mv) := by
  refine CtI.of (by decide +kernel) (Nat.le_of_ble_eq_true rfl) ?_
  intro pR eR sR mR aR bR tR cR AR ls QR hxR hbR hmlR hts hown hlk hnm hA hK hI hl hret
  have hl : lv_has ls 3 [(0, .ref (ad 45)), (1, .int x)] := hl
  refine lv_aload_n hxR hbR dX5_run_0 rfl (lv_at hl 0 rfl) ?_
  refine lv_iload_n hxR hbR dX5_run_1 rfl (lv_at hl 1 rfl) ?_
  refine kVI (n := 1) (As := [.int x]) (rest := []) (fun w => w) hxR hbR hmlR hts hown hK hA hl.1 isCtx.id hI (c5_noMan l E ad kp tr iv ia K R mv x ) (lw_V q1894 q1896 qs66 q86 q1897) ⟨rfl, by decide +kernel⟩ 16 5 rfl rfl mW_o rfl (Nat.le_of_ble_eq_true rfl) (Nat.le_of_ble_eq_true rfl) ⟨Nat.le_of_ble_eq_true rfl, Nat.le_of_ble_eq_true rfl⟩ (Nat.le_of_ble_eq_true rfl) dX5_run_2 (fun r_2 u H locs hp hI hz => ?_)
  have hI : wI E AR sR H locs (mW E ad kp tr iv (va_up ia 9 (bumpR (ia 9) (noManV (ia 0) x))) K R mv) := hI
  have hp : r_2 = noManV (ia 0) x := hp
  have hr_2 := hp
  subst hr_2
  refine lv_istore_n (lv' := [(2, .int (noManV (ia 0) x)), (0, .ref (ad 45)), (1, .int x)]) hxR hbR dX5_run_5 rfl hl (by decide) rfl (fun ls hl => ?_)
  refine lv_iload_n hxR hbR dX5_run_6 rfl (lv_at hl 0 rfl) ?_
  refine lv_if_eq (tgt := 12) hxR hbR dX5_run_7 (by decide) (fun c_7 => ?_) (fun c_7 => ?_)
  · skip
    have i_7 : (noManV (ia 0) x).toInt = 0 := by have zz := i_eq.mp c_7; exact zz
    obtain ⟨P, hP, rfl⟩ := nm8 c_7
    have tP : (nI P).toInt = (P : Int) := nI_toInt (by omega)
    have hne := nm_ne hP c_7
    obtain ⟨kd, hkd1, hkd2⟩ := hkd P hP
    obtain ⟨k9, hk91, hk92⟩ := hby P hP
    have hI := wI_w (ws' := mW E ad kp tr iv ia K R mv) (by rw [c_7, bump_0, va_up_id (f := ia) (k := 9) (v := ia 9) rfl]) hI
    refine lv_aload_n hxR hbR dX5_run_12 rfl (lv_at hl 1 rfl) ?_
    refine lv_aload_n hxR hbR dX5_run_13 rfl (lv_at hl 1 rfl) ?_
    refine r_get hxR hbR hts hown hK hI okX5 (ci := 5) rfl 16 mW_o 5 (by decide) q1483 rfl (v := .ref (ad 5)) rfl dX5_run_14 ?_
    refine lv_iload_n hxR hbR dX5_run_17 rfl (lv_at hl 2 rfl) ?_
    refine r_iald hxR hbR hK hI 22 (n := 8) (J := P) (f := ia 5) (v := nI kd) (mW_g5 rfl) (by omega) (by decide) hkd2 dX5_run_18 ?_
    refine lv_aload_n hxR hbR dX5_run_19 rfl (lv_at hl 1 rfl) ?_
    refine r_get hxR hbR hts hown hK hI okX5 (ci := 5) rfl 16 mW_o 6 (by decide) q1484 rfl (v := .ref (ad 6)) rfl dX5_run_20 ?_
    refine lv_iload_n hxR hbR dX5_run_23 rfl (lv_at hl 2 rfl) ?_
    refine r_iald hxR hbR hK hI 23 (n := 8) (J := P) (f := ia 6) (v := nI k9) (mW_g6 rfl) (by omega) (by decide) hk92 dX5_run_24 ?_
    refine kVV (n := 2) (As := [.int (nI kd), .int (nI k9)]) (rest := []) (fun w => w) hxR hbR hmlR hts hown hK hA hl.1 isCtx.id hI (c5_goesBy l E ad kp tr iv ia K R mv n st kd k9 hn hst (by first | omega | with_reducible assumption) (by first | omega | with_reducible assumption) (by first | omega | with_reducible assumption) (by first | omega | with_reducible assumption) (by first | omega | with_reducible assumption) hh) (lw_V q1902 q1904 qs67 q86 q1905) ⟨rfl, by decide +kernel⟩ 16 5 rfl rfl mW_o rfl (Nat.le_of_ble_eq_true rfl) (Nat.le_of_ble_eq_true rfl) ⟨Nat.le_of_ble_eq_true rfl, Nat.le_of_ble_eq_true rfl⟩ (Nat.le_of_ble_eq_true rfl) dX5_run_25 (fun u H locs hp hI hz => ?_)
    obtain ⟨c30_25, g29_25⟩ := u
    have hI : wI E AR sR H locs (mW E ad kp tr (va_up (va_up (va_up iv 30 c30_25) 33 (nI ((dayP K (ia 12) (ia 11) n st kd k9 (ia 35) n).1.length))) 34 (nI ((dayP K (ia 12) (ia 11) n st kd k9 (ia 35) n).2.1))) (va_up (va_up (va_up (va_up ia 29 g29_25) 31 (wrL (ia 31) 0 (comL (ia 11) n))) 32 (wrL (ia 32) 0 (dayP K (ia 12) (ia 11) n st kd k9 (ia 35) n).1)) 35 (leaveW (ia 12) (ia 11) 24 (dayP K (ia 12) (ia 11) n st kd k9 (ia 35) n).2.1 n (dayP K (ia 12) (ia 11) n st kd k9 (ia 35) n).2.2)) K R mv) := hI
    refine lv_aload_n hxR hbR dX5_run_28 rfl (lv_at hl 1 rfl) ?_
    refine r_get hxR hbR hts hown hK hI okX5 (ci := 5) rfl 16 mW_o 33 (by decide) q1511 rfl (v := .int (nI ((dayP K (ia 12) (ia 11) n st kd k9 (ia 35) n).1.length))) (al (up_n (by decide) va_up_s)) dX5_run_29 ?_
    have hC : noManV (ia 0) (nI P) = 0 := by
      clear hret hI
      exact c_7
    have eia9 : bumpR (ia 9) (noManV (ia 0) (nI P)) = ia 9 := by rw [hC]; exact bump_0 _
    have hI := wI_w (ws' := mW E ad kp tr (va_up (va_up (va_up iv 30 c30_25) 33 (nI ((dayP K (ia 12) (ia 11) n st kd k9 (ia 35) n).1.length))) 34 (nI ((dayP K (ia 12) (ia 11) n st kd k9 (ia 35) n).2.1))) (va_up (va_up (va_up (va_up (va_up ia 9 (bumpR (ia 9) (noManV (ia 0) (nI P)))) 29 g29_25) 31 (wrL (ia 31) 0 (comL (ia 11) n))) 32 (wrL (ia 32) 0 (dayP K (ia 12) (ia 11) n st kd k9 (ia 35) n).1)) 35 (leaveW (ia 12) (ia 11) 24 (dayP K (ia 12) (ia 11) n st kd k9 (ia 35) n).2.1 n (dayP K (ia 12) (ia 11) n st kd k9 (ia 35) n).2.2)) K R mv) (by rw [eia9, va_up_id (f := ia) (k := 9) (v := ia 9) rfl]; try rfl) hI
    obtain ⟨zg2, hzg2⟩ : ∃ z, z = nI ((dayP K (ia 12) (ia 11) n st kd k9 (ia 35) n).1.length) := ⟨_, rfl⟩
    rw [← hzg2] at hI
    obtain ⟨zg3, hzg3⟩ : ∃ z, z = nI ((dayP K (ia 12) (ia 11) n st kd k9 (ia 35) n).2.1) := ⟨_, rfl⟩
    rw [← hzg3] at hI
    obtain ⟨zg4, hzg4⟩ : ∃ z, z = wrL (ia 31) 0 (comL (ia 11) n) := ⟨_, rfl⟩
    rw [← hzg4] at hI
    obtain ⟨zg5, hzg5⟩ : ∃ z, z = wrL (ia 32) 0 (dayP K (ia 12) (ia 11) n st kd k9 (ia 35) n).1 := ⟨_, rfl⟩
    rw [← hzg5] at hI
    obtain ⟨zg6, hzg6⟩ : ∃ z, z = leaveW (ia 12) (ia 11) 24 (dayP K (ia 12) (ia 11) n st kd k9 (ia 35) n).2.1 n (dayP K (ia 12) (ia 11) n st kd k9 (ia 35) n).2.2 := ⟨_, rfl⟩
    rw [← hzg6] at hI
    exact hret (c30_25, g29_25, zg2, zg3, zg4, zg5, zg6) (nI ((dayP K (ia 12) (ia 11) n st kd k9 (ia 35) n).1.length)) _ _ 0 0 _ _ dX5_run_32 hI (by show (nI ((dayP K (ia 12) (ia 11) n st kd k9 (ia 35) n).1.length)) = gd (noManV (ia 0) (nI P)) (nI ((dayC K (ia 12) (ia 11) n st (kdV (ia 5) (nI P)) (kdV (ia 6) (nI P))).length)) (noManV (ia 0) (nI P)); rw [hC, dayC_eq, kdV_n hP hkd2 hkd1, kdV_n hP hk92 hk91]; rfl) (Nat.le_of_ble_eq_true rfl) (Nat.le_of_ble_eq_true rfl) rfl
  · skip
    have i_7 : ¬ ((noManV (ia 0) x).toInt = 0) := by have zz := mt i_eq.mpr c_7; exact zz
    refine lv_iload_n hxR hbR dX5_run_10 rfl (lv_at hl 0 rfl) ?_
    have hC : noManV (ia 0) x = noManV (ia 0) x := by
      clear hret hI
      rfl
    have hI := wI_w (ws' := mW E ad kp tr (va_up (va_up (va_up iv 30 (iv 30)) 33 (iv 33)) 34 (iv 34)) (va_up (va_up (va_up (va_up (va_up ia 9 (bumpR (ia 9) (noManV (ia 0) x))) 29 (ia 29)) 31 (ia 31)) 32 (ia 32)) 35 (ia 35)) K R mv) (by rw [va_up_id (f := iv) (k := 30) (v := iv 30) rfl, va_up_id (f := iv) (k := 33) (v := iv 33) rfl, va_up_id (f := iv) (k := 34) (v := iv 34) rfl, va_up_id (f := (va_up ia 9 (bumpR (ia 9) (noManV (ia 0) x)))) (k := 29) (v := ia 29) (up_n (by decide) rfl), va_up_id (f := (va_up ia 9 (bumpR (ia 9) (noManV (ia 0) x)))) (k := 31) (v := ia 31) (up_n (by decide) rfl), va_up_id (f := (va_up ia 9 (bumpR (ia 9) (noManV (ia 0) x)))) (k := 32) (v := ia 32) (up_n (by decide) rfl), va_up_id (f := (va_up ia 9 (bumpR (ia 9) (noManV (ia 0) x)))) (k := 35) (v := ia 35) (up_n (by decide) rfl)]; try rfl) hI
    exact hret (iv 30, ia 29, iv 33, iv 34, ia 31, ia 32, ia 35) (noManV (ia 0) x) _ _ 0 0 _ _ dX5_run_11 hI (by show (noManV (ia 0) x) = gd (noManV (ia 0) x) (nI ((dayC K (ia 12) (ia 11) n st (kdV (ia 5) x) (kdV (ia 6) x)).length)) (noManV (ia 0) x); rw [hC]; exact (gd_n c_7).symm) (Nat.le_of_ble_eq_true rfl) (Nat.le_of_ble_eq_true rfl) rfl

theorem c5_left (l : Launch) (E : En) (ad : Nat → Nat) (kp tr : Option Nat) (iv : Nat → Int32) (ia K : Nat → Nat → Int32) (R : Nat → Nat → Int64) (mv : Nat → Int64) (n st : Nat) (x : Int32) (hn : iv 10 = nI n) (hst : iv 14 = nI st) (hn7 : n ≤ 7) (hs2 : 2 ≤ st) (hs4 : st ≤ 4) (hh : ∀ q, q < n → ∃ x, x < 24 ∧ ia 11 q = nI x) (hkd : ∀ P, P < 8 → ∃ k, k < 100 ∧ ia 5 P = nI k) (hby : ∀ P, P < 8 → ∃ k, k < 100 ∧ ia 6 P = nI k) : CtI l E yX5_left cX5_left 3 .int 270 0 0 [.ref (ad 45), .int x] (mW E ad kp tr iv ia K R mv) (fun (r : Int32) (u : Int32 × (Nat → Int32) × Int32 × Int32 × (Nat → Int32) × (Nat → Int32) × (Nat → Int32)) => r = gd (noManV (ia 0) x) (nI (dayY K (ia 12) (ia 11) n st (kdV (ia 5) x) (kdV (ia 6) x))) (noManV (ia 0) x)) (fun (u : Int32 × (Nat → Int32) × Int32 × Int32 × (Nat → Int32) × (Nat → Int32) × (Nat → Int32)) => mW E ad kp tr (va_up (va_up (va_up iv 30 u.1) 33 u.2.2.1) 34 u.2.2.2.1) (va_up (va_up (va_up (va_up (va_up ia 9 (bumpR (ia 9) (noManV (ia 0) x))) 29 u.2.1) 31 u.2.2.2.2.1) 32 u.2.2.2.2.2.1) 35 u.2.2.2.2.2.2) K R mv) := by
  refine CtI.of (by decide +kernel) (Nat.le_of_ble_eq_true rfl) ?_
  intro pR eR sR mR aR bR tR cR AR ls QR hxR hbR hmlR hts hown hlk hnm hA hK hI hl hret
  have hl : lv_has ls 3 [(0, .ref (ad 45)), (1, .int x)] := hl
  refine lv_aload_n hxR hbR dX5_left_0 rfl (lv_at hl 0 rfl) ?_
  refine lv_iload_n hxR hbR dX5_left_1 rfl (lv_at hl 1 rfl) ?_
  refine kVI (n := 1) (As := [.int x]) (rest := []) (fun w => w) hxR hbR hmlR hts hown hK hA hl.1 isCtx.id hI (c5_noMan l E ad kp tr iv ia K R mv x ) (lw_V q1894 q1896 qs66 q86 q1897) ⟨rfl, by decide +kernel⟩ 16 5 rfl rfl mW_o rfl (Nat.le_of_ble_eq_true rfl) (Nat.le_of_ble_eq_true rfl) ⟨Nat.le_of_ble_eq_true rfl, Nat.le_of_ble_eq_true rfl⟩ (Nat.le_of_ble_eq_true rfl) dX5_left_2 (fun r_2 u H locs hp hI hz => ?_)
  have hI : wI E AR sR H locs (mW E ad kp tr iv (va_up ia 9 (bumpR (ia 9) (noManV (ia 0) x))) K R mv) := hI
  have hp : r_2 = noManV (ia 0) x := hp
  have hr_2 := hp
  subst hr_2
  refine lv_istore_n (lv' := [(2, .int (noManV (ia 0) x)), (0, .ref (ad 45)), (1, .int x)]) hxR hbR dX5_left_5 rfl hl (by decide) rfl (fun ls hl => ?_)
  refine lv_iload_n hxR hbR dX5_left_6 rfl (lv_at hl 0 rfl) ?_
  refine lv_if_eq (tgt := 12) hxR hbR dX5_left_7 (by decide) (fun c_7 => ?_) (fun c_7 => ?_)
  · skip
    have i_7 : (noManV (ia 0) x).toInt = 0 := by have zz := i_eq.mp c_7; exact zz
    obtain ⟨P, hP, rfl⟩ := nm8 c_7
    have tP : (nI P).toInt = (P : Int) := nI_toInt (by omega)
    have hne := nm_ne hP c_7
    obtain ⟨kd, hkd1, hkd2⟩ := hkd P hP
    obtain ⟨k9, hk91, hk92⟩ := hby P hP
    have hI := wI_w (ws' := mW E ad kp tr iv ia K R mv) (by rw [c_7, bump_0, va_up_id (f := ia) (k := 9) (v := ia 9) rfl]) hI
    refine lv_aload_n hxR hbR dX5_left_12 rfl (lv_at hl 1 rfl) ?_
    refine lv_aload_n hxR hbR dX5_left_13 rfl (lv_at hl 1 rfl) ?_
    refine r_get hxR hbR hts hown hK hI okX5 (ci := 5) rfl 16 mW_o 5 (by decide) q1483 rfl (v := .ref (ad 5)) rfl dX5_left_14 ?_
    refine lv_iload_n hxR hbR dX5_left_17 rfl (lv_at hl 2 rfl) ?_
    refine r_iald hxR hbR hK hI 22 (n := 8) (J := P) (f := ia 5) (v := nI kd) (mW_g5 rfl) (by omega) (by decide) hkd2 dX5_left_18 ?_
    refine lv_aload_n hxR hbR dX5_left_19 rfl (lv_at hl 1 rfl) ?_
    refine r_get hxR hbR hts hown hK hI okX5 (ci := 5) rfl 16 mW_o 6 (by decide) q1484 rfl (v := .ref (ad 6)) rfl dX5_left_20 ?_
    refine lv_iload_n hxR hbR dX5_left_23 rfl (lv_at hl 2 rfl) ?_
    refine r_iald hxR hbR hK hI 23 (n := 8) (J := P) (f := ia 6) (v := nI k9) (mW_g6 rfl) (by omega) (by decide) hk92 dX5_left_24 ?_
    refine kVV (n := 2) (As := [.int (nI kd), .int (nI k9)]) (rest := []) (fun w => w) hxR hbR hmlR hts hown hK hA hl.1 isCtx.id hI (c5_goesBy l E ad kp tr iv ia K R mv n st kd k9 hn hst (by first | omega | with_reducible assumption) (by first | omega | with_reducible assumption) (by first | omega | with_reducible assumption) (by first | omega | with_reducible assumption) (by first | omega | with_reducible assumption) hh) (lw_V q1902 q1904 qs67 q86 q1905) ⟨rfl, by decide +kernel⟩ 16 5 rfl rfl mW_o rfl (Nat.le_of_ble_eq_true rfl) (Nat.le_of_ble_eq_true rfl) ⟨Nat.le_of_ble_eq_true rfl, Nat.le_of_ble_eq_true rfl⟩ (Nat.le_of_ble_eq_true rfl) dX5_left_25 (fun u H locs hp hI hz => ?_)
    obtain ⟨c30_25, g29_25⟩ := u
    have hI : wI E AR sR H locs (mW E ad kp tr (va_up (va_up (va_up iv 30 c30_25) 33 (nI ((dayP K (ia 12) (ia 11) n st kd k9 (ia 35) n).1.length))) 34 (nI ((dayP K (ia 12) (ia 11) n st kd k9 (ia 35) n).2.1))) (va_up (va_up (va_up (va_up ia 29 g29_25) 31 (wrL (ia 31) 0 (comL (ia 11) n))) 32 (wrL (ia 32) 0 (dayP K (ia 12) (ia 11) n st kd k9 (ia 35) n).1)) 35 (leaveW (ia 12) (ia 11) 24 (dayP K (ia 12) (ia 11) n st kd k9 (ia 35) n).2.1 n (dayP K (ia 12) (ia 11) n st kd k9 (ia 35) n).2.2)) K R mv) := hI
    refine lv_aload_n hxR hbR dX5_left_28 rfl (lv_at hl 1 rfl) ?_
    refine r_get hxR hbR hts hown hK hI okX5 (ci := 5) rfl 16 mW_o 34 (by decide) q1512 rfl (v := .int (nI ((dayP K (ia 12) (ia 11) n st kd k9 (ia 35) n).2.1))) (al va_up_s) dX5_left_29 ?_
    have hC : noManV (ia 0) (nI P) = 0 := by
      clear hret hI
      exact c_7
    have eia9 : bumpR (ia 9) (noManV (ia 0) (nI P)) = ia 9 := by rw [hC]; exact bump_0 _
    have hI := wI_w (ws' := mW E ad kp tr (va_up (va_up (va_up iv 30 c30_25) 33 (nI ((dayP K (ia 12) (ia 11) n st kd k9 (ia 35) n).1.length))) 34 (nI ((dayP K (ia 12) (ia 11) n st kd k9 (ia 35) n).2.1))) (va_up (va_up (va_up (va_up (va_up ia 9 (bumpR (ia 9) (noManV (ia 0) (nI P)))) 29 g29_25) 31 (wrL (ia 31) 0 (comL (ia 11) n))) 32 (wrL (ia 32) 0 (dayP K (ia 12) (ia 11) n st kd k9 (ia 35) n).1)) 35 (leaveW (ia 12) (ia 11) 24 (dayP K (ia 12) (ia 11) n st kd k9 (ia 35) n).2.1 n (dayP K (ia 12) (ia 11) n st kd k9 (ia 35) n).2.2)) K R mv) (by rw [eia9, va_up_id (f := ia) (k := 9) (v := ia 9) rfl]; try rfl) hI
    obtain ⟨zg2, hzg2⟩ : ∃ z, z = nI ((dayP K (ia 12) (ia 11) n st kd k9 (ia 35) n).1.length) := ⟨_, rfl⟩
    rw [← hzg2] at hI
    obtain ⟨zg3, hzg3⟩ : ∃ z, z = nI ((dayP K (ia 12) (ia 11) n st kd k9 (ia 35) n).2.1) := ⟨_, rfl⟩
    rw [← hzg3] at hI
    obtain ⟨zg4, hzg4⟩ : ∃ z, z = wrL (ia 31) 0 (comL (ia 11) n) := ⟨_, rfl⟩
    rw [← hzg4] at hI
    obtain ⟨zg5, hzg5⟩ : ∃ z, z = wrL (ia 32) 0 (dayP K (ia 12) (ia 11) n st kd k9 (ia 35) n).1 := ⟨_, rfl⟩
    rw [← hzg5] at hI
    obtain ⟨zg6, hzg6⟩ : ∃ z, z = leaveW (ia 12) (ia 11) 24 (dayP K (ia 12) (ia 11) n st kd k9 (ia 35) n).2.1 n (dayP K (ia 12) (ia 11) n st kd k9 (ia 35) n).2.2 := ⟨_, rfl⟩
    rw [← hzg6] at hI
    exact hret (c30_25, g29_25, zg2, zg3, zg4, zg5, zg6) (nI ((dayP K (ia 12) (ia 11) n st kd k9 (ia 35) n).2.1)) _ _ 0 0 _ _ dX5_left_32 hI (by show (nI ((dayP K (ia 12) (ia 11) n st kd k9 (ia 35) n).2.1)) = gd (noManV (ia 0) (nI P)) (nI (dayY K (ia 12) (ia 11) n st (kdV (ia 5) (nI P)) (kdV (ia 6) (nI P)))) (noManV (ia 0) (nI P)); rw [hC, dayY_eq, kdV_n hP hkd2 hkd1, kdV_n hP hk92 hk91]; rfl) (Nat.le_of_ble_eq_true rfl) (Nat.le_of_ble_eq_true rfl) rfl
  · skip
    have i_7 : ¬ ((noManV (ia 0) x).toInt = 0) := by have zz := mt i_eq.mpr c_7; exact zz
    refine lv_iload_n hxR hbR dX5_left_10 rfl (lv_at hl 0 rfl) ?_
    have hC : noManV (ia 0) x = noManV (ia 0) x := by
      clear hret hI
      rfl
    have hI := wI_w (ws' := mW E ad kp tr (va_up (va_up (va_up iv 30 (iv 30)) 33 (iv 33)) 34 (iv 34)) (va_up (va_up (va_up (va_up (va_up ia 9 (bumpR (ia 9) (noManV (ia 0) x))) 29 (ia 29)) 31 (ia 31)) 32 (ia 32)) 35 (ia 35)) K R mv) (by rw [va_up_id (f := iv) (k := 30) (v := iv 30) rfl, va_up_id (f := iv) (k := 33) (v := iv 33) rfl, va_up_id (f := iv) (k := 34) (v := iv 34) rfl, va_up_id (f := (va_up ia 9 (bumpR (ia 9) (noManV (ia 0) x)))) (k := 29) (v := ia 29) (up_n (by decide) rfl), va_up_id (f := (va_up ia 9 (bumpR (ia 9) (noManV (ia 0) x)))) (k := 31) (v := ia 31) (up_n (by decide) rfl), va_up_id (f := (va_up ia 9 (bumpR (ia 9) (noManV (ia 0) x)))) (k := 32) (v := ia 32) (up_n (by decide) rfl), va_up_id (f := (va_up ia 9 (bumpR (ia 9) (noManV (ia 0) x)))) (k := 35) (v := ia 35) (up_n (by decide) rfl)]; try rfl) hI
    exact hret (iv 30, ia 29, iv 33, iv 34, ia 31, ia 32, ia 35) (noManV (ia 0) x) _ _ 0 0 _ _ dX5_left_11 hI (by show (noManV (ia 0) x) = gd (noManV (ia 0) x) (nI (dayY K (ia 12) (ia 11) n st (kdV (ia 5) x) (kdV (ia 6) x))) (noManV (ia 0) x); rw [hC]; exact (gd_n c_7).symm) (Nat.le_of_ble_eq_true rfl) (Nat.le_of_ble_eq_true rfl) rfl

theorem c5_coach (l : Launch) (E : En) (ad : Nat → Nat) (kp tr : Option Nat) (iv : Nat → Int32) (ia K : Nat → Nat → Int32) (R : Nat → Nat → Int64) (mv : Nat → Int64) (n st : Nat) (x i : Int32) (hn : iv 10 = nI n) (hst : iv 14 = nI st) (hn7 : n ≤ 7) (hs2 : 2 ≤ st) (hs4 : st ≤ 4) (hh : ∀ q, q < n → ∃ x, x < 24 ∧ ia 11 q = nI x) (hkd : ∀ P, P < 8 → ∃ k, k < 100 ∧ ia 5 P = nI k) (hby : ∀ P, P < 8 → ∃ k, k < 100 ∧ ia 6 P = nI k) : CtI l E yX5_coach cX5_coach 4 .int 270 0 0 [.ref (ad 45), .int x, .int i] (mW E ad kp tr iv ia K R mv) (fun (r : Int32) (u : Int32 × (Nat → Int32) × Int32 × Int32 × (Nat → Int32) × (Nat → Int32) × (Nat → Int32)) => r = gd (coachC ((dayC K (ia 12) (ia 11) n st (kdV (ia 5) x) (kdV (ia 6) x)).length) (ia 0) x i) (coachV K (ia 12) (ia 11) n st (kdV (ia 5) x) (kdV (ia 6) x) i) (coachC ((dayC K (ia 12) (ia 11) n st (kdV (ia 5) x) (kdV (ia 6) x)).length) (ia 0) x i)) (fun (u : Int32 × (Nat → Int32) × Int32 × Int32 × (Nat → Int32) × (Nat → Int32) × (Nat → Int32)) => mW E ad kp tr (va_up (va_up (va_up iv 30 u.1) 33 u.2.2.1) 34 u.2.2.2.1) (va_up (va_up (va_up (va_up (va_up ia 9 (bumpR (ia 9) (coachC ((dayC K (ia 12) (ia 11) n st (kdV (ia 5) x) (kdV (ia 6) x)).length) (ia 0) x i))) 29 u.2.1) 31 u.2.2.2.2.1) 32 u.2.2.2.2.2.1) 35 u.2.2.2.2.2.2) K R mv) := by
  refine CtI.of (by decide +kernel) (Nat.le_of_ble_eq_true rfl) ?_
  intro pR eR sR mR aR bR tR cR AR ls QR hxR hbR hmlR hts hown hlk hnm hA hK hI hl hret
  have hl : lv_has ls 4 [(0, .ref (ad 45)), (1, .int x), (2, .int i)] := hl
  refine lv_aload_n hxR hbR dX5_coach_0 rfl (lv_at hl 0 rfl) ?_
  refine lv_iload_n hxR hbR dX5_coach_1 rfl (lv_at hl 1 rfl) ?_
  refine kVI (n := 1) (As := [.int x]) (rest := []) (fun w => w) hxR hbR hmlR hts hown hK hA hl.1 isCtx.id hI (c5_noMan l E ad kp tr iv ia K R mv x ) (lw_V q1894 q1896 qs66 q86 q1897) ⟨rfl, by decide +kernel⟩ 16 5 rfl rfl mW_o rfl (Nat.le_of_ble_eq_true rfl) (Nat.le_of_ble_eq_true rfl) ⟨Nat.le_of_ble_eq_true rfl, Nat.le_of_ble_eq_true rfl⟩ (Nat.le_of_ble_eq_true rfl) dX5_coach_2 (fun r_2 u H locs hp hI hz => ?_)
  have hI : wI E AR sR H locs (mW E ad kp tr iv (va_up ia 9 (bumpR (ia 9) (noManV (ia 0) x))) K R mv) := hI
  have hp : r_2 = noManV (ia 0) x := hp
  have hr_2 := hp
  subst hr_2
  refine lv_istore_n (lv' := [(3, .int (noManV (ia 0) x)), (0, .ref (ad 45)), (1, .int x), (2, .int i)]) hxR hbR dX5_coach_5 rfl hl (by decide) rfl (fun ls hl => ?_)
  refine lv_iload_n hxR hbR dX5_coach_6 rfl (lv_at hl 0 rfl) ?_
  refine lv_if_eq (tgt := 12) hxR hbR dX5_coach_7 (by decide) (fun c_7 => ?_) (fun c_7 => ?_)
  · skip
    have i_7 : (noManV (ia 0) x).toInt = 0 := by have zz := i_eq.mp c_7; exact zz
    obtain ⟨P, hP, rfl⟩ := nm8 c_7
    have tP : (nI P).toInt = (P : Int) := nI_toInt (by omega)
    have hne := nm_ne hP c_7
    obtain ⟨kd, hkd1, hkd2⟩ := hkd P hP
    obtain ⟨k9, hk91, hk92⟩ := hby P hP
    have hI := wI_w (ws' := mW E ad kp tr iv ia K R mv) (by rw [c_7, bump_0, va_up_id (f := ia) (k := 9) (v := ia 9) rfl]) hI
    refine lv_aload_n hxR hbR dX5_coach_12 rfl (lv_at hl 1 rfl) ?_
    refine lv_aload_n hxR hbR dX5_coach_13 rfl (lv_at hl 1 rfl) ?_
    refine r_get hxR hbR hts hown hK hI okX5 (ci := 5) rfl 16 mW_o 5 (by decide) q1483 rfl (v := .ref (ad 5)) rfl dX5_coach_14 ?_
    refine lv_iload_n hxR hbR dX5_coach_17 rfl (lv_at hl 2 rfl) ?_
    refine r_iald hxR hbR hK hI 22 (n := 8) (J := P) (f := ia 5) (v := nI kd) (mW_g5 rfl) (by omega) (by decide) hkd2 dX5_coach_18 ?_
    refine lv_aload_n hxR hbR dX5_coach_19 rfl (lv_at hl 1 rfl) ?_
    refine r_get hxR hbR hts hown hK hI okX5 (ci := 5) rfl 16 mW_o 6 (by decide) q1484 rfl (v := .ref (ad 6)) rfl dX5_coach_20 ?_
    refine lv_iload_n hxR hbR dX5_coach_23 rfl (lv_at hl 2 rfl) ?_
    refine r_iald hxR hbR hK hI 23 (n := 8) (J := P) (f := ia 6) (v := nI k9) (mW_g6 rfl) (by omega) (by decide) hk92 dX5_coach_24 ?_
    have hdi := dayP_inv (K := K) (cost := ia 12) (hour := ia 11) (st := st) (kd := kd) (a := k9) (w0 := ia 35) hn7 hh n (Nat.le_refl n)
    have hcq := dayC_eq (K := K) (cost := ia 12) (hour := ia 11) (n := n) (st := st) (kd := kd) (a := k9) (w := ia 35)
    refine kVV (n := 2) (As := [.int (nI kd), .int (nI k9)]) (rest := []) (fun w => w) hxR hbR hmlR hts hown hK hA hl.1 isCtx.id hI (c5_goesBy l E ad kp tr iv ia K R mv n st kd k9 hn hst (by first | omega | with_reducible assumption) (by first | omega | with_reducible assumption) (by first | omega | with_reducible assumption) (by first | omega | with_reducible assumption) (by first | omega | with_reducible assumption) hh) (lw_V q1902 q1904 qs67 q86 q1905) ⟨rfl, by decide +kernel⟩ 16 5 rfl rfl mW_o rfl (Nat.le_of_ble_eq_true rfl) (Nat.le_of_ble_eq_true rfl) ⟨Nat.le_of_ble_eq_true rfl, Nat.le_of_ble_eq_true rfl⟩ (Nat.le_of_ble_eq_true rfl) dX5_coach_25 (fun u H locs hp hI hz => ?_)
    obtain ⟨c30_25, g29_25⟩ := u
    have hI : wI E AR sR H locs (mW E ad kp tr (va_up (va_up (va_up iv 30 c30_25) 33 (nI ((dayP K (ia 12) (ia 11) n st kd k9 (ia 35) n).1.length))) 34 (nI ((dayP K (ia 12) (ia 11) n st kd k9 (ia 35) n).2.1))) (va_up (va_up (va_up (va_up ia 29 g29_25) 31 (wrL (ia 31) 0 (comL (ia 11) n))) 32 (wrL (ia 32) 0 (dayP K (ia 12) (ia 11) n st kd k9 (ia 35) n).1)) 35 (leaveW (ia 12) (ia 11) 24 (dayP K (ia 12) (ia 11) n st kd k9 (ia 35) n).2.1 n (dayP K (ia 12) (ia 11) n st kd k9 (ia 35) n).2.2)) K R mv) := hI
    refine lv_iload_n hxR hbR dX5_coach_28 rfl (lv_at hl 3 rfl) ?_
    refine lv_i2l (v := i.toInt64) hxR hbR dX5_coach_29 rfl ?_
    refine lv_lconst (v := 0) hxR hbR dX5_coach_30 (by decide) ?_
    refine lv_aload_n hxR hbR dX5_coach_31 rfl (lv_at hl 1 rfl) ?_
    refine r_get hxR hbR hts hown hK hI okX5 (ci := 5) rfl 16 mW_o 33 (by decide) q1511 rfl (v := .int (nI ((dayP K (ia 12) (ia 11) n st kd k9 (ia 35) n).1.length))) (al (up_n (by decide) va_up_s)) dX5_coach_32 ?_
    refine lv_iconst (v := 1) hxR hbR dX5_coach_35 (by decide) ?_
    refine lv_isub hxR hbR dX5_coach_36 ?_
    refine lv_i2l (v := ((nI ((dayP K (ia 12) (ia 11) n st kd k9 (ia 35) n).1.length)) - 1).toInt64) hxR hbR dX5_coach_37 rfl ?_
    refine kSI (n := 3) (As := [.long i.toInt64, .long (0 : Int64), .long (((nI ((dayP K (ia 12) (ia 11) n st kd k9 (ia 35) n).1.length)) - 1).toInt64)]) (rest := []) (fun w => w ++ (mW E ad kp tr (va_up (va_up (va_up iv 30 c30_25) 33 (nI ((dayP K (ia 12) (ia 11) n st kd k9 (ia 35) n).1.length))) 34 (nI ((dayP K (ia 12) (ia 11) n st kd k9 (ia 35) n).2.1))) (va_up (va_up (va_up (va_up ia 29 g29_25) 31 (wrL (ia 31) 0 (comL (ia 11) n))) 32 (wrL (ia 32) 0 (dayP K (ia 12) (ia 11) n st kd k9 (ia 35) n).1)) 35 (leaveW (ia 12) (ia 11) 24 (dayP K (ia 12) (ia 11) n st kd k9 (ia 35) n).2.1 n (dayP K (ia 12) (ia 11) n st kd k9 (ia 35) n).2.2)) K R mv)) hxR hbR hmlR hts hown hK hA hl.1 (isCtx.suf _) hI (c5_in l E  i.toInt64 (0 : Int64) (((nI ((dayP K (ia 12) (ia 11) n st kd k9 (ia 35) n).1.length)) - 1).toInt64) ) (lw_S q1619 q1620 q86 q1621) (by decide +kernel) rfl (Nat.le_of_ble_eq_true rfl) (Nat.le_of_ble_eq_true rfl) ⟨Nat.le_of_ble_eq_true rfl, Nat.le_of_ble_eq_true rfl⟩ (Nat.le_of_ble_eq_true rfl) dX5_coach_38 (fun r_38 u H locs hp hI hz => ?_)
    have hI : wI E AR sR H locs (mW E ad kp tr (va_up (va_up (va_up iv 30 c30_25) 33 (nI ((dayP K (ia 12) (ia 11) n st kd k9 (ia 35) n).1.length))) 34 (nI ((dayP K (ia 12) (ia 11) n st kd k9 (ia 35) n).2.1))) (va_up (va_up (va_up (va_up ia 29 g29_25) 31 (wrL (ia 31) 0 (comL (ia 11) n))) 32 (wrL (ia 32) 0 (dayP K (ia 12) (ia 11) n st kd k9 (ia 35) n).1)) 35 (leaveW (ia 12) (ia 11) 24 (dayP K (ia 12) (ia 11) n st kd k9 (ia 35) n).2.1 n (dayP K (ia 12) (ia 11) n st kd k9 (ia 35) n).2.2)) K R mv) := hI
    have hp : r_38 = b2i (inL i.toInt64 (0 : Int64) (((nI ((dayP K (ia 12) (ia 11) n st kd k9 (ia 35) n).1.length)) - 1).toInt64)) := hp
    have hr_38 := hp
    rcases b2i_cases hr_38 with ⟨c_38, rfl⟩ | ⟨c_38, rfl⟩
    · skip
      have c_38 : (0 : Int64).toInt ≤ i.toInt64.toInt ∧ i.toInt64.toInt ≤ (((nI ((dayP K (ia 12) (ia 11) n st kd k9 (ia 35) n).1.length)) - 1).toInt64).toInt := of_decide_eq_true c_38
      have c_38 : 0 ≤ i.toInt ∧ i.toInt ≤ ((dayP K (ia 12) (ia 11) n st kd k9 (ia 35) n).1.length : Int) - 1 := by simp only [Int32.toInt_toInt64] at c_38; rw [nI_m1 (n := (dayP K (ia 12) (ia 11) n st kd k9 (ia 35) n).1.length) (by omega)] at c_38; exact c_38
      obtain ⟨ix, hix, rfl⟩ := nat_of (x := i) (k := (dayP K (ia 12) (ia 11) n st kd k9 (ia 35) n).1.length) (by omega) (by omega)
      have tix : (nI ix).toInt = (ix : Int) := nI_toInt (by omega)
      refine lv_if_eq (tgt := 53) hxR hbR dX5_coach_41 (by decide) (fun c => absurd c (by decide)) (fun _ => ?_)
      refine lv_aload_n hxR hbR dX5_coach_44 rfl (lv_at hl 1 rfl) ?_
      refine r_get hxR hbR hts hown hK hI okX5 (ci := 5) rfl 16 mW_o 32 (by decide) q1510 rfl (v := .ref (ad 32)) rfl dX5_coach_45 ?_
      refine lv_iload_n hxR hbR dX5_coach_48 rfl (lv_at hl 3 rfl) ?_
      refine r_iald hxR hbR hK hI 32 (n := 7) (J := ix) (f := wrL (ia 32) 0 (dayP K (ia 12) (ia 11) n st kd k9 (ia 35) n).1) (v := nI ((dayP K (ia 12) (ia 11) n st kd k9 (ia 35) n).1.getD ix 0)) (mW_g32 (up_n (by decide) va_up_s)) (by omega) (by decide) (wrL_in _ (by omega)) dX5_coach_49 ?_
      refine lv_goto (tgt := 59) hxR hbR dX5_coach_50 (by decide) ?_
      have hC : coachC ((dayC K (ia 12) (ia 11) n st (kdV (ia 5) (nI P)) (kdV (ia 6) (nI P))).length) (ia 0) (nI P) (nI ix) = 0 := by
        clear hret hI
        unfold coachC; rw [if_pos c_7, kdV_n hP hkd2 hkd1, kdV_n hP hk92 hk91, ← hcq]; first | exact if_pos c_38 | exact if_neg c_38
      have eia9 : bumpR (ia 9) (coachC ((dayC K (ia 12) (ia 11) n st (kdV (ia 5) (nI P)) (kdV (ia 6) (nI P))).length) (ia 0) (nI P) (nI ix)) = ia 9 := by rw [hC]; exact bump_0 _
      have hI := wI_w (ws' := mW E ad kp tr (va_up (va_up (va_up iv 30 c30_25) 33 (nI ((dayP K (ia 12) (ia 11) n st kd k9 (ia 35) n).1.length))) 34 (nI ((dayP K (ia 12) (ia 11) n st kd k9 (ia 35) n).2.1))) (va_up (va_up (va_up (va_up (va_up ia 9 (bumpR (ia 9) (coachC ((dayC K (ia 12) (ia 11) n st (kdV (ia 5) (nI P)) (kdV (ia 6) (nI P))).length) (ia 0) (nI P) (nI ix)))) 29 g29_25) 31 (wrL (ia 31) 0 (comL (ia 11) n))) 32 (wrL (ia 32) 0 (dayP K (ia 12) (ia 11) n st kd k9 (ia 35) n).1)) 35 (leaveW (ia 12) (ia 11) 24 (dayP K (ia 12) (ia 11) n st kd k9 (ia 35) n).2.1 n (dayP K (ia 12) (ia 11) n st kd k9 (ia 35) n).2.2)) K R mv) (by rw [eia9, va_up_id (f := ia) (k := 9) (v := ia 9) rfl]; try rfl) hI
      obtain ⟨zg2, hzg2⟩ : ∃ z, z = nI ((dayP K (ia 12) (ia 11) n st kd k9 (ia 35) n).1.length) := ⟨_, rfl⟩
      rw [← hzg2] at hI
      obtain ⟨zg3, hzg3⟩ : ∃ z, z = nI ((dayP K (ia 12) (ia 11) n st kd k9 (ia 35) n).2.1) := ⟨_, rfl⟩
      rw [← hzg3] at hI
      obtain ⟨zg4, hzg4⟩ : ∃ z, z = wrL (ia 31) 0 (comL (ia 11) n) := ⟨_, rfl⟩
      rw [← hzg4] at hI
      obtain ⟨zg5, hzg5⟩ : ∃ z, z = wrL (ia 32) 0 (dayP K (ia 12) (ia 11) n st kd k9 (ia 35) n).1 := ⟨_, rfl⟩
      rw [← hzg5] at hI
      obtain ⟨zg6, hzg6⟩ : ∃ z, z = leaveW (ia 12) (ia 11) 24 (dayP K (ia 12) (ia 11) n st kd k9 (ia 35) n).2.1 n (dayP K (ia 12) (ia 11) n st kd k9 (ia 35) n).2.2 := ⟨_, rfl⟩
      rw [← hzg6] at hI
      exact hret (c30_25, g29_25, zg2, zg3, zg4, zg5, zg6) (nI ((dayP K (ia 12) (ia 11) n st kd k9 (ia 35) n).1.getD ix 0)) _ _ 0 0 _ _ dX5_coach_59 hI (by show (nI ((dayP K (ia 12) (ia 11) n st kd k9 (ia 35) n).1.getD ix 0)) = gd (coachC ((dayC K (ia 12) (ia 11) n st (kdV (ia 5) (nI P)) (kdV (ia 6) (nI P))).length) (ia 0) (nI P) (nI ix)) (coachV K (ia 12) (ia 11) n st (kdV (ia 5) (nI P)) (kdV (ia 6) (nI P)) (nI ix)) (coachC ((dayC K (ia 12) (ia 11) n st (kdV (ia 5) (nI P)) (kdV (ia 6) (nI P))).length) (ia 0) (nI P) (nI ix)); rw [hC]; first | rfl | (unfold coachV; rw [kdV_n hP hkd2 hkd1, kdV_n hP hk92 hk91, ← hcq, nI_clamp (n := ix) (by omega)]; rfl)) (Nat.le_of_ble_eq_true rfl) (Nat.le_of_ble_eq_true rfl) rfl
    · skip
      have c_38 : ¬ ((0 : Int64).toInt ≤ i.toInt64.toInt ∧ i.toInt64.toInt ≤ (((nI ((dayP K (ia 12) (ia 11) n st kd k9 (ia 35) n).1.length)) - 1).toInt64).toInt) := of_decide_eq_false c_38
      have c_38 : ¬ (0 ≤ i.toInt ∧ i.toInt ≤ ((dayP K (ia 12) (ia 11) n st kd k9 (ia 35) n).1.length : Int) - 1) := by simp only [Int32.toInt_toInt64] at c_38; rw [nI_m1 (n := (dayP K (ia 12) (ia 11) n st kd k9 (ia 35) n).1.length) (by omega)] at c_38; exact c_38
      refine lv_if_eq (tgt := 53) hxR hbR dX5_coach_41 (by decide) (fun _ => ?_) (fun c => absurd c (by decide))
      refine lv_aload_n hxR hbR dX5_coach_53 rfl (lv_at hl 1 rfl) ?_
      refine lv_bipush (v := (-5)) hxR hbR dX5_coach_54 (by decide) ?_
      refine kVI (n := 1) (As := [.int (-5)]) (rest := []) (fun w => w) hxR hbR hmlR hts hown hK hA hl.1 isCtx.id hI (c5_refuse l E ad kp tr (va_up (va_up (va_up iv 30 c30_25) 33 (nI ((dayP K (ia 12) (ia 11) n st kd k9 (ia 35) n).1.length))) 34 (nI ((dayP K (ia 12) (ia 11) n st kd k9 (ia 35) n).2.1))) (va_up (va_up (va_up (va_up ia 29 g29_25) 31 (wrL (ia 31) 0 (comL (ia 11) n))) 32 (wrL (ia 32) 0 (dayP K (ia 12) (ia 11) n st kd k9 (ia 35) n).1)) 35 (leaveW (ia 12) (ia 11) 24 (dayP K (ia 12) (ia 11) n st kd k9 (ia 35) n).2.1 n (dayP K (ia 12) (ia 11) n st kd k9 (ia 35) n).2.2)) K R mv (-5) 5 (by decide) (by decide)) (lw_V q1624 q1626 qs34 q86 q1627) ⟨rfl, by decide +kernel⟩ 16 5 rfl rfl mW_o rfl (Nat.le_of_ble_eq_true rfl) (Nat.le_of_ble_eq_true rfl) ⟨Nat.le_of_ble_eq_true rfl, Nat.le_of_ble_eq_true rfl⟩ (Nat.le_of_ble_eq_true rfl) dX5_coach_56 (fun r_56 u H locs hp hI hz => ?_)
      have hI : wI E AR sR H locs (mW E ad kp tr (va_up (va_up (va_up iv 30 c30_25) 33 (nI ((dayP K (ia 12) (ia 11) n st kd k9 (ia 35) n).1.length))) 34 (nI ((dayP K (ia 12) (ia 11) n st kd k9 (ia 35) n).2.1))) (va_up (va_up (va_up (va_up (va_up ia 29 g29_25) 31 (wrL (ia 31) 0 (comL (ia 11) n))) 32 (wrL (ia 32) 0 (dayP K (ia 12) (ia 11) n st kd k9 (ia 35) n).1)) 35 (leaveW (ia 12) (ia 11) 24 (dayP K (ia 12) (ia 11) n st kd k9 (ia 35) n).2.1 n (dayP K (ia 12) (ia 11) n st kd k9 (ia 35) n).2.2)) 9 (va_up ((ia 9)) 5 ((ia 9) 5 + 1))) K R mv) := hI
      have hI := wI_w (ws' := mW E ad kp tr (va_up (va_up (va_up iv 30 c30_25) 33 (nI ((dayP K (ia 12) (ia 11) n st kd k9 (ia 35) n).1.length))) 34 (nI ((dayP K (ia 12) (ia 11) n st kd k9 (ia 35) n).2.1))) (va_up (va_up (va_up (va_up (va_up ia 9 (va_up ((ia 9)) 5 ((ia 9) 5 + 1))) 29 g29_25) 31 (wrL (ia 31) 0 (comL (ia 11) n))) 32 (wrL (ia 32) 0 (dayP K (ia 12) (ia 11) n st kd k9 (ia 35) n).1)) 35 (leaveW (ia 12) (ia 11) 24 (dayP K (ia 12) (ia 11) n st kd k9 (ia 35) n).2.1 n (dayP K (ia 12) (ia 11) n st kd k9 (ia 35) n).2.2)) K R mv) (by rw [(show (va_up (va_up (va_up (va_up (va_up ia 9 (va_up ((ia 9)) 5 ((ia 9) 5 + 1))) 29 g29_25) 31 (wrL (ia 31) 0 (comL (ia 11) n))) 32 (wrL (ia 32) 0 (dayP K (ia 12) (ia 11) n st kd k9 (ia 35) n).1)) 35 (leaveW (ia 12) (ia 11) 24 (dayP K (ia 12) (ia 11) n st kd k9 (ia 35) n).2.1 n (dayP K (ia 12) (ia 11) n st kd k9 (ia 35) n).2.2)) = (va_up (va_up (va_up (va_up (va_up ia 29 g29_25) 31 (wrL (ia 31) 0 (comL (ia 11) n))) 32 (wrL (ia 32) 0 (dayP K (ia 12) (ia 11) n st kd k9 (ia 35) n).1)) 35 (leaveW (ia 12) (ia 11) 24 (dayP K (ia 12) (ia 11) n st kd k9 (ia 35) n).2.1 n (dayP K (ia 12) (ia 11) n st kd k9 (ia 35) n).2.2)) 9 (va_up ((ia 9)) 5 ((ia 9) 5 + 1))) from ((up_s (by decide) (up_s (by decide) (up_s (by decide) (up_s (by decide) rfl))))).symm)]) hI
      have hI : wI E AR sR H locs (mW E ad kp tr (va_up (va_up (va_up iv 30 c30_25) 33 (nI ((dayP K (ia 12) (ia 11) n st kd k9 (ia 35) n).1.length))) 34 (nI ((dayP K (ia 12) (ia 11) n st kd k9 (ia 35) n).2.1))) (va_up (va_up (va_up (va_up (va_up ia 9 (va_up ((ia 9)) 5 ((ia 9) 5 + 1))) 29 g29_25) 31 (wrL (ia 31) 0 (comL (ia 11) n))) 32 (wrL (ia 32) 0 (dayP K (ia 12) (ia 11) n st kd k9 (ia 35) n).1)) 35 (leaveW (ia 12) (ia 11) 24 (dayP K (ia 12) (ia 11) n st kd k9 (ia 35) n).2.1 n (dayP K (ia 12) (ia 11) n st kd k9 (ia 35) n).2.2)) K R mv) := hI
      have hp : r_56 = (-5) := hp
      have hr_56 := hp
      subst hr_56
      have hC : coachC ((dayC K (ia 12) (ia 11) n st (kdV (ia 5) (nI P)) (kdV (ia 6) (nI P))).length) (ia 0) (nI P) i = (-5) := by
        clear hret hI
        unfold coachC; rw [if_pos c_7, kdV_n hP hkd2 hkd1, kdV_n hP hk92 hk91, ← hcq]; first | exact if_pos c_38 | exact if_neg c_38
      have eia9 : bumpR (ia 9) (coachC ((dayC K (ia 12) (ia 11) n st (kdV (ia 5) (nI P)) (kdV (ia 6) (nI P))).length) (ia 0) (nI P) i) = va_up ((ia 9)) 5 ((ia 9) 5 + 1) := by rw [hC]; exact bump_5 _
      have hI := wI_w (ws' := mW E ad kp tr (va_up (va_up (va_up iv 30 c30_25) 33 (nI ((dayP K (ia 12) (ia 11) n st kd k9 (ia 35) n).1.length))) 34 (nI ((dayP K (ia 12) (ia 11) n st kd k9 (ia 35) n).2.1))) (va_up (va_up (va_up (va_up (va_up ia 9 (bumpR (ia 9) (coachC ((dayC K (ia 12) (ia 11) n st (kdV (ia 5) (nI P)) (kdV (ia 6) (nI P))).length) (ia 0) (nI P) i))) 29 g29_25) 31 (wrL (ia 31) 0 (comL (ia 11) n))) 32 (wrL (ia 32) 0 (dayP K (ia 12) (ia 11) n st kd k9 (ia 35) n).1)) 35 (leaveW (ia 12) (ia 11) 24 (dayP K (ia 12) (ia 11) n st kd k9 (ia 35) n).2.1 n (dayP K (ia 12) (ia 11) n st kd k9 (ia 35) n).2.2)) K R mv) (by rw [eia9]; try rfl) hI
      obtain ⟨zg2, hzg2⟩ : ∃ z, z = nI ((dayP K (ia 12) (ia 11) n st kd k9 (ia 35) n).1.length) := ⟨_, rfl⟩
      rw [← hzg2] at hI
      obtain ⟨zg3, hzg3⟩ : ∃ z, z = nI ((dayP K (ia 12) (ia 11) n st kd k9 (ia 35) n).2.1) := ⟨_, rfl⟩
      rw [← hzg3] at hI
      obtain ⟨zg4, hzg4⟩ : ∃ z, z = wrL (ia 31) 0 (comL (ia 11) n) := ⟨_, rfl⟩
      rw [← hzg4] at hI
      obtain ⟨zg5, hzg5⟩ : ∃ z, z = wrL (ia 32) 0 (dayP K (ia 12) (ia 11) n st kd k9 (ia 35) n).1 := ⟨_, rfl⟩
      rw [← hzg5] at hI
      obtain ⟨zg6, hzg6⟩ : ∃ z, z = leaveW (ia 12) (ia 11) 24 (dayP K (ia 12) (ia 11) n st kd k9 (ia 35) n).2.1 n (dayP K (ia 12) (ia 11) n st kd k9 (ia 35) n).2.2 := ⟨_, rfl⟩
      rw [← hzg6] at hI
      exact hret (c30_25, g29_25, zg2, zg3, zg4, zg5, zg6) (-5) _ _ 0 0 _ _ dX5_coach_59 hI (by show (-5) = gd (coachC ((dayC K (ia 12) (ia 11) n st (kdV (ia 5) (nI P)) (kdV (ia 6) (nI P))).length) (ia 0) (nI P) i) (coachV K (ia 12) (ia 11) n st (kdV (ia 5) (nI P)) (kdV (ia 6) (nI P)) i) (coachC ((dayC K (ia 12) (ia 11) n st (kdV (ia 5) (nI P)) (kdV (ia 6) (nI P))).length) (ia 0) (nI P) i); rw [hC]; first | rfl | (unfold coachV; rw [kdV_n hP hkd2 hkd1, kdV_n hP hk92 hk91, ← hcq, nI_clamp (n := ix) (by omega)]; rfl)) (Nat.le_of_ble_eq_true rfl) (Nat.le_of_ble_eq_true rfl) rfl
  · skip
    have i_7 : ¬ ((noManV (ia 0) x).toInt = 0) := by have zz := mt i_eq.mpr c_7; exact zz
    refine lv_iload_n hxR hbR dX5_coach_10 rfl (lv_at hl 0 rfl) ?_
    have hC : coachC ((dayC K (ia 12) (ia 11) n st (kdV (ia 5) x) (kdV (ia 6) x)).length) (ia 0) x i = noManV (ia 0) x := by
      clear hret hI
      exact if_neg c_7
    have eia9 : bumpR (ia 9) (coachC ((dayC K (ia 12) (ia 11) n st (kdV (ia 5) x) (kdV (ia 6) x)).length) (ia 0) x i) = bumpR (ia 9) (noManV (ia 0) x) := by rw [hC]
    have hI := wI_w (ws' := mW E ad kp tr (va_up (va_up (va_up iv 30 (iv 30)) 33 (iv 33)) 34 (iv 34)) (va_up (va_up (va_up (va_up (va_up ia 9 (bumpR (ia 9) (coachC ((dayC K (ia 12) (ia 11) n st (kdV (ia 5) x) (kdV (ia 6) x)).length) (ia 0) x i))) 29 (ia 29)) 31 (ia 31)) 32 (ia 32)) 35 (ia 35)) K R mv) (by rw [eia9, va_up_id (f := iv) (k := 30) (v := iv 30) rfl, va_up_id (f := iv) (k := 33) (v := iv 33) rfl, va_up_id (f := iv) (k := 34) (v := iv 34) rfl, va_up_id (f := (va_up ia 9 (bumpR (ia 9) (noManV (ia 0) x)))) (k := 29) (v := ia 29) (up_n (by decide) rfl), va_up_id (f := (va_up ia 9 (bumpR (ia 9) (noManV (ia 0) x)))) (k := 31) (v := ia 31) (up_n (by decide) rfl), va_up_id (f := (va_up ia 9 (bumpR (ia 9) (noManV (ia 0) x)))) (k := 32) (v := ia 32) (up_n (by decide) rfl), va_up_id (f := (va_up ia 9 (bumpR (ia 9) (noManV (ia 0) x)))) (k := 35) (v := ia 35) (up_n (by decide) rfl)]; try rfl) hI
    exact hret (iv 30, ia 29, iv 33, iv 34, ia 31, ia 32, ia 35) (noManV (ia 0) x) _ _ 0 0 _ _ dX5_coach_11 hI (by show (noManV (ia 0) x) = gd (coachC ((dayC K (ia 12) (ia 11) n st (kdV (ia 5) x) (kdV (ia 6) x)).length) (ia 0) x i) (coachV K (ia 12) (ia 11) n st (kdV (ia 5) x) (kdV (ia 6) x) i) (coachC ((dayC K (ia 12) (ia 11) n st (kdV (ia 5) x) (kdV (ia 6) x)).length) (ia 0) x i); rw [hC]; exact (gd_n c_7).symm) (Nat.le_of_ble_eq_true rfl) (Nat.le_of_ble_eq_true rfl) rfl

theorem c5_waits (l : Launch) (E : En) (ad : Nat → Nat) (kp tr : Option Nat) (iv : Nat → Int32) (ia K : Nat → Nat → Int32) (R : Nat → Nat → Int64) (mv : Nat → Int64) (n st : Nat) (x i : Int32) (hn : iv 10 = nI n) (hst : iv 14 = nI st) (hn7 : n ≤ 7) (hs2 : 2 ≤ st) (hs4 : st ≤ 4) (hh : ∀ q, q < n → ∃ x, x < 24 ∧ ia 11 q = nI x) (hkd : ∀ P, P < 8 → ∃ k, k < 100 ∧ ia 5 P = nI k) (hby : ∀ P, P < 8 → ∃ k, k < 100 ∧ ia 6 P = nI k) : CtI l E yX5_waits cX5_waits 4 .int 270 0 0 [.ref (ad 45), .int x, .int i] (mW E ad kp tr iv ia K R mv) (fun (r : Int32) (u : Int32 × (Nat → Int32) × Int32 × Int32 × (Nat → Int32) × (Nat → Int32) × (Nat → Int32)) => r = gd (waitsC n (ia 0) x i) (waitsV K (ia 12) (ia 11) n st (kdV (ia 5) x) (kdV (ia 6) x) i) (waitsC n (ia 0) x i)) (fun (u : Int32 × (Nat → Int32) × Int32 × Int32 × (Nat → Int32) × (Nat → Int32) × (Nat → Int32)) => mW E ad kp tr (va_up (va_up (va_up iv 30 u.1) 33 u.2.2.1) 34 u.2.2.2.1) (va_up (va_up (va_up (va_up (va_up ia 9 (bumpR (ia 9) (waitsC n (ia 0) x i))) 29 u.2.1) 31 u.2.2.2.2.1) 32 u.2.2.2.2.2.1) 35 u.2.2.2.2.2.2) K R mv) := by
  refine CtI.of (by decide +kernel) (Nat.le_of_ble_eq_true rfl) ?_
  intro pR eR sR mR aR bR tR cR AR ls QR hxR hbR hmlR hts hown hlk hnm hA hK hI hl hret
  have hl : lv_has ls 4 [(0, .ref (ad 45)), (1, .int x), (2, .int i)] := hl
  refine lv_iload_n hxR hbR dX5_waits_0 rfl (lv_at hl 1 rfl) ?_
  refine lv_i2l (v := x.toInt64) hxR hbR dX5_waits_1 rfl ?_
  refine lv_lconst (v := 0) hxR hbR dX5_waits_2 (by decide) ?_
  refine lv_ldc2 (v := 7) hxR hbR hown (hts _ q1618) dX5_waits_3 ?_
  refine kSI (n := 3) (As := [.long x.toInt64, .long (0 : Int64), .long (7 : Int64)]) (rest := []) (fun w => w ++ (mW E ad kp tr iv ia K R mv)) hxR hbR hmlR hts hown hK hA hl.1 (isCtx.suf _) hI (c5_in l E  x.toInt64 (0 : Int64) (7 : Int64) ) (lw_S q1619 q1620 q86 q1621) (by decide +kernel) rfl (Nat.le_of_ble_eq_true rfl) (Nat.le_of_ble_eq_true rfl) ⟨Nat.le_of_ble_eq_true rfl, Nat.le_of_ble_eq_true rfl⟩ (Nat.le_of_ble_eq_true rfl) dX5_waits_6 (fun r_6 u H locs hp hI hz => ?_)
  have hI : wI E AR sR H locs (mW E ad kp tr iv ia K R mv) := hI
  have hp : r_6 = b2i (inL x.toInt64 (0 : Int64) (7 : Int64)) := hp
  have hr_6 := hp
  rcases b2i_cases hr_6 with ⟨c_6, rfl⟩ | ⟨c_6, rfl⟩
  · skip
    have c_6 : (0 : Int64).toInt ≤ x.toInt64.toInt ∧ x.toInt64.toInt ≤ (7 : Int64).toInt := of_decide_eq_true c_6
    have c_6 : 0 ≤ x.toInt ∧ x.toInt ≤ 7 := by simp only [Int32.toInt_toInt64] at c_6; exact c_6
    refine lv_if_eq (tgt := 25) hxR hbR dX5_waits_9 (by decide) (fun c => absurd c (by decide)) (fun _ => ?_)
    refine lv_iload_n hxR hbR dX5_waits_12 rfl (lv_at hl 2 rfl) ?_
    refine lv_iconst (v := (-1)) hxR hbR dX5_waits_13 (by decide) ?_
    refine lv_icmp_eq (tgt := 32) hxR hbR dX5_waits_14 (by decide) (fun c_14 => ?_) (fun c_14 => ?_)
    · skip
      have i_14 : i.toInt = (-1) := by have zz := i_eq.mp c_14; exact zz
      refine lv_aload_n hxR hbR dX5_waits_32 rfl (lv_at hl 0 rfl) ?_
      refine lv_iload_n hxR hbR dX5_waits_33 rfl (lv_at hl 1 rfl) ?_
      refine kVI (n := 1) (As := [.int x]) (rest := []) (fun w => w) hxR hbR hmlR hts hown hK hA hl.1 isCtx.id hI (c5_noMan l E ad kp tr iv ia K R mv x ) (lw_V q1894 q1896 qs66 q86 q1897) ⟨rfl, by decide +kernel⟩ 16 5 rfl rfl mW_o rfl (Nat.le_of_ble_eq_true rfl) (Nat.le_of_ble_eq_true rfl) ⟨Nat.le_of_ble_eq_true rfl, Nat.le_of_ble_eq_true rfl⟩ (Nat.le_of_ble_eq_true rfl) dX5_waits_34 (fun r_34 u H locs hp hI hz => ?_)
      have hI : wI E AR sR H locs (mW E ad kp tr iv (va_up ia 9 (bumpR (ia 9) (noManV (ia 0) x))) K R mv) := hI
      have hp : r_34 = noManV (ia 0) x := hp
      have hr_34 := hp
      subst hr_34
      refine lv_istore_n (lv' := [(3, .int (noManV (ia 0) x)), (0, .ref (ad 45)), (1, .int x), (2, .int i)]) hxR hbR dX5_waits_37 rfl hl (by decide) rfl (fun ls hl => ?_)
      refine lv_iload_n hxR hbR dX5_waits_38 rfl (lv_at hl 0 rfl) ?_
      refine lv_if_eq (tgt := 44) hxR hbR dX5_waits_39 (by decide) (fun c_39 => ?_) (fun c_39 => ?_)
      · skip
        have i_39 : (noManV (ia 0) x).toInt = 0 := by have zz := i_eq.mp c_39; exact zz
        obtain ⟨P, hP, rfl⟩ := nm8 c_39
        have tP : (nI P).toInt = (P : Int) := nI_toInt (by omega)
        have hne := nm_ne hP c_39
        obtain ⟨kd, hkd1, hkd2⟩ := hkd P hP
        obtain ⟨k9, hk91, hk92⟩ := hby P hP
        have hI := wI_w (ws' := mW E ad kp tr iv ia K R mv) (by rw [c_39, bump_0, va_up_id (f := ia) (k := 9) (v := ia 9) rfl]) hI
        refine lv_aload_n hxR hbR dX5_waits_44 rfl (lv_at hl 1 rfl) ?_
        refine lv_aload_n hxR hbR dX5_waits_45 rfl (lv_at hl 1 rfl) ?_
        refine r_get hxR hbR hts hown hK hI okX5 (ci := 5) rfl 16 mW_o 5 (by decide) q1483 rfl (v := .ref (ad 5)) rfl dX5_waits_46 ?_
        refine lv_iload_n hxR hbR dX5_waits_49 rfl (lv_at hl 2 rfl) ?_
        refine r_iald hxR hbR hK hI 22 (n := 8) (J := P) (f := ia 5) (v := nI kd) (mW_g5 rfl) (by omega) (by decide) hkd2 dX5_waits_50 ?_
        refine lv_aload_n hxR hbR dX5_waits_51 rfl (lv_at hl 1 rfl) ?_
        refine r_get hxR hbR hts hown hK hI okX5 (ci := 5) rfl 16 mW_o 6 (by decide) q1484 rfl (v := .ref (ad 6)) rfl dX5_waits_52 ?_
        refine lv_iload_n hxR hbR dX5_waits_55 rfl (lv_at hl 2 rfl) ?_
        refine r_iald hxR hbR hK hI 23 (n := 8) (J := P) (f := ia 6) (v := nI k9) (mW_g6 rfl) (by omega) (by decide) hk92 dX5_waits_56 ?_
        refine kVV (n := 2) (As := [.int (nI kd), .int (nI k9)]) (rest := []) (fun w => w) hxR hbR hmlR hts hown hK hA hl.1 isCtx.id hI (c5_goesBy l E ad kp tr iv ia K R mv n st kd k9 hn hst (by first | omega | with_reducible assumption) (by first | omega | with_reducible assumption) (by first | omega | with_reducible assumption) (by first | omega | with_reducible assumption) (by first | omega | with_reducible assumption) hh) (lw_V q1902 q1904 qs67 q86 q1905) ⟨rfl, by decide +kernel⟩ 16 5 rfl rfl mW_o rfl (Nat.le_of_ble_eq_true rfl) (Nat.le_of_ble_eq_true rfl) ⟨Nat.le_of_ble_eq_true rfl, Nat.le_of_ble_eq_true rfl⟩ (Nat.le_of_ble_eq_true rfl) dX5_waits_57 (fun u H locs hp hI hz => ?_)
        obtain ⟨c30_57, g29_57⟩ := u
        have hI : wI E AR sR H locs (mW E ad kp tr (va_up (va_up (va_up iv 30 c30_57) 33 (nI ((dayP K (ia 12) (ia 11) n st kd k9 (ia 35) n).1.length))) 34 (nI ((dayP K (ia 12) (ia 11) n st kd k9 (ia 35) n).2.1))) (va_up (va_up (va_up (va_up ia 29 g29_57) 31 (wrL (ia 31) 0 (comL (ia 11) n))) 32 (wrL (ia 32) 0 (dayP K (ia 12) (ia 11) n st kd k9 (ia 35) n).1)) 35 (leaveW (ia 12) (ia 11) 24 (dayP K (ia 12) (ia 11) n st kd k9 (ia 35) n).2.1 n (dayP K (ia 12) (ia 11) n st kd k9 (ia 35) n).2.2)) K R mv) := hI
        refine lv_iload_n hxR hbR dX5_waits_60 rfl (lv_at hl 3 rfl) ?_
        refine lv_iconst (v := (-1)) hxR hbR dX5_waits_61 (by decide) ?_
        refine lv_icmp_ne (tgt := 72) hxR hbR dX5_waits_62 (by decide) (fun c_62 => ?_) (fun c_62 => ?_)
        · skip
          have i_62 : ¬ (i.toInt = (-1)) := by have zz := mt i_eq.mpr c_62; exact zz
          exfalso
          exact c_62 c_14
        · skip
          have i_62 : i.toInt = (-1) := by have zz := i_eq.mp c_62; exact zz
          refine lv_aload_n hxR hbR dX5_waits_65 rfl (lv_at hl 1 rfl) ?_
          refine kVI (n := 0) (As := []) (rest := []) (fun w => w) hxR hbR hmlR hts hown hK hA hl.1 isCtx.id hI (c5_waitedAll l E ad kp tr (va_up (va_up (va_up iv 30 c30_57) 33 (nI ((dayP K (ia 12) (ia 11) n st kd k9 (ia 35) n).1.length))) 34 (nI ((dayP K (ia 12) (ia 11) n st kd k9 (ia 35) n).2.1))) (va_up (va_up (va_up (va_up ia 29 g29_57) 31 (wrL (ia 31) 0 (comL (ia 11) n))) 32 (wrL (ia 32) 0 (dayP K (ia 12) (ia 11) n st kd k9 (ia 35) n).1)) 35 (leaveW (ia 12) (ia 11) 24 (dayP K (ia 12) (ia 11) n st kd k9 (ia 35) n).2.1 n (dayP K (ia 12) (ia 11) n st kd k9 (ia 35) n).2.2)) K R mv n (up_n (by decide) (up_n (by decide) (up_n (by decide) hn))) (by first | omega | with_reducible assumption)) (lw_V q1922 q1924 qs69 q86 q1925) ⟨rfl, by decide +kernel⟩ 16 5 rfl rfl mW_o rfl (Nat.le_of_ble_eq_true rfl) (Nat.le_of_ble_eq_true rfl) ⟨Nat.le_of_ble_eq_true rfl, Nat.le_of_ble_eq_true rfl⟩ (Nat.le_of_ble_eq_true rfl) dX5_waits_66 (fun r_66 u H locs hp hI hz => ?_)
          have hI : wI E AR sR H locs (mW E ad kp tr (va_up (va_up (va_up iv 30 c30_57) 33 (nI ((dayP K (ia 12) (ia 11) n st kd k9 (ia 35) n).1.length))) 34 (nI ((dayP K (ia 12) (ia 11) n st kd k9 (ia 35) n).2.1))) (va_up (va_up (va_up (va_up ia 29 g29_57) 31 (wrL (ia 31) 0 (comL (ia 11) n))) 32 (wrL (ia 32) 0 (dayP K (ia 12) (ia 11) n st kd k9 (ia 35) n).1)) 35 (leaveW (ia 12) (ia 11) 24 (dayP K (ia 12) (ia 11) n st kd k9 (ia 35) n).2.1 n (dayP K (ia 12) (ia 11) n st kd k9 (ia 35) n).2.2)) K R mv) := hI
          have hp : r_66 = sumA ((leaveW (ia 12) (ia 11) 24 (dayP K (ia 12) (ia 11) n st kd k9 (ia 35) n).2.1 n (dayP K (ia 12) (ia 11) n st kd k9 (ia 35) n).2.2)) n := hp
          have hr_66 := hp
          subst hr_66
          refine lv_goto (tgt := 78) hxR hbR dX5_waits_69 (by decide) ?_
          have hC : waitsC n (ia 0) (nI P) i = 0 := by
            clear hret hI
            unfold waitsC; rw [if_pos (show _ ∧ _ from ⟨c_6, Or.inl c_14⟩)]; exact c_39
          have eia9 : bumpR (ia 9) (waitsC n (ia 0) (nI P) i) = ia 9 := by rw [hC]; exact bump_0 _
          have hI := wI_w (ws' := mW E ad kp tr (va_up (va_up (va_up iv 30 c30_57) 33 (nI ((dayP K (ia 12) (ia 11) n st kd k9 (ia 35) n).1.length))) 34 (nI ((dayP K (ia 12) (ia 11) n st kd k9 (ia 35) n).2.1))) (va_up (va_up (va_up (va_up (va_up ia 9 (bumpR (ia 9) (waitsC n (ia 0) (nI P) i))) 29 g29_57) 31 (wrL (ia 31) 0 (comL (ia 11) n))) 32 (wrL (ia 32) 0 (dayP K (ia 12) (ia 11) n st kd k9 (ia 35) n).1)) 35 (leaveW (ia 12) (ia 11) 24 (dayP K (ia 12) (ia 11) n st kd k9 (ia 35) n).2.1 n (dayP K (ia 12) (ia 11) n st kd k9 (ia 35) n).2.2)) K R mv) (by rw [eia9, va_up_id (f := ia) (k := 9) (v := ia 9) rfl]; try rfl) hI
          obtain ⟨zg2, hzg2⟩ : ∃ z, z = nI ((dayP K (ia 12) (ia 11) n st kd k9 (ia 35) n).1.length) := ⟨_, rfl⟩
          rw [← hzg2] at hI
          obtain ⟨zg3, hzg3⟩ : ∃ z, z = nI ((dayP K (ia 12) (ia 11) n st kd k9 (ia 35) n).2.1) := ⟨_, rfl⟩
          rw [← hzg3] at hI
          obtain ⟨zg4, hzg4⟩ : ∃ z, z = wrL (ia 31) 0 (comL (ia 11) n) := ⟨_, rfl⟩
          rw [← hzg4] at hI
          obtain ⟨zg5, hzg5⟩ : ∃ z, z = wrL (ia 32) 0 (dayP K (ia 12) (ia 11) n st kd k9 (ia 35) n).1 := ⟨_, rfl⟩
          rw [← hzg5] at hI
          obtain ⟨zg6, hzg6⟩ : ∃ z, z = leaveW (ia 12) (ia 11) 24 (dayP K (ia 12) (ia 11) n st kd k9 (ia 35) n).2.1 n (dayP K (ia 12) (ia 11) n st kd k9 (ia 35) n).2.2 := ⟨_, rfl⟩
          rw [← hzg6] at hI
          exact hret (c30_57, g29_57, zg2, zg3, zg4, zg5, zg6) (sumA ((leaveW (ia 12) (ia 11) 24 (dayP K (ia 12) (ia 11) n st kd k9 (ia 35) n).2.1 n (dayP K (ia 12) (ia 11) n st kd k9 (ia 35) n).2.2)) n) _ _ 0 0 _ _ dX5_waits_78 hI (by show (sumA ((leaveW (ia 12) (ia 11) 24 (dayP K (ia 12) (ia 11) n st kd k9 (ia 35) n).2.1 n (dayP K (ia 12) (ia 11) n st kd k9 (ia 35) n).2.2)) n) = gd (waitsC n (ia 0) (nI P) i) (waitsV K (ia 12) (ia 11) n st (kdV (ia 5) (nI P)) (kdV (ia 6) (nI P)) i) (waitsC n (ia 0) (nI P) i); rw [hC]; unfold waitsV; rw [kdV_n hP hkd2 hkd1, kdV_n hP hk92 hk91]; (rw [if_pos c_62]; exact dayT_eq hh)) (Nat.le_of_ble_eq_true rfl) (Nat.le_of_ble_eq_true rfl) rfl
      · skip
        have i_39 : ¬ ((noManV (ia 0) x).toInt = 0) := by have zz := mt i_eq.mpr c_39; exact zz
        refine lv_iload_n hxR hbR dX5_waits_42 rfl (lv_at hl 0 rfl) ?_
        have hC : waitsC n (ia 0) x i = noManV (ia 0) x := by
          clear hret hI
          exact if_pos ⟨c_6, Or.inl c_14⟩
        have eia9 : bumpR (ia 9) (waitsC n (ia 0) x i) = bumpR (ia 9) (noManV (ia 0) x) := by rw [hC]
        have hI := wI_w (ws' := mW E ad kp tr (va_up (va_up (va_up iv 30 (iv 30)) 33 (iv 33)) 34 (iv 34)) (va_up (va_up (va_up (va_up (va_up ia 9 (bumpR (ia 9) (waitsC n (ia 0) x i))) 29 (ia 29)) 31 (ia 31)) 32 (ia 32)) 35 (ia 35)) K R mv) (by rw [eia9, va_up_id (f := iv) (k := 30) (v := iv 30) rfl, va_up_id (f := iv) (k := 33) (v := iv 33) rfl, va_up_id (f := iv) (k := 34) (v := iv 34) rfl, va_up_id (f := (va_up ia 9 (bumpR (ia 9) (noManV (ia 0) x)))) (k := 29) (v := ia 29) (up_n (by decide) rfl), va_up_id (f := (va_up ia 9 (bumpR (ia 9) (noManV (ia 0) x)))) (k := 31) (v := ia 31) (up_n (by decide) rfl), va_up_id (f := (va_up ia 9 (bumpR (ia 9) (noManV (ia 0) x)))) (k := 32) (v := ia 32) (up_n (by decide) rfl), va_up_id (f := (va_up ia 9 (bumpR (ia 9) (noManV (ia 0) x)))) (k := 35) (v := ia 35) (up_n (by decide) rfl)]; try rfl) hI
        exact hret (iv 30, ia 29, iv 33, iv 34, ia 31, ia 32, ia 35) (noManV (ia 0) x) _ _ 0 0 _ _ dX5_waits_43 hI (by show (noManV (ia 0) x) = gd (waitsC n (ia 0) x i) (waitsV K (ia 12) (ia 11) n st (kdV (ia 5) x) (kdV (ia 6) x) i) (waitsC n (ia 0) x i); rw [hC]; exact (gd_n c_39).symm) (Nat.le_of_ble_eq_true rfl) (Nat.le_of_ble_eq_true rfl) rfl
    · skip
      have i_14 : ¬ (i.toInt = (-1)) := by have zz := mt i_eq.mpr c_14; exact zz
      refine lv_aload_n hxR hbR dX5_waits_17 rfl (lv_at hl 0 rfl) ?_
      refine lv_iload_n hxR hbR dX5_waits_18 rfl (lv_at hl 2 rfl) ?_
      refine kVI (n := 1) (As := [.int i]) (rest := []) (fun w => w) hxR hbR hmlR hts hown hK hA hl.1 isCtx.id hI (c5_isOne l E ad kp tr iv ia K R mv n i hn (by omega)) (lw_V q1723 q1725 qs47 q86 q1726) ⟨rfl, by decide +kernel⟩ 16 5 rfl rfl mW_o rfl (Nat.le_of_ble_eq_true rfl) (Nat.le_of_ble_eq_true rfl) ⟨Nat.le_of_ble_eq_true rfl, Nat.le_of_ble_eq_true rfl⟩ (Nat.le_of_ble_eq_true rfl) dX5_waits_19 (fun r_19 u H locs hp hI hz => ?_)
      have hI : wI E AR sR H locs (mW E ad kp tr iv ia K R mv) := hI
      have hp : r_19 = b2i (decide (0 ≤ i.toInt ∧ i.toInt < (n : Int))) := hp
      have hr_19 := hp
      rcases b2i_cases hr_19 with ⟨c_19, rfl⟩ | ⟨c_19, rfl⟩
      · skip
        have c_19 : 0 ≤ i.toInt ∧ i.toInt < (n : Int) := of_decide_eq_true c_19
        refine lv_if_ne (tgt := 32) hxR hbR dX5_waits_22 (by decide) (fun _ => ?_) (fun c => absurd c (by decide))
        refine lv_aload_n hxR hbR dX5_waits_32 rfl (lv_at hl 0 rfl) ?_
        refine lv_iload_n hxR hbR dX5_waits_33 rfl (lv_at hl 1 rfl) ?_
        refine kVI (n := 1) (As := [.int x]) (rest := []) (fun w => w) hxR hbR hmlR hts hown hK hA hl.1 isCtx.id hI (c5_noMan l E ad kp tr iv ia K R mv x ) (lw_V q1894 q1896 qs66 q86 q1897) ⟨rfl, by decide +kernel⟩ 16 5 rfl rfl mW_o rfl (Nat.le_of_ble_eq_true rfl) (Nat.le_of_ble_eq_true rfl) ⟨Nat.le_of_ble_eq_true rfl, Nat.le_of_ble_eq_true rfl⟩ (Nat.le_of_ble_eq_true rfl) dX5_waits_34 (fun r_34 u H locs hp hI hz => ?_)
        have hI : wI E AR sR H locs (mW E ad kp tr iv (va_up ia 9 (bumpR (ia 9) (noManV (ia 0) x))) K R mv) := hI
        have hp : r_34 = noManV (ia 0) x := hp
        have hr_34 := hp
        subst hr_34
        refine lv_istore_n (lv' := [(3, .int (noManV (ia 0) x)), (0, .ref (ad 45)), (1, .int x), (2, .int i)]) hxR hbR dX5_waits_37 rfl hl (by decide) rfl (fun ls hl => ?_)
        refine lv_iload_n hxR hbR dX5_waits_38 rfl (lv_at hl 0 rfl) ?_
        refine lv_if_eq (tgt := 44) hxR hbR dX5_waits_39 (by decide) (fun c_39 => ?_) (fun c_39 => ?_)
        · skip
          have i_39 : (noManV (ia 0) x).toInt = 0 := by have zz := i_eq.mp c_39; exact zz
          obtain ⟨P, hP, rfl⟩ := nm8 c_39
          have tP : (nI P).toInt = (P : Int) := nI_toInt (by omega)
          have hne := nm_ne hP c_39
          obtain ⟨kd, hkd1, hkd2⟩ := hkd P hP
          obtain ⟨k9, hk91, hk92⟩ := hby P hP
          have hI := wI_w (ws' := mW E ad kp tr iv ia K R mv) (by rw [c_39, bump_0, va_up_id (f := ia) (k := 9) (v := ia 9) rfl]) hI
          refine lv_aload_n hxR hbR dX5_waits_44 rfl (lv_at hl 1 rfl) ?_
          refine lv_aload_n hxR hbR dX5_waits_45 rfl (lv_at hl 1 rfl) ?_
          refine r_get hxR hbR hts hown hK hI okX5 (ci := 5) rfl 16 mW_o 5 (by decide) q1483 rfl (v := .ref (ad 5)) rfl dX5_waits_46 ?_
          refine lv_iload_n hxR hbR dX5_waits_49 rfl (lv_at hl 2 rfl) ?_
          refine r_iald hxR hbR hK hI 22 (n := 8) (J := P) (f := ia 5) (v := nI kd) (mW_g5 rfl) (by omega) (by decide) hkd2 dX5_waits_50 ?_
          refine lv_aload_n hxR hbR dX5_waits_51 rfl (lv_at hl 1 rfl) ?_
          refine r_get hxR hbR hts hown hK hI okX5 (ci := 5) rfl 16 mW_o 6 (by decide) q1484 rfl (v := .ref (ad 6)) rfl dX5_waits_52 ?_
          refine lv_iload_n hxR hbR dX5_waits_55 rfl (lv_at hl 2 rfl) ?_
          refine r_iald hxR hbR hK hI 23 (n := 8) (J := P) (f := ia 6) (v := nI k9) (mW_g6 rfl) (by omega) (by decide) hk92 dX5_waits_56 ?_
          refine kVV (n := 2) (As := [.int (nI kd), .int (nI k9)]) (rest := []) (fun w => w) hxR hbR hmlR hts hown hK hA hl.1 isCtx.id hI (c5_goesBy l E ad kp tr iv ia K R mv n st kd k9 hn hst (by first | omega | with_reducible assumption) (by first | omega | with_reducible assumption) (by first | omega | with_reducible assumption) (by first | omega | with_reducible assumption) (by first | omega | with_reducible assumption) hh) (lw_V q1902 q1904 qs67 q86 q1905) ⟨rfl, by decide +kernel⟩ 16 5 rfl rfl mW_o rfl (Nat.le_of_ble_eq_true rfl) (Nat.le_of_ble_eq_true rfl) ⟨Nat.le_of_ble_eq_true rfl, Nat.le_of_ble_eq_true rfl⟩ (Nat.le_of_ble_eq_true rfl) dX5_waits_57 (fun u H locs hp hI hz => ?_)
          obtain ⟨c30_57, g29_57⟩ := u
          have hI : wI E AR sR H locs (mW E ad kp tr (va_up (va_up (va_up iv 30 c30_57) 33 (nI ((dayP K (ia 12) (ia 11) n st kd k9 (ia 35) n).1.length))) 34 (nI ((dayP K (ia 12) (ia 11) n st kd k9 (ia 35) n).2.1))) (va_up (va_up (va_up (va_up ia 29 g29_57) 31 (wrL (ia 31) 0 (comL (ia 11) n))) 32 (wrL (ia 32) 0 (dayP K (ia 12) (ia 11) n st kd k9 (ia 35) n).1)) 35 (leaveW (ia 12) (ia 11) 24 (dayP K (ia 12) (ia 11) n st kd k9 (ia 35) n).2.1 n (dayP K (ia 12) (ia 11) n st kd k9 (ia 35) n).2.2)) K R mv) := hI
          refine lv_iload_n hxR hbR dX5_waits_60 rfl (lv_at hl 3 rfl) ?_
          refine lv_iconst (v := (-1)) hxR hbR dX5_waits_61 (by decide) ?_
          refine lv_icmp_ne (tgt := 72) hxR hbR dX5_waits_62 (by decide) (fun c_62 => ?_) (fun c_62 => ?_)
          · skip
            have i_62 : ¬ (i.toInt = (-1)) := by have zz := mt i_eq.mpr c_62; exact zz
            obtain ⟨ix, hix, rfl⟩ := nat_of c_19 (by omega)
            have tix : (nI ix).toInt = (ix : Int) := nI_toInt (by omega)
            refine lv_aload_n hxR hbR dX5_waits_72 rfl (lv_at hl 1 rfl) ?_
            refine r_get hxR hbR hts hown hK hI okX5 (ci := 5) rfl 16 mW_o 35 (by decide) q1513 rfl (v := .ref (ad 35)) rfl dX5_waits_73 ?_
            refine lv_iload_n hxR hbR dX5_waits_76 rfl (lv_at hl 3 rfl) ?_
            refine r_iald hxR hbR hK hI 33 (n := 7) (J := ix) (f := leaveW (ia 12) (ia 11) 24 (dayP K (ia 12) (ia 11) n st kd k9 (ia 35) n).2.1 n (dayP K (ia 12) (ia 11) n st kd k9 (ia 35) n).2.2) (v := (leaveW (ia 12) (ia 11) 24 (dayP K (ia 12) (ia 11) n st kd k9 (ia 35) n).2.1 n (dayP K (ia 12) (ia 11) n st kd k9 (ia 35) n).2.2) ix) (mW_g35 va_up_s) (by omega) (by decide) rfl dX5_waits_77 ?_
            have hC : waitsC n (ia 0) (nI P) (nI ix) = 0 := by
              clear hret hI
              unfold waitsC; rw [if_pos (show _ ∧ _ from ⟨c_6, Or.inr c_19⟩)]; exact c_39
            have eia9 : bumpR (ia 9) (waitsC n (ia 0) (nI P) (nI ix)) = ia 9 := by rw [hC]; exact bump_0 _
            have hI := wI_w (ws' := mW E ad kp tr (va_up (va_up (va_up iv 30 c30_57) 33 (nI ((dayP K (ia 12) (ia 11) n st kd k9 (ia 35) n).1.length))) 34 (nI ((dayP K (ia 12) (ia 11) n st kd k9 (ia 35) n).2.1))) (va_up (va_up (va_up (va_up (va_up ia 9 (bumpR (ia 9) (waitsC n (ia 0) (nI P) (nI ix)))) 29 g29_57) 31 (wrL (ia 31) 0 (comL (ia 11) n))) 32 (wrL (ia 32) 0 (dayP K (ia 12) (ia 11) n st kd k9 (ia 35) n).1)) 35 (leaveW (ia 12) (ia 11) 24 (dayP K (ia 12) (ia 11) n st kd k9 (ia 35) n).2.1 n (dayP K (ia 12) (ia 11) n st kd k9 (ia 35) n).2.2)) K R mv) (by rw [eia9, va_up_id (f := ia) (k := 9) (v := ia 9) rfl]; try rfl) hI
            obtain ⟨zg2, hzg2⟩ : ∃ z, z = nI ((dayP K (ia 12) (ia 11) n st kd k9 (ia 35) n).1.length) := ⟨_, rfl⟩
            rw [← hzg2] at hI
            obtain ⟨zg3, hzg3⟩ : ∃ z, z = nI ((dayP K (ia 12) (ia 11) n st kd k9 (ia 35) n).2.1) := ⟨_, rfl⟩
            rw [← hzg3] at hI
            obtain ⟨zg4, hzg4⟩ : ∃ z, z = wrL (ia 31) 0 (comL (ia 11) n) := ⟨_, rfl⟩
            rw [← hzg4] at hI
            obtain ⟨zg5, hzg5⟩ : ∃ z, z = wrL (ia 32) 0 (dayP K (ia 12) (ia 11) n st kd k9 (ia 35) n).1 := ⟨_, rfl⟩
            rw [← hzg5] at hI
            obtain ⟨zg6, hzg6⟩ : ∃ z, z = leaveW (ia 12) (ia 11) 24 (dayP K (ia 12) (ia 11) n st kd k9 (ia 35) n).2.1 n (dayP K (ia 12) (ia 11) n st kd k9 (ia 35) n).2.2 := ⟨_, rfl⟩
            rw [← hzg6] at hI
            exact hret (c30_57, g29_57, zg2, zg3, zg4, zg5, zg6) ((leaveW (ia 12) (ia 11) 24 (dayP K (ia 12) (ia 11) n st kd k9 (ia 35) n).2.1 n (dayP K (ia 12) (ia 11) n st kd k9 (ia 35) n).2.2) ix) _ _ 0 0 _ _ dX5_waits_78 hI (by show ((leaveW (ia 12) (ia 11) 24 (dayP K (ia 12) (ia 11) n st kd k9 (ia 35) n).2.1 n (dayP K (ia 12) (ia 11) n st kd k9 (ia 35) n).2.2) ix) = gd (waitsC n (ia 0) (nI P) (nI ix)) (waitsV K (ia 12) (ia 11) n st (kdV (ia 5) (nI P)) (kdV (ia 6) (nI P)) (nI ix)) (waitsC n (ia 0) (nI P) (nI ix)); rw [hC]; unfold waitsV; rw [kdV_n hP hkd2 hkd1, kdV_n hP hk92 hk91]; (rw [if_neg c_62, nI_clamp (n := ix) (by omega)]; exact dayW_eq hh (by omega))) (Nat.le_of_ble_eq_true rfl) (Nat.le_of_ble_eq_true rfl) rfl
          · skip
            have i_62 : i.toInt = (-1) := by have zz := i_eq.mp c_62; exact zz
            refine lv_aload_n hxR hbR dX5_waits_65 rfl (lv_at hl 1 rfl) ?_
            refine kVI (n := 0) (As := []) (rest := []) (fun w => w) hxR hbR hmlR hts hown hK hA hl.1 isCtx.id hI (c5_waitedAll l E ad kp tr (va_up (va_up (va_up iv 30 c30_57) 33 (nI ((dayP K (ia 12) (ia 11) n st kd k9 (ia 35) n).1.length))) 34 (nI ((dayP K (ia 12) (ia 11) n st kd k9 (ia 35) n).2.1))) (va_up (va_up (va_up (va_up ia 29 g29_57) 31 (wrL (ia 31) 0 (comL (ia 11) n))) 32 (wrL (ia 32) 0 (dayP K (ia 12) (ia 11) n st kd k9 (ia 35) n).1)) 35 (leaveW (ia 12) (ia 11) 24 (dayP K (ia 12) (ia 11) n st kd k9 (ia 35) n).2.1 n (dayP K (ia 12) (ia 11) n st kd k9 (ia 35) n).2.2)) K R mv n (up_n (by decide) (up_n (by decide) (up_n (by decide) hn))) (by first | omega | with_reducible assumption)) (lw_V q1922 q1924 qs69 q86 q1925) ⟨rfl, by decide +kernel⟩ 16 5 rfl rfl mW_o rfl (Nat.le_of_ble_eq_true rfl) (Nat.le_of_ble_eq_true rfl) ⟨Nat.le_of_ble_eq_true rfl, Nat.le_of_ble_eq_true rfl⟩ (Nat.le_of_ble_eq_true rfl) dX5_waits_66 (fun r_66 u H locs hp hI hz => ?_)
            have hI : wI E AR sR H locs (mW E ad kp tr (va_up (va_up (va_up iv 30 c30_57) 33 (nI ((dayP K (ia 12) (ia 11) n st kd k9 (ia 35) n).1.length))) 34 (nI ((dayP K (ia 12) (ia 11) n st kd k9 (ia 35) n).2.1))) (va_up (va_up (va_up (va_up ia 29 g29_57) 31 (wrL (ia 31) 0 (comL (ia 11) n))) 32 (wrL (ia 32) 0 (dayP K (ia 12) (ia 11) n st kd k9 (ia 35) n).1)) 35 (leaveW (ia 12) (ia 11) 24 (dayP K (ia 12) (ia 11) n st kd k9 (ia 35) n).2.1 n (dayP K (ia 12) (ia 11) n st kd k9 (ia 35) n).2.2)) K R mv) := hI
            have hp : r_66 = sumA ((leaveW (ia 12) (ia 11) 24 (dayP K (ia 12) (ia 11) n st kd k9 (ia 35) n).2.1 n (dayP K (ia 12) (ia 11) n st kd k9 (ia 35) n).2.2)) n := hp
            have hr_66 := hp
            subst hr_66
            refine lv_goto (tgt := 78) hxR hbR dX5_waits_69 (by decide) ?_
            have hC : waitsC n (ia 0) (nI P) i = 0 := by
              clear hret hI
              unfold waitsC; rw [if_pos (show _ ∧ _ from ⟨c_6, Or.inr c_19⟩)]; exact c_39
            have eia9 : bumpR (ia 9) (waitsC n (ia 0) (nI P) i) = ia 9 := by rw [hC]; exact bump_0 _
            have hI := wI_w (ws' := mW E ad kp tr (va_up (va_up (va_up iv 30 c30_57) 33 (nI ((dayP K (ia 12) (ia 11) n st kd k9 (ia 35) n).1.length))) 34 (nI ((dayP K (ia 12) (ia 11) n st kd k9 (ia 35) n).2.1))) (va_up (va_up (va_up (va_up (va_up ia 9 (bumpR (ia 9) (waitsC n (ia 0) (nI P) i))) 29 g29_57) 31 (wrL (ia 31) 0 (comL (ia 11) n))) 32 (wrL (ia 32) 0 (dayP K (ia 12) (ia 11) n st kd k9 (ia 35) n).1)) 35 (leaveW (ia 12) (ia 11) 24 (dayP K (ia 12) (ia 11) n st kd k9 (ia 35) n).2.1 n (dayP K (ia 12) (ia 11) n st kd k9 (ia 35) n).2.2)) K R mv) (by rw [eia9, va_up_id (f := ia) (k := 9) (v := ia 9) rfl]; try rfl) hI
            obtain ⟨zg2, hzg2⟩ : ∃ z, z = nI ((dayP K (ia 12) (ia 11) n st kd k9 (ia 35) n).1.length) := ⟨_, rfl⟩
            rw [← hzg2] at hI
            obtain ⟨zg3, hzg3⟩ : ∃ z, z = nI ((dayP K (ia 12) (ia 11) n st kd k9 (ia 35) n).2.1) := ⟨_, rfl⟩
            rw [← hzg3] at hI
            obtain ⟨zg4, hzg4⟩ : ∃ z, z = wrL (ia 31) 0 (comL (ia 11) n) := ⟨_, rfl⟩
            rw [← hzg4] at hI
            obtain ⟨zg5, hzg5⟩ : ∃ z, z = wrL (ia 32) 0 (dayP K (ia 12) (ia 11) n st kd k9 (ia 35) n).1 := ⟨_, rfl⟩
            rw [← hzg5] at hI
            obtain ⟨zg6, hzg6⟩ : ∃ z, z = leaveW (ia 12) (ia 11) 24 (dayP K (ia 12) (ia 11) n st kd k9 (ia 35) n).2.1 n (dayP K (ia 12) (ia 11) n st kd k9 (ia 35) n).2.2 := ⟨_, rfl⟩
            rw [← hzg6] at hI
            exact hret (c30_57, g29_57, zg2, zg3, zg4, zg5, zg6) (sumA ((leaveW (ia 12) (ia 11) 24 (dayP K (ia 12) (ia 11) n st kd k9 (ia 35) n).2.1 n (dayP K (ia 12) (ia 11) n st kd k9 (ia 35) n).2.2)) n) _ _ 0 0 _ _ dX5_waits_78 hI (by show (sumA ((leaveW (ia 12) (ia 11) 24 (dayP K (ia 12) (ia 11) n st kd k9 (ia 35) n).2.1 n (dayP K (ia 12) (ia 11) n st kd k9 (ia 35) n).2.2)) n) = gd (waitsC n (ia 0) (nI P) i) (waitsV K (ia 12) (ia 11) n st (kdV (ia 5) (nI P)) (kdV (ia 6) (nI P)) i) (waitsC n (ia 0) (nI P) i); rw [hC]; unfold waitsV; rw [kdV_n hP hkd2 hkd1, kdV_n hP hk92 hk91]; (rw [if_pos c_62]; exact dayT_eq hh)) (Nat.le_of_ble_eq_true rfl) (Nat.le_of_ble_eq_true rfl) rfl
        · skip
          have i_39 : ¬ ((noManV (ia 0) x).toInt = 0) := by have zz := mt i_eq.mpr c_39; exact zz
          refine lv_iload_n hxR hbR dX5_waits_42 rfl (lv_at hl 0 rfl) ?_
          have hC : waitsC n (ia 0) x i = noManV (ia 0) x := by
            clear hret hI
            exact if_pos ⟨c_6, Or.inr c_19⟩
          have eia9 : bumpR (ia 9) (waitsC n (ia 0) x i) = bumpR (ia 9) (noManV (ia 0) x) := by rw [hC]
          have hI := wI_w (ws' := mW E ad kp tr (va_up (va_up (va_up iv 30 (iv 30)) 33 (iv 33)) 34 (iv 34)) (va_up (va_up (va_up (va_up (va_up ia 9 (bumpR (ia 9) (waitsC n (ia 0) x i))) 29 (ia 29)) 31 (ia 31)) 32 (ia 32)) 35 (ia 35)) K R mv) (by rw [eia9, va_up_id (f := iv) (k := 30) (v := iv 30) rfl, va_up_id (f := iv) (k := 33) (v := iv 33) rfl, va_up_id (f := iv) (k := 34) (v := iv 34) rfl, va_up_id (f := (va_up ia 9 (bumpR (ia 9) (noManV (ia 0) x)))) (k := 29) (v := ia 29) (up_n (by decide) rfl), va_up_id (f := (va_up ia 9 (bumpR (ia 9) (noManV (ia 0) x)))) (k := 31) (v := ia 31) (up_n (by decide) rfl), va_up_id (f := (va_up ia 9 (bumpR (ia 9) (noManV (ia 0) x)))) (k := 32) (v := ia 32) (up_n (by decide) rfl), va_up_id (f := (va_up ia 9 (bumpR (ia 9) (noManV (ia 0) x)))) (k := 35) (v := ia 35) (up_n (by decide) rfl)]; try rfl) hI
          exact hret (iv 30, ia 29, iv 33, iv 34, ia 31, ia 32, ia 35) (noManV (ia 0) x) _ _ 0 0 _ _ dX5_waits_43 hI (by show (noManV (ia 0) x) = gd (waitsC n (ia 0) x i) (waitsV K (ia 12) (ia 11) n st (kdV (ia 5) x) (kdV (ia 6) x) i) (waitsC n (ia 0) x i); rw [hC]; exact (gd_n c_39).symm) (Nat.le_of_ble_eq_true rfl) (Nat.le_of_ble_eq_true rfl) rfl
      · skip
        have c_19 : ¬ (0 ≤ i.toInt ∧ i.toInt < (n : Int)) := of_decide_eq_false c_19
        refine lv_if_ne (tgt := 32) hxR hbR dX5_waits_22 (by decide) (fun c => absurd c (by decide)) (fun _ => ?_)
        refine lv_aload_n hxR hbR dX5_waits_25 rfl (lv_at hl 0 rfl) ?_
        refine lv_bipush (v := (-2)) hxR hbR dX5_waits_26 (by decide) ?_
        refine kVI (n := 1) (As := [.int (-2)]) (rest := []) (fun w => w) hxR hbR hmlR hts hown hK hA hl.1 isCtx.id hI (c5_refuse l E ad kp tr iv ia K R mv (-2) 2 (by decide) (by decide)) (lw_V q1624 q1626 qs34 q86 q1627) ⟨rfl, by decide +kernel⟩ 16 5 rfl rfl mW_o rfl (Nat.le_of_ble_eq_true rfl) (Nat.le_of_ble_eq_true rfl) ⟨Nat.le_of_ble_eq_true rfl, Nat.le_of_ble_eq_true rfl⟩ (Nat.le_of_ble_eq_true rfl) dX5_waits_28 (fun r_28 u H locs hp hI hz => ?_)
        have hI : wI E AR sR H locs (mW E ad kp tr iv (va_up ia 9 (va_up (ia 9) 2 (ia 9 2 + 1))) K R mv) := hI
        have hp : r_28 = (-2) := hp
        have hr_28 := hp
        subst hr_28
        have hC : waitsC n (ia 0) x i = (-2) := by
          clear hret hI
          exact if_neg (fun z => z.2.elim c_14 c_19)
        have eia9 : bumpR (ia 9) (waitsC n (ia 0) x i) = va_up (ia 9) 2 (ia 9 2 + 1) := by rw [hC]; exact bump_2 _
        have hI := wI_w (ws' := mW E ad kp tr (va_up (va_up (va_up iv 30 (iv 30)) 33 (iv 33)) 34 (iv 34)) (va_up (va_up (va_up (va_up (va_up ia 9 (bumpR (ia 9) (waitsC n (ia 0) x i))) 29 (ia 29)) 31 (ia 31)) 32 (ia 32)) 35 (ia 35)) K R mv) (by rw [eia9, va_up_id (f := iv) (k := 30) (v := iv 30) rfl, va_up_id (f := iv) (k := 33) (v := iv 33) rfl, va_up_id (f := iv) (k := 34) (v := iv 34) rfl, va_up_id (f := (va_up ia 9 (va_up (ia 9) 2 (ia 9 2 + 1)))) (k := 29) (v := ia 29) (up_n (by decide) rfl), va_up_id (f := (va_up ia 9 (va_up (ia 9) 2 (ia 9 2 + 1)))) (k := 31) (v := ia 31) (up_n (by decide) rfl), va_up_id (f := (va_up ia 9 (va_up (ia 9) 2 (ia 9 2 + 1)))) (k := 32) (v := ia 32) (up_n (by decide) rfl), va_up_id (f := (va_up ia 9 (va_up (ia 9) 2 (ia 9 2 + 1)))) (k := 35) (v := ia 35) (up_n (by decide) rfl)]; try rfl) hI
        exact hret (iv 30, ia 29, iv 33, iv 34, ia 31, ia 32, ia 35) (-2) _ _ 0 0 _ _ dX5_waits_31 hI (by show (-2) = gd (waitsC n (ia 0) x i) (waitsV K (ia 12) (ia 11) n st (kdV (ia 5) x) (kdV (ia 6) x) i) (waitsC n (ia 0) x i); rw [hC]; first | rfl | (simp only [gd_0]; split <;> first | rfl | contradiction)) (Nat.le_of_ble_eq_true rfl) (Nat.le_of_ble_eq_true rfl) rfl
  · skip
    have c_6 : ¬ ((0 : Int64).toInt ≤ x.toInt64.toInt ∧ x.toInt64.toInt ≤ (7 : Int64).toInt) := of_decide_eq_false c_6
    have c_6 : ¬ (0 ≤ x.toInt ∧ x.toInt ≤ 7) := by simp only [Int32.toInt_toInt64] at c_6; exact c_6
    refine lv_if_eq (tgt := 25) hxR hbR dX5_waits_9 (by decide) (fun _ => ?_) (fun c => absurd c (by decide))
    refine lv_aload_n hxR hbR dX5_waits_25 rfl (lv_at hl 0 rfl) ?_
    refine lv_bipush (v := (-2)) hxR hbR dX5_waits_26 (by decide) ?_
    refine kVI (n := 1) (As := [.int (-2)]) (rest := []) (fun w => w) hxR hbR hmlR hts hown hK hA hl.1 isCtx.id hI (c5_refuse l E ad kp tr iv ia K R mv (-2) 2 (by decide) (by decide)) (lw_V q1624 q1626 qs34 q86 q1627) ⟨rfl, by decide +kernel⟩ 16 5 rfl rfl mW_o rfl (Nat.le_of_ble_eq_true rfl) (Nat.le_of_ble_eq_true rfl) ⟨Nat.le_of_ble_eq_true rfl, Nat.le_of_ble_eq_true rfl⟩ (Nat.le_of_ble_eq_true rfl) dX5_waits_28 (fun r_28 u H locs hp hI hz => ?_)
    have hI : wI E AR sR H locs (mW E ad kp tr iv (va_up ia 9 (va_up (ia 9) 2 (ia 9 2 + 1))) K R mv) := hI
    have hp : r_28 = (-2) := hp
    have hr_28 := hp
    subst hr_28
    have hC : waitsC n (ia 0) x i = (-2) := by
      clear hret hI
      exact if_neg (fun z => c_6 z.1)
    have eia9 : bumpR (ia 9) (waitsC n (ia 0) x i) = va_up (ia 9) 2 (ia 9 2 + 1) := by rw [hC]; exact bump_2 _
    have hI := wI_w (ws' := mW E ad kp tr (va_up (va_up (va_up iv 30 (iv 30)) 33 (iv 33)) 34 (iv 34)) (va_up (va_up (va_up (va_up (va_up ia 9 (bumpR (ia 9) (waitsC n (ia 0) x i))) 29 (ia 29)) 31 (ia 31)) 32 (ia 32)) 35 (ia 35)) K R mv) (by rw [eia9, va_up_id (f := iv) (k := 30) (v := iv 30) rfl, va_up_id (f := iv) (k := 33) (v := iv 33) rfl, va_up_id (f := iv) (k := 34) (v := iv 34) rfl, va_up_id (f := (va_up ia 9 (va_up (ia 9) 2 (ia 9 2 + 1)))) (k := 29) (v := ia 29) (up_n (by decide) rfl), va_up_id (f := (va_up ia 9 (va_up (ia 9) 2 (ia 9 2 + 1)))) (k := 31) (v := ia 31) (up_n (by decide) rfl), va_up_id (f := (va_up ia 9 (va_up (ia 9) 2 (ia 9 2 + 1)))) (k := 32) (v := ia 32) (up_n (by decide) rfl), va_up_id (f := (va_up ia 9 (va_up (ia 9) 2 (ia 9 2 + 1)))) (k := 35) (v := ia 35) (up_n (by decide) rfl)]; try rfl) hI
    exact hret (iv 30, ia 29, iv 33, iv 34, ia 31, ia 32, ia 35) (-2) _ _ 0 0 _ _ dX5_waits_31 hI (by show (-2) = gd (waitsC n (ia 0) x i) (waitsV K (ia 12) (ia 11) n st (kdV (ia 5) x) (kdV (ia 6) x) i) (waitsC n (ia 0) x i); rw [hC]; first | rfl | (simp only [gd_0]; split <;> first | rfl | contradiction)) (Nat.le_of_ble_eq_true rfl) (Nat.le_of_ble_eq_true rfl) rfl

theorem c5_says (l : Launch) (E : En) (ad : Nat → Nat) (kp tr : Option Nat) (iv : Nat → Int32) (ia K : Nat → Nat → Int32) (R : Nat → Nat → Int64) (mv : Nat → Int64) (n st : Nat) (x k : Int32) (hn : iv 10 = nI n) (hst : iv 14 = nI st) (hn7 : n ≤ 7) (hs2 : 2 ≤ st) (hs4 : st ≤ 4) (hkd : ∀ P, P < 8 → ∃ k, k < 100 ∧ ia 5 P = nI k) (hby : ∀ P, P < 8 → ∃ k, k < 100 ∧ ia 6 P = nI k) : CtI l E yX5_says cX5_says 3 .int 270 0 0 [.ref (ad 45), .int x, .int k] (mW E ad kp tr iv ia K R mv) (fun (r : Int32) (u : Int32 × (Nat → Int32)) => r = gd (saysC (ia 0) (ia 5) x k) (saysV (ia 5) (ia 6) K (ia 12) n st x k) (saysC (ia 0) (ia 5) x k)) (fun (u : Int32 × (Nat → Int32)) => mW E ad kp tr (va_up iv 30 u.1) (va_up (va_up ia 9 (bumpR (ia 9) (saysC (ia 0) (ia 5) x k))) 29 u.2) K R mv) := by
  have h28 : 2 ^ n ≤ 2 ^ 7 := Nat.pow_le_pow_right (by decide) hn7
  refine CtI.of (by decide +kernel) (Nat.le_of_ble_eq_true rfl) ?_
  intro pR eR sR mR aR bR tR cR AR ls QR hxR hbR hmlR hts hown hlk hnm hA hK hI hl hret
  have hl : lv_has ls 3 [(0, .ref (ad 45)), (1, .int x), (2, .int k)] := hl
  refine lv_iload_n hxR hbR dX5_says_0 rfl (lv_at hl 1 rfl) ?_
  refine lv_i2l (v := x.toInt64) hxR hbR dX5_says_1 rfl ?_
  refine lv_lconst (v := 0) hxR hbR dX5_says_2 (by decide) ?_
  refine lv_ldc2 (v := 7) hxR hbR hown (hts _ q1618) dX5_says_3 ?_
  refine kSI (n := 3) (As := [.long x.toInt64, .long (0 : Int64), .long (7 : Int64)]) (rest := []) (fun w => w ++ (mW E ad kp tr iv ia K R mv)) hxR hbR hmlR hts hown hK hA hl.1 (isCtx.suf _) hI (c5_in l E  x.toInt64 (0 : Int64) (7 : Int64) ) (lw_S q1619 q1620 q86 q1621) (by decide +kernel) rfl (Nat.le_of_ble_eq_true rfl) (Nat.le_of_ble_eq_true rfl) ⟨Nat.le_of_ble_eq_true rfl, Nat.le_of_ble_eq_true rfl⟩ (Nat.le_of_ble_eq_true rfl) dX5_says_6 (fun r_6 u H locs hp hI hz => ?_)
  have hI : wI E AR sR H locs (mW E ad kp tr iv ia K R mv) := hI
  have hp : r_6 = b2i (inL x.toInt64 (0 : Int64) (7 : Int64)) := hp
  have hr_6 := hp
  rcases b2i_cases hr_6 with ⟨c_6, rfl⟩ | ⟨c_6, rfl⟩
  · skip
    have c_6 : (0 : Int64).toInt ≤ x.toInt64.toInt ∧ x.toInt64.toInt ≤ (7 : Int64).toInt := of_decide_eq_true c_6
    have c_6 : 0 ≤ x.toInt ∧ x.toInt ≤ 7 := by simp only [Int32.toInt_toInt64] at c_6; exact c_6
    obtain ⟨P, hP, rfl⟩ := nat_of_le (k := 7) c_6 (by decide)
    have tP : (nI P).toInt = (P : Int) := nI_toInt (by omega)
    obtain ⟨kd, hkd1, hkd2⟩ := hkd P hP
    obtain ⟨k9, hk91, hk92⟩ := hby P hP
    have hc5 : (ia 5 P).toNatClampNeg = kd := by rw [hkd2]; exact nI_clamp (by omega)
    have hc6 : (ia 6 P).toNatClampNeg = k9 := by rw [hk92]; exact nI_clamp (by omega)
    refine lv_if_eq (tgt := 24) hxR hbR dX5_says_9 (by decide) (fun c => absurd c (by decide)) (fun _ => ?_)
    refine lv_iload_n hxR hbR dX5_says_12 rfl (lv_at hl 2 rfl) ?_
    refine lv_i2l (v := k.toInt64) hxR hbR dX5_says_13 rfl ?_
    refine lv_lconst (v := 0) hxR hbR dX5_says_14 (by decide) ?_
    refine lv_ldc2 (v := 5) hxR hbR hown (hts _ q1655) dX5_says_15 ?_
    refine kSI (n := 3) (As := [.long k.toInt64, .long (0 : Int64), .long (5 : Int64)]) (rest := []) (fun w => w ++ (mW E ad kp tr iv ia K R mv)) hxR hbR hmlR hts hown hK hA hl.1 (isCtx.suf _) hI (c5_in l E  k.toInt64 (0 : Int64) (5 : Int64) ) (lw_S q1619 q1620 q86 q1621) (by decide +kernel) rfl (Nat.le_of_ble_eq_true rfl) (Nat.le_of_ble_eq_true rfl) ⟨Nat.le_of_ble_eq_true rfl, Nat.le_of_ble_eq_true rfl⟩ (Nat.le_of_ble_eq_true rfl) dX5_says_18 (fun r_18 u H locs hp hI hz => ?_)
    have hI : wI E AR sR H locs (mW E ad kp tr iv ia K R mv) := hI
    have hp : r_18 = b2i (inL k.toInt64 (0 : Int64) (5 : Int64)) := hp
    have hr_18 := hp
    rcases b2i_cases hr_18 with ⟨c_18, rfl⟩ | ⟨c_18, rfl⟩
    · skip
      have c_18 : (0 : Int64).toInt ≤ k.toInt64.toInt ∧ k.toInt64.toInt ≤ (5 : Int64).toInt := of_decide_eq_true c_18
      have c_18 : 0 ≤ k.toInt ∧ k.toInt ≤ 5 := by simp only [Int32.toInt_toInt64] at c_18; exact c_18
      obtain ⟨k0, hk0, rfl⟩ := nat_of_le (k := 5) c_18 (by decide)
      have tk0 : (nI k0).toInt = (k0 : Int) := nI_toInt (by omega)
      refine lv_if_ne (tgt := 31) hxR hbR dX5_says_21 (by decide) (fun _ => ?_) (fun c => absurd c (by decide))
      refine lv_aload_n hxR hbR dX5_says_31 rfl (lv_at hl 0 rfl) ?_
      refine r_get hxR hbR hts hown hK hI okX5 (ci := 5) rfl 16 mW_o 0 (by decide) q1478 rfl (v := .ref (ad 0)) rfl dX5_says_32 ?_
      refine lv_iload_n hxR hbR dX5_says_35 rfl (lv_at hl 1 rfl) ?_
      refine r_iald hxR hbR hK hI 17 (n := 8) (J := P) (f := ia 0) (v := (ia 0) P) (mW_g0 rfl) (by omega) (by decide) rfl dX5_says_36 ?_
      refine lv_iconst (v := 1) hxR hbR dX5_says_37 (by decide) ?_
      refine lv_icmp_eq (tgt := 64) hxR hbR dX5_says_38 (by decide) (fun c_38 => ?_) (fun c_38 => ?_)
      · skip
        have i_38 : ((ia 0) P).toInt = 1 := by have zz := i_eq.mp c_38; exact zz
        refine lv_aload_n hxR hbR dX5_says_64 rfl (lv_at hl 0 rfl) ?_
        refine lv_bipush (v := (-3)) hxR hbR dX5_says_65 (by decide) ?_
        refine kVI (n := 1) (As := [.int (-3)]) (rest := []) (fun w => w) hxR hbR hmlR hts hown hK hA hl.1 isCtx.id hI (c5_refuse l E ad kp tr iv ia K R mv (-3) 3 (by decide) (by decide)) (lw_V q1624 q1626 qs34 q86 q1627) ⟨rfl, by decide +kernel⟩ 16 5 rfl rfl mW_o rfl (Nat.le_of_ble_eq_true rfl) (Nat.le_of_ble_eq_true rfl) ⟨Nat.le_of_ble_eq_true rfl, Nat.le_of_ble_eq_true rfl⟩ (Nat.le_of_ble_eq_true rfl) dX5_says_67 (fun r_67 u H locs hp hI hz => ?_)
        have hI : wI E AR sR H locs (mW E ad kp tr iv (va_up ia 9 (va_up (ia 9) 3 (ia 9 3 + 1))) K R mv) := hI
        have hp : r_67 = (-3) := hp
        have hr_67 := hp
        subst hr_67
        have hC : saysC (ia 0) (ia 5) (nI P) (nI k0) = (-3) := by
          clear hret hI
          unfold saysC; simp only [nI_clamp (n := P) (by omega), nI_clamp (n := k0) (by omega), hc5]; (repeat' split) <;> first | rfl | (exfalso; omega) | contradiction | (exfalso; simp_all; done) | (exfalso; grind)
        have eia9 : bumpR (ia 9) (saysC (ia 0) (ia 5) (nI P) (nI k0)) = va_up (ia 9) 3 (ia 9 3 + 1) := by rw [hC]; exact bump_3 _
        have hI := wI_w (ws' := mW E ad kp tr (va_up iv 30 (iv 30)) (va_up (va_up ia 9 (bumpR (ia 9) (saysC (ia 0) (ia 5) (nI P) (nI k0)))) 29 (ia 29)) K R mv) (by rw [eia9, va_up_id (f := iv) (k := 30) (v := iv 30) rfl, va_up_id (f := (va_up ia 9 (va_up (ia 9) 3 (ia 9 3 + 1)))) (k := 29) (v := ia 29) (up_n (by decide) rfl)]; try rfl) hI
        exact hret (iv 30, ia 29) (-3) _ _ 0 0 _ _ dX5_says_70 hI (by show (-3) = gd (saysC (ia 0) (ia 5) (nI P) (nI k0)) (saysV (ia 5) (ia 6) K (ia 12) n st (nI P) (nI k0)) (saysC (ia 0) (ia 5) (nI P) (nI k0)); rw [hC]; first | rfl | (simp only [nI_clamp (n := P) (by omega), nI_clamp (n := k0) (by omega)]; rfl) | (simp only [gd_0, nI_clamp (n := P) (by omega), nI_clamp (n := k0) (by omega)]; split <;> first | rfl | contradiction)) (Nat.le_of_ble_eq_true rfl) (Nat.le_of_ble_eq_true rfl) rfl
      · skip
        have i_38 : ¬ (((ia 0) P).toInt = 1) := by have zz := mt i_eq.mpr c_38; exact zz
        refine lv_aload_n hxR hbR dX5_says_41 rfl (lv_at hl 0 rfl) ?_
        refine r_get hxR hbR hts hown hK hI okX5 (ci := 5) rfl 16 mW_o 0 (by decide) q1478 rfl (v := .ref (ad 0)) rfl dX5_says_42 ?_
        refine lv_iload_n hxR hbR dX5_says_45 rfl (lv_at hl 1 rfl) ?_
        refine r_iald hxR hbR hK hI 17 (n := 8) (J := P) (f := ia 0) (v := (ia 0) P) (mW_g0 rfl) (by omega) (by decide) rfl dX5_says_46 ?_
        refine lv_iconst (v := 2) hxR hbR dX5_says_47 (by decide) ?_
        refine lv_icmp_ne (tgt := 71) hxR hbR dX5_says_48 (by decide) (fun c_48 => ?_) (fun c_48 => ?_)
        · skip
          have i_48 : ¬ (((ia 0) P).toInt = 2) := by have zz := mt i_eq.mpr c_48; exact zz
          refine lv_aload_n hxR hbR dX5_says_71 rfl (lv_at hl 0 rfl) ?_
          refine r_get hxR hbR hts hown hK hI okX5 (ci := 5) rfl 16 mW_o 0 (by decide) q1478 rfl (v := .ref (ad 0)) rfl dX5_says_72 ?_
          refine lv_iload_n hxR hbR dX5_says_75 rfl (lv_at hl 1 rfl) ?_
          refine r_iald hxR hbR hK hI 17 (n := 8) (J := P) (f := ia 0) (v := (ia 0) P) (mW_g0 rfl) (by omega) (by decide) rfl dX5_says_76 ?_
          refine lv_if_ne (tgt := 87) hxR hbR dX5_says_77 (by decide) (fun c_77 => ?_) (fun c_77 => ?_)
          · skip
            have i_77 : ¬ (((ia 0) P).toInt = 0) := by have zz := mt i_eq.mpr c_77; exact zz
            refine lv_iload_n hxR hbR dX5_says_87 rfl (lv_at hl 2 rfl) ?_
            refine lv_if_ne (tgt := 100) hxR hbR dX5_says_88 (by decide) (fun c_88 => ?_) (fun c_88 => ?_)
            · skip
              have c_88 : ¬ k0 = 0 := fun zz => c_88 ((n_eq (a := k0) (b := 0) (by omega) (by omega)).mpr zz)
              refine lv_aload_n hxR hbR dX5_says_100 rfl (lv_at hl 0 rfl) ?_
              refine lv_aload_n hxR hbR dX5_says_101 rfl (lv_at hl 0 rfl) ?_
              refine r_get hxR hbR hts hown hK hI okX5 (ci := 5) rfl 16 mW_o 5 (by decide) q1483 rfl (v := .ref (ad 5)) rfl dX5_says_102 ?_
              refine lv_iload_n hxR hbR dX5_says_105 rfl (lv_at hl 1 rfl) ?_
              refine r_iald hxR hbR hK hI 22 (n := 8) (J := P) (f := ia 5) (v := nI kd) (mW_g5 rfl) (by omega) (by decide) hkd2 dX5_says_106 ?_
              refine lv_aload_n hxR hbR dX5_says_107 rfl (lv_at hl 0 rfl) ?_
              refine r_get hxR hbR hts hown hK hI okX5 (ci := 5) rfl 16 mW_o 6 (by decide) q1484 rfl (v := .ref (ad 6)) rfl dX5_says_108 ?_
              refine lv_iload_n hxR hbR dX5_says_111 rfl (lv_at hl 1 rfl) ?_
              refine r_iald hxR hbR hK hI 23 (n := 8) (J := P) (f := ia 6) (v := nI k9) (mW_g6 rfl) (by omega) (by decide) hk92 dX5_says_112 ?_
              refine lv_aload_n hxR hbR dX5_says_113 rfl (lv_at hl 0 rfl) ?_
              refine kVI (n := 0) (As := []) (rest := [.int (nI k9), .int (nI kd), .ref (ad 45)]) (fun w => w) hxR hbR hmlR hts hown hK hA hl.1 isCtx.id hI (c5_all l E ad kp tr iv ia K R mv n hn (by omega)) (lw_V q1664 q1666 qs36 q86 q1667) ⟨rfl, by decide +kernel⟩ 16 5 rfl rfl mW_o rfl (Nat.le_of_ble_eq_true rfl) (Nat.le_of_ble_eq_true rfl) ⟨Nat.le_of_ble_eq_true rfl, Nat.le_of_ble_eq_true rfl⟩ (Nat.le_of_ble_eq_true rfl) dX5_says_114 (fun r_114 u H locs hp hI hz => ?_)
              have hI : wI E AR sR H locs (mW E ad kp tr iv ia K R mv) := hI
              have hp : r_114 = nI (2 ^ n - 1) := hp
              have hr_114 := hp
              subst hr_114
              refine lv_iconst (v := 0) hxR hbR dX5_says_117 (by decide) ?_
              refine kVI (n := 4) (As := [.int (nI kd), .int (nI k9), .int (nI (2 ^ n - 1)), .int 0]) (rest := []) (fun w => w) hxR hbR hmlR hts hown hK hA hl.1 isCtx.id hI (c5_sentBy l E ad kp tr iv ia K R mv n st kd k9 (2 ^ n - 1) 0 hn hst (by first | omega | with_reducible assumption) (by first | omega | with_reducible assumption) (by first | omega | with_reducible assumption) (by first | omega | with_reducible assumption) (by first | omega | with_reducible assumption) (by first | omega | with_reducible assumption) (by first | omega | with_reducible assumption)) (lw_V q1668 q1670 qs37 q86 q1671) ⟨rfl, by decide +kernel⟩ 16 5 rfl rfl mW_o rfl (Nat.le_of_ble_eq_true rfl) (Nat.le_of_ble_eq_true rfl) ⟨Nat.le_of_ble_eq_true rfl, Nat.le_of_ble_eq_true rfl⟩ (Nat.le_of_ble_eq_true rfl) dX5_says_118 (fun r_118 u H locs hp hI hz => ?_)
              have hI : wI E AR sR H locs (mW E ad kp tr (va_up iv 30 (nI ((GL K n st).length))) (va_up ia 29 (wrL (ia 29) 0 (GL K n st))) K R mv) := hI
              have hp : r_118 = nI (sentV K (ia 12) n st kd k9 (2 ^ n - 1) 0) := hp
              have hr_118 := hp
              subst hr_118
              have hC : saysC (ia 0) (ia 5) (nI P) (nI k0) = 0 := by
                clear hret hI
                unfold saysC; simp only [nI_clamp (n := P) (by omega), nI_clamp (n := k0) (by omega), hc5]; (repeat' split) <;> first | rfl | (exfalso; omega) | contradiction | (exfalso; simp_all; done) | (exfalso; grind)
              have eia9 : bumpR (ia 9) (saysC (ia 0) (ia 5) (nI P) (nI k0)) = ia 9 := by rw [hC]; exact bump_0 _
              have hI := wI_w (ws' := mW E ad kp tr (va_up iv 30 (nI ((GL K n st).length))) (va_up (va_up ia 9 (bumpR (ia 9) (saysC (ia 0) (ia 5) (nI P) (nI k0)))) 29 (wrL (ia 29) 0 (GL K n st))) K R mv) (by rw [eia9, va_up_id (f := ia) (k := 9) (v := ia 9) rfl]; try rfl) hI
              obtain ⟨zg0, hzg0⟩ : ∃ z, z = nI ((GL K n st).length) := ⟨_, rfl⟩
              rw [← hzg0] at hI
              obtain ⟨zg1, hzg1⟩ : ∃ z, z = wrL (ia 29) 0 (GL K n st) := ⟨_, rfl⟩
              rw [← hzg1] at hI
              exact hret (zg0, zg1) (nI (sentV K (ia 12) n st kd k9 (2 ^ n - 1) 0)) _ _ 0 0 _ _ dX5_says_121 hI (by show (nI (sentV K (ia 12) n st kd k9 (2 ^ n - 1) 0)) = gd (saysC (ia 0) (ia 5) (nI P) (nI k0)) (saysV (ia 5) (ia 6) K (ia 12) n st (nI P) (nI k0)) (saysC (ia 0) (ia 5) (nI P) (nI k0)); rw [hC]; unfold saysV; simp only [nI_clamp (n := P) (by omega), hc5, hc6]; first | (rw [if_pos (by rw [c_88]; rfl)]; rw [hk92]; rfl) | (rw [if_neg (show ¬ nI k0 = 0 from fun z => c_88 ((n_eq (b := 0) (by omega) (by omega)).mp z))]; rfl)) (Nat.le_of_ble_eq_true rfl) (Nat.le_of_ble_eq_true rfl) rfl
            · skip
              have c_88 : k0 = 0 := (n_eq (a := k0) (b := 0) (by omega) (by omega)).mp c_88
              refine lv_aload_n hxR hbR dX5_says_91 rfl (lv_at hl 0 rfl) ?_
              refine r_get hxR hbR hts hown hK hI okX5 (ci := 5) rfl 16 mW_o 6 (by decide) q1484 rfl (v := .ref (ad 6)) rfl dX5_says_92 ?_
              refine lv_iload_n hxR hbR dX5_says_95 rfl (lv_at hl 1 rfl) ?_
              refine r_iald hxR hbR hK hI 23 (n := 8) (J := P) (f := ia 6) (v := nI k9) (mW_g6 rfl) (by omega) (by decide) hk92 dX5_says_96 ?_
              refine lv_goto (tgt := 121) hxR hbR dX5_says_97 (by decide) ?_
              have hC : saysC (ia 0) (ia 5) (nI P) (nI k0) = 0 := by
                clear hret hI
                unfold saysC; simp only [nI_clamp (n := P) (by omega), nI_clamp (n := k0) (by omega), hc5]; (repeat' split) <;> first | rfl | (exfalso; omega) | contradiction | (exfalso; simp_all; done) | (exfalso; grind)
              have eia9 : bumpR (ia 9) (saysC (ia 0) (ia 5) (nI P) (nI k0)) = ia 9 := by rw [hC]; exact bump_0 _
              have hI := wI_w (ws' := mW E ad kp tr (va_up iv 30 (iv 30)) (va_up (va_up ia 9 (bumpR (ia 9) (saysC (ia 0) (ia 5) (nI P) (nI k0)))) 29 (ia 29)) K R mv) (by rw [eia9, va_up_id (f := iv) (k := 30) (v := iv 30) rfl, va_up_id (f := ia) (k := 9) (v := ia 9) rfl, va_up_id (f := ia) (k := 29) (v := ia 29) rfl]; try rfl) hI
              exact hret (iv 30, ia 29) (nI k9) _ _ 0 0 _ _ dX5_says_121 hI (by show (nI k9) = gd (saysC (ia 0) (ia 5) (nI P) (nI k0)) (saysV (ia 5) (ia 6) K (ia 12) n st (nI P) (nI k0)) (saysC (ia 0) (ia 5) (nI P) (nI k0)); rw [hC]; unfold saysV; simp only [nI_clamp (n := P) (by omega), hc5, hc6]; first | (rw [if_pos (by rw [c_88]; rfl)]; rw [hk92]; rfl) | (rw [if_neg (show ¬ nI k0 = 0 from fun z => c_88 ((n_eq (b := 0) (by omega) (by omega)).mp z))]; rfl)) (Nat.le_of_ble_eq_true rfl) (Nat.le_of_ble_eq_true rfl) rfl
          · skip
            have i_77 : ((ia 0) P).toInt = 0 := by have zz := i_eq.mp c_77; exact zz
            refine lv_aload_n hxR hbR dX5_says_80 rfl (lv_at hl 0 rfl) ?_
            refine lv_bipush (v := (-4)) hxR hbR dX5_says_81 (by decide) ?_
            refine kVI (n := 1) (As := [.int (-4)]) (rest := []) (fun w => w) hxR hbR hmlR hts hown hK hA hl.1 isCtx.id hI (c5_refuse l E ad kp tr iv ia K R mv (-4) 4 (by decide) (by decide)) (lw_V q1624 q1626 qs34 q86 q1627) ⟨rfl, by decide +kernel⟩ 16 5 rfl rfl mW_o rfl (Nat.le_of_ble_eq_true rfl) (Nat.le_of_ble_eq_true rfl) ⟨Nat.le_of_ble_eq_true rfl, Nat.le_of_ble_eq_true rfl⟩ (Nat.le_of_ble_eq_true rfl) dX5_says_83 (fun r_83 u H locs hp hI hz => ?_)
            have hI : wI E AR sR H locs (mW E ad kp tr iv (va_up ia 9 (va_up (ia 9) 4 (ia 9 4 + 1))) K R mv) := hI
            have hp : r_83 = (-4) := hp
            have hr_83 := hp
            subst hr_83
            have hC : saysC (ia 0) (ia 5) (nI P) (nI k0) = (-4) := by
              clear hret hI
              unfold saysC; simp only [nI_clamp (n := P) (by omega), nI_clamp (n := k0) (by omega), hc5]; (repeat' split) <;> first | rfl | (exfalso; omega) | contradiction | (exfalso; simp_all; done) | (exfalso; grind)
            have eia9 : bumpR (ia 9) (saysC (ia 0) (ia 5) (nI P) (nI k0)) = va_up (ia 9) 4 (ia 9 4 + 1) := by rw [hC]; exact bump_4 _
            have hI := wI_w (ws' := mW E ad kp tr (va_up iv 30 (iv 30)) (va_up (va_up ia 9 (bumpR (ia 9) (saysC (ia 0) (ia 5) (nI P) (nI k0)))) 29 (ia 29)) K R mv) (by rw [eia9, va_up_id (f := iv) (k := 30) (v := iv 30) rfl, va_up_id (f := (va_up ia 9 (va_up (ia 9) 4 (ia 9 4 + 1)))) (k := 29) (v := ia 29) (up_n (by decide) rfl)]; try rfl) hI
            exact hret (iv 30, ia 29) (-4) _ _ 0 0 _ _ dX5_says_86 hI (by show (-4) = gd (saysC (ia 0) (ia 5) (nI P) (nI k0)) (saysV (ia 5) (ia 6) K (ia 12) n st (nI P) (nI k0)) (saysC (ia 0) (ia 5) (nI P) (nI k0)); rw [hC]; first | rfl | (simp only [nI_clamp (n := P) (by omega), nI_clamp (n := k0) (by omega)]; rfl) | (simp only [gd_0, nI_clamp (n := P) (by omega), nI_clamp (n := k0) (by omega)]; split <;> first | rfl | contradiction)) (Nat.le_of_ble_eq_true rfl) (Nat.le_of_ble_eq_true rfl) rfl
        · skip
          have i_48 : ((ia 0) P).toInt = 2 := by have zz := i_eq.mp c_48; exact zz
          refine lv_aload_n hxR hbR dX5_says_51 rfl (lv_at hl 0 rfl) ?_
          refine r_get hxR hbR hts hown hK hI okX5 (ci := 5) rfl 16 mW_o 5 (by decide) q1483 rfl (v := .ref (ad 5)) rfl dX5_says_52 ?_
          refine lv_iload_n hxR hbR dX5_says_55 rfl (lv_at hl 1 rfl) ?_
          refine r_iald hxR hbR hK hI 22 (n := 8) (J := P) (f := ia 5) (v := nI kd) (mW_g5 rfl) (by omega) (by decide) hkd2 dX5_says_56 ?_
          refine lv_iload_n hxR hbR dX5_says_57 rfl (lv_at hl 2 rfl) ?_
          refine kSI (n := 2) (As := [.int (nI kd), .int (nI k0)]) (rest := []) (fun w => w ++ (mW E ad kp tr iv ia K R mv)) hxR hbR hmlR hts hown hK hA hl.1 (isCtx.suf _) hI (c5_isUnder l E  kd k0 (by first | omega | with_reducible assumption) (by first | omega | with_reducible assumption)) (lw_S q1661 q1662 q86 q1663) (by decide +kernel) rfl (Nat.le_of_ble_eq_true rfl) (Nat.le_of_ble_eq_true rfl) ⟨Nat.le_of_ble_eq_true rfl, Nat.le_of_ble_eq_true rfl⟩ (Nat.le_of_ble_eq_true rfl) dX5_says_58 (fun r_58 u H locs hp hI hz => ?_)
          have hI : wI E AR sR H locs (mW E ad kp tr iv ia K R mv) := hI
          have hp : r_58 = b2i (isUndV kd k0) := hp
          have hr_58 := hp
          rcases b2i_cases hr_58 with ⟨c_58, rfl⟩ | ⟨c_58, rfl⟩
          · skip
            have c_58 : k0 = 0 ∨ kd = k0 ∨ (k0 = 1 ∧ kd = 3) ∨ (k0 = 2 ∧ 4 ≤ kd) := of_decide_eq_true c_58
            have c9_58 : isUndV kd k0 = true := decide_eq_true c_58
            refine lv_if_ne (tgt := 71) hxR hbR dX5_says_61 (by decide) (fun _ => ?_) (fun c => absurd c (by decide))
            refine lv_aload_n hxR hbR dX5_says_71 rfl (lv_at hl 0 rfl) ?_
            refine r_get hxR hbR hts hown hK hI okX5 (ci := 5) rfl 16 mW_o 0 (by decide) q1478 rfl (v := .ref (ad 0)) rfl dX5_says_72 ?_
            refine lv_iload_n hxR hbR dX5_says_75 rfl (lv_at hl 1 rfl) ?_
            refine r_iald hxR hbR hK hI 17 (n := 8) (J := P) (f := ia 0) (v := (ia 0) P) (mW_g0 rfl) (by omega) (by decide) rfl dX5_says_76 ?_
            refine lv_if_ne (tgt := 87) hxR hbR dX5_says_77 (by decide) (fun c_77 => ?_) (fun c_77 => ?_)
            · skip
              have i_77 : ¬ (((ia 0) P).toInt = 0) := by have zz := mt i_eq.mpr c_77; exact zz
              refine lv_iload_n hxR hbR dX5_says_87 rfl (lv_at hl 2 rfl) ?_
              refine lv_if_ne (tgt := 100) hxR hbR dX5_says_88 (by decide) (fun c_88 => ?_) (fun c_88 => ?_)
              · skip
                have c_88 : ¬ k0 = 0 := fun zz => c_88 ((n_eq (a := k0) (b := 0) (by omega) (by omega)).mpr zz)
                refine lv_aload_n hxR hbR dX5_says_100 rfl (lv_at hl 0 rfl) ?_
                refine lv_aload_n hxR hbR dX5_says_101 rfl (lv_at hl 0 rfl) ?_
                refine r_get hxR hbR hts hown hK hI okX5 (ci := 5) rfl 16 mW_o 5 (by decide) q1483 rfl (v := .ref (ad 5)) rfl dX5_says_102 ?_
                refine lv_iload_n hxR hbR dX5_says_105 rfl (lv_at hl 1 rfl) ?_
                refine r_iald hxR hbR hK hI 22 (n := 8) (J := P) (f := ia 5) (v := nI kd) (mW_g5 rfl) (by omega) (by decide) hkd2 dX5_says_106 ?_
                refine lv_aload_n hxR hbR dX5_says_107 rfl (lv_at hl 0 rfl) ?_
                refine r_get hxR hbR hts hown hK hI okX5 (ci := 5) rfl 16 mW_o 6 (by decide) q1484 rfl (v := .ref (ad 6)) rfl dX5_says_108 ?_
                refine lv_iload_n hxR hbR dX5_says_111 rfl (lv_at hl 1 rfl) ?_
                refine r_iald hxR hbR hK hI 23 (n := 8) (J := P) (f := ia 6) (v := nI k9) (mW_g6 rfl) (by omega) (by decide) hk92 dX5_says_112 ?_
                refine lv_aload_n hxR hbR dX5_says_113 rfl (lv_at hl 0 rfl) ?_
                refine kVI (n := 0) (As := []) (rest := [.int (nI k9), .int (nI kd), .ref (ad 45)]) (fun w => w) hxR hbR hmlR hts hown hK hA hl.1 isCtx.id hI (c5_all l E ad kp tr iv ia K R mv n hn (by omega)) (lw_V q1664 q1666 qs36 q86 q1667) ⟨rfl, by decide +kernel⟩ 16 5 rfl rfl mW_o rfl (Nat.le_of_ble_eq_true rfl) (Nat.le_of_ble_eq_true rfl) ⟨Nat.le_of_ble_eq_true rfl, Nat.le_of_ble_eq_true rfl⟩ (Nat.le_of_ble_eq_true rfl) dX5_says_114 (fun r_114 u H locs hp hI hz => ?_)
                have hI : wI E AR sR H locs (mW E ad kp tr iv ia K R mv) := hI
                have hp : r_114 = nI (2 ^ n - 1) := hp
                have hr_114 := hp
                subst hr_114
                refine lv_iconst (v := 0) hxR hbR dX5_says_117 (by decide) ?_
                refine kVI (n := 4) (As := [.int (nI kd), .int (nI k9), .int (nI (2 ^ n - 1)), .int 0]) (rest := []) (fun w => w) hxR hbR hmlR hts hown hK hA hl.1 isCtx.id hI (c5_sentBy l E ad kp tr iv ia K R mv n st kd k9 (2 ^ n - 1) 0 hn hst (by first | omega | with_reducible assumption) (by first | omega | with_reducible assumption) (by first | omega | with_reducible assumption) (by first | omega | with_reducible assumption) (by first | omega | with_reducible assumption) (by first | omega | with_reducible assumption) (by first | omega | with_reducible assumption)) (lw_V q1668 q1670 qs37 q86 q1671) ⟨rfl, by decide +kernel⟩ 16 5 rfl rfl mW_o rfl (Nat.le_of_ble_eq_true rfl) (Nat.le_of_ble_eq_true rfl) ⟨Nat.le_of_ble_eq_true rfl, Nat.le_of_ble_eq_true rfl⟩ (Nat.le_of_ble_eq_true rfl) dX5_says_118 (fun r_118 u H locs hp hI hz => ?_)
                have hI : wI E AR sR H locs (mW E ad kp tr (va_up iv 30 (nI ((GL K n st).length))) (va_up ia 29 (wrL (ia 29) 0 (GL K n st))) K R mv) := hI
                have hp : r_118 = nI (sentV K (ia 12) n st kd k9 (2 ^ n - 1) 0) := hp
                have hr_118 := hp
                subst hr_118
                have hC : saysC (ia 0) (ia 5) (nI P) (nI k0) = 0 := by
                  clear hret hI
                  unfold saysC; simp only [nI_clamp (n := P) (by omega), nI_clamp (n := k0) (by omega), hc5]; (repeat' split) <;> first | rfl | (exfalso; omega) | contradiction | (exfalso; simp_all; done) | (exfalso; grind)
                have eia9 : bumpR (ia 9) (saysC (ia 0) (ia 5) (nI P) (nI k0)) = ia 9 := by rw [hC]; exact bump_0 _
                have hI := wI_w (ws' := mW E ad kp tr (va_up iv 30 (nI ((GL K n st).length))) (va_up (va_up ia 9 (bumpR (ia 9) (saysC (ia 0) (ia 5) (nI P) (nI k0)))) 29 (wrL (ia 29) 0 (GL K n st))) K R mv) (by rw [eia9, va_up_id (f := ia) (k := 9) (v := ia 9) rfl]; try rfl) hI
                obtain ⟨zg0, hzg0⟩ : ∃ z, z = nI ((GL K n st).length) := ⟨_, rfl⟩
                rw [← hzg0] at hI
                obtain ⟨zg1, hzg1⟩ : ∃ z, z = wrL (ia 29) 0 (GL K n st) := ⟨_, rfl⟩
                rw [← hzg1] at hI
                exact hret (zg0, zg1) (nI (sentV K (ia 12) n st kd k9 (2 ^ n - 1) 0)) _ _ 0 0 _ _ dX5_says_121 hI (by show (nI (sentV K (ia 12) n st kd k9 (2 ^ n - 1) 0)) = gd (saysC (ia 0) (ia 5) (nI P) (nI k0)) (saysV (ia 5) (ia 6) K (ia 12) n st (nI P) (nI k0)) (saysC (ia 0) (ia 5) (nI P) (nI k0)); rw [hC]; unfold saysV; simp only [nI_clamp (n := P) (by omega), hc5, hc6]; first | (rw [if_pos (by rw [c_88]; rfl)]; rw [hk92]; rfl) | (rw [if_neg (show ¬ nI k0 = 0 from fun z => c_88 ((n_eq (b := 0) (by omega) (by omega)).mp z))]; rfl)) (Nat.le_of_ble_eq_true rfl) (Nat.le_of_ble_eq_true rfl) rfl
              · skip
                have c_88 : k0 = 0 := (n_eq (a := k0) (b := 0) (by omega) (by omega)).mp c_88
                refine lv_aload_n hxR hbR dX5_says_91 rfl (lv_at hl 0 rfl) ?_
                refine r_get hxR hbR hts hown hK hI okX5 (ci := 5) rfl 16 mW_o 6 (by decide) q1484 rfl (v := .ref (ad 6)) rfl dX5_says_92 ?_
                refine lv_iload_n hxR hbR dX5_says_95 rfl (lv_at hl 1 rfl) ?_
                refine r_iald hxR hbR hK hI 23 (n := 8) (J := P) (f := ia 6) (v := nI k9) (mW_g6 rfl) (by omega) (by decide) hk92 dX5_says_96 ?_
                refine lv_goto (tgt := 121) hxR hbR dX5_says_97 (by decide) ?_
                have hC : saysC (ia 0) (ia 5) (nI P) (nI k0) = 0 := by
                  clear hret hI
                  unfold saysC; simp only [nI_clamp (n := P) (by omega), nI_clamp (n := k0) (by omega), hc5]; (repeat' split) <;> first | rfl | (exfalso; omega) | contradiction | (exfalso; simp_all; done) | (exfalso; grind)
                have eia9 : bumpR (ia 9) (saysC (ia 0) (ia 5) (nI P) (nI k0)) = ia 9 := by rw [hC]; exact bump_0 _
                have hI := wI_w (ws' := mW E ad kp tr (va_up iv 30 (iv 30)) (va_up (va_up ia 9 (bumpR (ia 9) (saysC (ia 0) (ia 5) (nI P) (nI k0)))) 29 (ia 29)) K R mv) (by rw [eia9, va_up_id (f := iv) (k := 30) (v := iv 30) rfl, va_up_id (f := ia) (k := 9) (v := ia 9) rfl, va_up_id (f := ia) (k := 29) (v := ia 29) rfl]; try rfl) hI
                exact hret (iv 30, ia 29) (nI k9) _ _ 0 0 _ _ dX5_says_121 hI (by show (nI k9) = gd (saysC (ia 0) (ia 5) (nI P) (nI k0)) (saysV (ia 5) (ia 6) K (ia 12) n st (nI P) (nI k0)) (saysC (ia 0) (ia 5) (nI P) (nI k0)); rw [hC]; unfold saysV; simp only [nI_clamp (n := P) (by omega), hc5, hc6]; first | (rw [if_pos (by rw [c_88]; rfl)]; rw [hk92]; rfl) | (rw [if_neg (show ¬ nI k0 = 0 from fun z => c_88 ((n_eq (b := 0) (by omega) (by omega)).mp z))]; rfl)) (Nat.le_of_ble_eq_true rfl) (Nat.le_of_ble_eq_true rfl) rfl
            · skip
              have i_77 : ((ia 0) P).toInt = 0 := by have zz := i_eq.mp c_77; exact zz
              refine lv_aload_n hxR hbR dX5_says_80 rfl (lv_at hl 0 rfl) ?_
              refine lv_bipush (v := (-4)) hxR hbR dX5_says_81 (by decide) ?_
              refine kVI (n := 1) (As := [.int (-4)]) (rest := []) (fun w => w) hxR hbR hmlR hts hown hK hA hl.1 isCtx.id hI (c5_refuse l E ad kp tr iv ia K R mv (-4) 4 (by decide) (by decide)) (lw_V q1624 q1626 qs34 q86 q1627) ⟨rfl, by decide +kernel⟩ 16 5 rfl rfl mW_o rfl (Nat.le_of_ble_eq_true rfl) (Nat.le_of_ble_eq_true rfl) ⟨Nat.le_of_ble_eq_true rfl, Nat.le_of_ble_eq_true rfl⟩ (Nat.le_of_ble_eq_true rfl) dX5_says_83 (fun r_83 u H locs hp hI hz => ?_)
              have hI : wI E AR sR H locs (mW E ad kp tr iv (va_up ia 9 (va_up (ia 9) 4 (ia 9 4 + 1))) K R mv) := hI
              have hp : r_83 = (-4) := hp
              have hr_83 := hp
              subst hr_83
              have hC : saysC (ia 0) (ia 5) (nI P) (nI k0) = (-4) := by
                clear hret hI
                unfold saysC; simp only [nI_clamp (n := P) (by omega), nI_clamp (n := k0) (by omega), hc5]; (repeat' split) <;> first | rfl | (exfalso; omega) | contradiction | (exfalso; simp_all; done) | (exfalso; grind)
              have eia9 : bumpR (ia 9) (saysC (ia 0) (ia 5) (nI P) (nI k0)) = va_up (ia 9) 4 (ia 9 4 + 1) := by rw [hC]; exact bump_4 _
              have hI := wI_w (ws' := mW E ad kp tr (va_up iv 30 (iv 30)) (va_up (va_up ia 9 (bumpR (ia 9) (saysC (ia 0) (ia 5) (nI P) (nI k0)))) 29 (ia 29)) K R mv) (by rw [eia9, va_up_id (f := iv) (k := 30) (v := iv 30) rfl, va_up_id (f := (va_up ia 9 (va_up (ia 9) 4 (ia 9 4 + 1)))) (k := 29) (v := ia 29) (up_n (by decide) rfl)]; try rfl) hI
              exact hret (iv 30, ia 29) (-4) _ _ 0 0 _ _ dX5_says_86 hI (by show (-4) = gd (saysC (ia 0) (ia 5) (nI P) (nI k0)) (saysV (ia 5) (ia 6) K (ia 12) n st (nI P) (nI k0)) (saysC (ia 0) (ia 5) (nI P) (nI k0)); rw [hC]; first | rfl | (simp only [nI_clamp (n := P) (by omega), nI_clamp (n := k0) (by omega)]; rfl) | (simp only [gd_0, nI_clamp (n := P) (by omega), nI_clamp (n := k0) (by omega)]; split <;> first | rfl | contradiction)) (Nat.le_of_ble_eq_true rfl) (Nat.le_of_ble_eq_true rfl) rfl
          · skip
            have c_58 : ¬ (k0 = 0 ∨ kd = k0 ∨ (k0 = 1 ∧ kd = 3) ∨ (k0 = 2 ∧ 4 ≤ kd)) := of_decide_eq_false c_58
            have c9_58 : isUndV kd k0 = false := decide_eq_false c_58
            refine lv_if_ne (tgt := 71) hxR hbR dX5_says_61 (by decide) (fun c => absurd c (by decide)) (fun _ => ?_)
            refine lv_aload_n hxR hbR dX5_says_64 rfl (lv_at hl 0 rfl) ?_
            refine lv_bipush (v := (-3)) hxR hbR dX5_says_65 (by decide) ?_
            refine kVI (n := 1) (As := [.int (-3)]) (rest := []) (fun w => w) hxR hbR hmlR hts hown hK hA hl.1 isCtx.id hI (c5_refuse l E ad kp tr iv ia K R mv (-3) 3 (by decide) (by decide)) (lw_V q1624 q1626 qs34 q86 q1627) ⟨rfl, by decide +kernel⟩ 16 5 rfl rfl mW_o rfl (Nat.le_of_ble_eq_true rfl) (Nat.le_of_ble_eq_true rfl) ⟨Nat.le_of_ble_eq_true rfl, Nat.le_of_ble_eq_true rfl⟩ (Nat.le_of_ble_eq_true rfl) dX5_says_67 (fun r_67 u H locs hp hI hz => ?_)
            have hI : wI E AR sR H locs (mW E ad kp tr iv (va_up ia 9 (va_up (ia 9) 3 (ia 9 3 + 1))) K R mv) := hI
            have hp : r_67 = (-3) := hp
            have hr_67 := hp
            subst hr_67
            have hC : saysC (ia 0) (ia 5) (nI P) (nI k0) = (-3) := by
              clear hret hI
              unfold saysC; simp only [nI_clamp (n := P) (by omega), nI_clamp (n := k0) (by omega), hc5]; (repeat' split) <;> first | rfl | (exfalso; omega) | contradiction | (exfalso; simp_all; done) | (exfalso; grind)
            have eia9 : bumpR (ia 9) (saysC (ia 0) (ia 5) (nI P) (nI k0)) = va_up (ia 9) 3 (ia 9 3 + 1) := by rw [hC]; exact bump_3 _
            have hI := wI_w (ws' := mW E ad kp tr (va_up iv 30 (iv 30)) (va_up (va_up ia 9 (bumpR (ia 9) (saysC (ia 0) (ia 5) (nI P) (nI k0)))) 29 (ia 29)) K R mv) (by rw [eia9, va_up_id (f := iv) (k := 30) (v := iv 30) rfl, va_up_id (f := (va_up ia 9 (va_up (ia 9) 3 (ia 9 3 + 1)))) (k := 29) (v := ia 29) (up_n (by decide) rfl)]; try rfl) hI
            exact hret (iv 30, ia 29) (-3) _ _ 0 0 _ _ dX5_says_70 hI (by show (-3) = gd (saysC (ia 0) (ia 5) (nI P) (nI k0)) (saysV (ia 5) (ia 6) K (ia 12) n st (nI P) (nI k0)) (saysC (ia 0) (ia 5) (nI P) (nI k0)); rw [hC]; first | rfl | (simp only [nI_clamp (n := P) (by omega), nI_clamp (n := k0) (by omega)]; rfl) | (simp only [gd_0, nI_clamp (n := P) (by omega), nI_clamp (n := k0) (by omega)]; split <;> first | rfl | contradiction)) (Nat.le_of_ble_eq_true rfl) (Nat.le_of_ble_eq_true rfl) rfl
    · skip
      have c_18 : ¬ ((0 : Int64).toInt ≤ k.toInt64.toInt ∧ k.toInt64.toInt ≤ (5 : Int64).toInt) := of_decide_eq_false c_18
      have c_18 : ¬ (0 ≤ k.toInt ∧ k.toInt ≤ 5) := by simp only [Int32.toInt_toInt64] at c_18; exact c_18
      refine lv_if_ne (tgt := 31) hxR hbR dX5_says_21 (by decide) (fun c => absurd c (by decide)) (fun _ => ?_)
      refine lv_aload_n hxR hbR dX5_says_24 rfl (lv_at hl 0 rfl) ?_
      refine lv_bipush (v := (-2)) hxR hbR dX5_says_25 (by decide) ?_
      refine kVI (n := 1) (As := [.int (-2)]) (rest := []) (fun w => w) hxR hbR hmlR hts hown hK hA hl.1 isCtx.id hI (c5_refuse l E ad kp tr iv ia K R mv (-2) 2 (by decide) (by decide)) (lw_V q1624 q1626 qs34 q86 q1627) ⟨rfl, by decide +kernel⟩ 16 5 rfl rfl mW_o rfl (Nat.le_of_ble_eq_true rfl) (Nat.le_of_ble_eq_true rfl) ⟨Nat.le_of_ble_eq_true rfl, Nat.le_of_ble_eq_true rfl⟩ (Nat.le_of_ble_eq_true rfl) dX5_says_27 (fun r_27 u H locs hp hI hz => ?_)
      have hI : wI E AR sR H locs (mW E ad kp tr iv (va_up ia 9 (va_up (ia 9) 2 (ia 9 2 + 1))) K R mv) := hI
      have hp : r_27 = (-2) := hp
      have hr_27 := hp
      subst hr_27
      have hC : saysC (ia 0) (ia 5) (nI P) k = (-2) := by
        clear hret hI
        unfold saysC
        try simp only [nI_clamp (n := P) (by omega)]
        repeat' split
        all_goals first | rfl | (exfalso; omega) | contradiction | (exfalso; simp_all; done) | simp_all
      have eia9 : bumpR (ia 9) (saysC (ia 0) (ia 5) (nI P) k) = va_up (ia 9) 2 (ia 9 2 + 1) := by rw [hC]; exact bump_2 _
      have hI := wI_w (ws' := mW E ad kp tr (va_up iv 30 (iv 30)) (va_up (va_up ia 9 (bumpR (ia 9) (saysC (ia 0) (ia 5) (nI P) k))) 29 (ia 29)) K R mv) (by rw [eia9, va_up_id (f := iv) (k := 30) (v := iv 30) rfl, va_up_id (f := (va_up ia 9 (va_up (ia 9) 2 (ia 9 2 + 1)))) (k := 29) (v := ia 29) (up_n (by decide) rfl)]; try rfl) hI
      exact hret (iv 30, ia 29) (-2) _ _ 0 0 _ _ dX5_says_30 hI (by show (-2) = gd (saysC (ia 0) (ia 5) (nI P) k) (saysV (ia 5) (ia 6) K (ia 12) n st (nI P) k) (saysC (ia 0) (ia 5) (nI P) k); rw [hC]; first | rfl | (simp only [nI_clamp (n := P) (by omega)]; rfl) | (simp only [gd_0, nI_clamp (n := P) (by omega)]; split <;> first | rfl | contradiction)) (Nat.le_of_ble_eq_true rfl) (Nat.le_of_ble_eq_true rfl) rfl
  · skip
    have c_6 : ¬ ((0 : Int64).toInt ≤ x.toInt64.toInt ∧ x.toInt64.toInt ≤ (7 : Int64).toInt) := of_decide_eq_false c_6
    have c_6 : ¬ (0 ≤ x.toInt ∧ x.toInt ≤ 7) := by simp only [Int32.toInt_toInt64] at c_6; exact c_6
    refine lv_if_eq (tgt := 24) hxR hbR dX5_says_9 (by decide) (fun _ => ?_) (fun c => absurd c (by decide))
    refine lv_aload_n hxR hbR dX5_says_24 rfl (lv_at hl 0 rfl) ?_
    refine lv_bipush (v := (-2)) hxR hbR dX5_says_25 (by decide) ?_
    refine kVI (n := 1) (As := [.int (-2)]) (rest := []) (fun w => w) hxR hbR hmlR hts hown hK hA hl.1 isCtx.id hI (c5_refuse l E ad kp tr iv ia K R mv (-2) 2 (by decide) (by decide)) (lw_V q1624 q1626 qs34 q86 q1627) ⟨rfl, by decide +kernel⟩ 16 5 rfl rfl mW_o rfl (Nat.le_of_ble_eq_true rfl) (Nat.le_of_ble_eq_true rfl) ⟨Nat.le_of_ble_eq_true rfl, Nat.le_of_ble_eq_true rfl⟩ (Nat.le_of_ble_eq_true rfl) dX5_says_27 (fun r_27 u H locs hp hI hz => ?_)
    have hI : wI E AR sR H locs (mW E ad kp tr iv (va_up ia 9 (va_up (ia 9) 2 (ia 9 2 + 1))) K R mv) := hI
    have hp : r_27 = (-2) := hp
    have hr_27 := hp
    subst hr_27
    have hC : saysC (ia 0) (ia 5) x k = (-2) := by
      clear hret hI
      unfold saysC
      repeat' split
      all_goals first | rfl | (exfalso; omega) | contradiction | (exfalso; simp_all; done) | simp_all
    have eia9 : bumpR (ia 9) (saysC (ia 0) (ia 5) x k) = va_up (ia 9) 2 (ia 9 2 + 1) := by rw [hC]; exact bump_2 _
    have hI := wI_w (ws' := mW E ad kp tr (va_up iv 30 (iv 30)) (va_up (va_up ia 9 (bumpR (ia 9) (saysC (ia 0) (ia 5) x k))) 29 (ia 29)) K R mv) (by rw [eia9, va_up_id (f := iv) (k := 30) (v := iv 30) rfl, va_up_id (f := (va_up ia 9 (va_up (ia 9) 2 (ia 9 2 + 1)))) (k := 29) (v := ia 29) (up_n (by decide) rfl)]; try rfl) hI
    exact hret (iv 30, ia 29) (-2) _ _ 0 0 _ _ dX5_says_30 hI (by show (-2) = gd (saysC (ia 0) (ia 5) x k) (saysV (ia 5) (ia 6) K (ia 12) n st x k) (saysC (ia 0) (ia 5) x k); rw [hC]; first | rfl | (simp only [gd_0]; split <;> first | rfl | contradiction)) (Nat.le_of_ble_eq_true rfl) (Nat.le_of_ble_eq_true rfl) rfl

theorem c5_sends (l : Launch) (E : En) (ad : Nat → Nat) (kp tr : Option Nat) (iv : Nat → Int32) (ia K : Nat → Nat → Int32) (R : Nat → Nat → Int64) (mv : Nat → Int64) (n st : Nat) (x y t : Int32) (hn : iv 10 = nI n) (hst : iv 14 = nI st) (hn7 : n ≤ 7) (hs2 : 2 ≤ st) (hs4 : st ≤ 4) (hkd : ∀ P, P < 8 → ∃ k, k < 100 ∧ ia 5 P = nI k) (hby : ∀ P, P < 8 → ∃ k, k < 100 ∧ ia 6 P = nI k) : CtI l E yX5_sends cX5_sends 5 .int 270 0 0 [.ref (ad 45), .int x, .int y, .int t] (mW E ad kp tr iv ia K R mv) (fun (r : Int32) (u : Int32 × (Nat → Int32)) => r = gd (sendsC n (ia 0) x y t) (nI (sentV K (ia 12) n st (kdV (ia 5) x) (kdV (ia 6) x) y.toNatClampNeg t.toNatClampNeg)) (sendsC n (ia 0) x y t)) (fun (u : Int32 × (Nat → Int32)) => mW E ad kp tr (va_up iv 30 u.1) (va_up (va_up ia 9 (bumpR (ia 9) (sendsC n (ia 0) x y t))) 29 u.2) K R mv) := by
  have h28 : 2 ^ n ≤ 2 ^ 7 := Nat.pow_le_pow_right (by decide) hn7
  refine CtI.of (by decide +kernel) (Nat.le_of_ble_eq_true rfl) ?_
  intro pR eR sR mR aR bR tR cR AR ls QR hxR hbR hmlR hts hown hlk hnm hA hK hI hl hret
  have hl : lv_has ls 5 [(0, .ref (ad 45)), (1, .int x), (2, .int y), (3, .int t)] := hl
  refine lv_iload_n hxR hbR dX5_sends_0 rfl (lv_at hl 1 rfl) ?_
  refine lv_i2l (v := x.toInt64) hxR hbR dX5_sends_1 rfl ?_
  refine lv_lconst (v := 0) hxR hbR dX5_sends_2 (by decide) ?_
  refine lv_ldc2 (v := 7) hxR hbR hown (hts _ q1618) dX5_sends_3 ?_
  refine kSI (n := 3) (As := [.long x.toInt64, .long (0 : Int64), .long (7 : Int64)]) (rest := []) (fun w => w ++ (mW E ad kp tr iv ia K R mv)) hxR hbR hmlR hts hown hK hA hl.1 (isCtx.suf _) hI (c5_in l E  x.toInt64 (0 : Int64) (7 : Int64) ) (lw_S q1619 q1620 q86 q1621) (by decide +kernel) rfl (Nat.le_of_ble_eq_true rfl) (Nat.le_of_ble_eq_true rfl) ⟨Nat.le_of_ble_eq_true rfl, Nat.le_of_ble_eq_true rfl⟩ (Nat.le_of_ble_eq_true rfl) dX5_sends_6 (fun r_6 u H locs hp hI hz => ?_)
  have hI : wI E AR sR H locs (mW E ad kp tr iv ia K R mv) := hI
  have hp : r_6 = b2i (inL x.toInt64 (0 : Int64) (7 : Int64)) := hp
  have hr_6 := hp
  rcases b2i_cases hr_6 with ⟨c_6, rfl⟩ | ⟨c_6, rfl⟩
  · skip
    have c_6 : (0 : Int64).toInt ≤ x.toInt64.toInt ∧ x.toInt64.toInt ≤ (7 : Int64).toInt := of_decide_eq_true c_6
    have c_6 : 0 ≤ x.toInt ∧ x.toInt ≤ 7 := by simp only [Int32.toInt_toInt64] at c_6; exact c_6
    refine lv_if_eq (tgt := 32) hxR hbR dX5_sends_9 (by decide) (fun c => absurd c (by decide)) (fun _ => ?_)
    refine lv_aload_n hxR hbR dX5_sends_12 rfl (lv_at hl 0 rfl) ?_
    refine lv_iload_n hxR hbR dX5_sends_13 rfl (lv_at hl 2 rfl) ?_
    refine kVI (n := 1) (As := [.int y]) (rest := []) (fun w => w) hxR hbR hmlR hts hown hK hA hl.1 isCtx.id hI (c5_isSet l E ad kp tr iv ia K R mv n y hn (by omega)) (lw_V q1862 q1864 qs63 q86 q1865) ⟨rfl, by decide +kernel⟩ 16 5 rfl rfl mW_o rfl (Nat.le_of_ble_eq_true rfl) (Nat.le_of_ble_eq_true rfl) ⟨Nat.le_of_ble_eq_true rfl, Nat.le_of_ble_eq_true rfl⟩ (Nat.le_of_ble_eq_true rfl) dX5_sends_14 (fun r_14 u H locs hp hI hz => ?_)
    have hI : wI E AR sR H locs (mW E ad kp tr iv ia K R mv) := hI
    have hp : r_14 = b2i (decide (0 ≤ y.toInt ∧ y.toInt < ((2 ^ n : Nat) : Int))) := hp
    have hr_14 := hp
    rcases b2i_cases hr_14 with ⟨c_14, rfl⟩ | ⟨c_14, rfl⟩
    · skip
      have c_14 : 0 ≤ y.toInt ∧ y.toInt < ((2 ^ n : Nat) : Int) := of_decide_eq_true c_14
      obtain ⟨Y, hY, rfl⟩ := nat_of c_14 (by omega)
      have tY : (nI Y).toInt = (Y : Int) := nI_toInt (by omega)
      refine lv_if_eq (tgt := 32) hxR hbR dX5_sends_17 (by decide) (fun c => absurd c (by decide)) (fun _ => ?_)
      refine lv_iload_n hxR hbR dX5_sends_20 rfl (lv_at hl 3 rfl) ?_
      refine lv_i2l (v := t.toInt64) hxR hbR dX5_sends_21 rfl ?_
      refine lv_lconst (v := 0) hxR hbR dX5_sends_22 (by decide) ?_
      refine lv_ldc2 (v := 7) hxR hbR hown (hts _ q1618) dX5_sends_23 ?_
      refine kSI (n := 3) (As := [.long t.toInt64, .long (0 : Int64), .long (7 : Int64)]) (rest := []) (fun w => w ++ (mW E ad kp tr iv ia K R mv)) hxR hbR hmlR hts hown hK hA hl.1 (isCtx.suf _) hI (c5_in l E  t.toInt64 (0 : Int64) (7 : Int64) ) (lw_S q1619 q1620 q86 q1621) (by decide +kernel) rfl (Nat.le_of_ble_eq_true rfl) (Nat.le_of_ble_eq_true rfl) ⟨Nat.le_of_ble_eq_true rfl, Nat.le_of_ble_eq_true rfl⟩ (Nat.le_of_ble_eq_true rfl) dX5_sends_26 (fun r_26 u H locs hp hI hz => ?_)
      have hI : wI E AR sR H locs (mW E ad kp tr iv ia K R mv) := hI
      have hp : r_26 = b2i (inL t.toInt64 (0 : Int64) (7 : Int64)) := hp
      have hr_26 := hp
      rcases b2i_cases hr_26 with ⟨c_26, rfl⟩ | ⟨c_26, rfl⟩
      · skip
        have c_26 : (0 : Int64).toInt ≤ t.toInt64.toInt ∧ t.toInt64.toInt ≤ (7 : Int64).toInt := of_decide_eq_true c_26
        have c_26 : 0 ≤ t.toInt ∧ t.toInt ≤ 7 := by simp only [Int32.toInt_toInt64] at c_26; exact c_26
        obtain ⟨T, hT, rfl⟩ := nat_of_le (k := 7) c_26 (by decide)
        have tT : (nI T).toInt = (T : Int) := nI_toInt (by omega)
        refine lv_if_ne (tgt := 39) hxR hbR dX5_sends_29 (by decide) (fun _ => ?_) (fun c => absurd c (by decide))
        refine lv_aload_n hxR hbR dX5_sends_39 rfl (lv_at hl 0 rfl) ?_
        refine lv_iload_n hxR hbR dX5_sends_40 rfl (lv_at hl 1 rfl) ?_
        refine kVI (n := 1) (As := [.int x]) (rest := []) (fun w => w) hxR hbR hmlR hts hown hK hA hl.1 isCtx.id hI (c5_noMan l E ad kp tr iv ia K R mv x ) (lw_V q1894 q1896 qs66 q86 q1897) ⟨rfl, by decide +kernel⟩ 16 5 rfl rfl mW_o rfl (Nat.le_of_ble_eq_true rfl) (Nat.le_of_ble_eq_true rfl) ⟨Nat.le_of_ble_eq_true rfl, Nat.le_of_ble_eq_true rfl⟩ (Nat.le_of_ble_eq_true rfl) dX5_sends_41 (fun r_41 u H locs hp hI hz => ?_)
        have hI : wI E AR sR H locs (mW E ad kp tr iv (va_up ia 9 (bumpR (ia 9) (noManV (ia 0) x))) K R mv) := hI
        have hp : r_41 = noManV (ia 0) x := hp
        have hr_41 := hp
        subst hr_41
        refine lv_istore (lv' := [(4, .int (noManV (ia 0) x)), (0, .ref (ad 45)), (1, .int x), (2, .int (nI Y)), (3, .int (nI T))]) hxR hbR dX5_sends_44 hl (by decide) rfl (fun ls hl => ?_)
        refine lv_iload hxR hbR dX5_sends_46 (lv_at hl 0 rfl) ?_
        refine lv_if_eq (tgt := 56) hxR hbR dX5_sends_48 (by decide) (fun c_48 => ?_) (fun c_48 => ?_)
        · skip
          have i_48 : (noManV (ia 0) x).toInt = 0 := by have zz := i_eq.mp c_48; exact zz
          obtain ⟨P, hP, rfl⟩ := nm8 c_48
          have tP : (nI P).toInt = (P : Int) := nI_toInt (by omega)
          have hne := nm_ne hP c_48
          obtain ⟨kd, hkd1, hkd2⟩ := hkd P hP
          obtain ⟨k9, hk91, hk92⟩ := hby P hP
          have hI := wI_w (ws' := mW E ad kp tr iv ia K R mv) (by rw [c_48, bump_0, va_up_id (f := ia) (k := 9) (v := ia 9) rfl]) hI
          refine lv_aload_n hxR hbR dX5_sends_56 rfl (lv_at hl 1 rfl) ?_
          refine lv_aload_n hxR hbR dX5_sends_57 rfl (lv_at hl 1 rfl) ?_
          refine r_get hxR hbR hts hown hK hI okX5 (ci := 5) rfl 16 mW_o 5 (by decide) q1483 rfl (v := .ref (ad 5)) rfl dX5_sends_58 ?_
          refine lv_iload_n hxR hbR dX5_sends_61 rfl (lv_at hl 2 rfl) ?_
          refine r_iald hxR hbR hK hI 22 (n := 8) (J := P) (f := ia 5) (v := nI kd) (mW_g5 rfl) (by omega) (by decide) hkd2 dX5_sends_62 ?_
          refine lv_aload_n hxR hbR dX5_sends_63 rfl (lv_at hl 1 rfl) ?_
          refine r_get hxR hbR hts hown hK hI okX5 (ci := 5) rfl 16 mW_o 6 (by decide) q1484 rfl (v := .ref (ad 6)) rfl dX5_sends_64 ?_
          refine lv_iload_n hxR hbR dX5_sends_67 rfl (lv_at hl 2 rfl) ?_
          refine r_iald hxR hbR hK hI 23 (n := 8) (J := P) (f := ia 6) (v := nI k9) (mW_g6 rfl) (by omega) (by decide) hk92 dX5_sends_68 ?_
          refine lv_iload_n hxR hbR dX5_sends_69 rfl (lv_at hl 3 rfl) ?_
          refine lv_iload_n hxR hbR dX5_sends_70 rfl (lv_at hl 4 rfl) ?_
          refine kVI (n := 4) (As := [.int (nI kd), .int (nI k9), .int (nI Y), .int (nI T)]) (rest := []) (fun w => w) hxR hbR hmlR hts hown hK hA hl.1 isCtx.id hI (c5_sentBy l E ad kp tr iv ia K R mv n st kd k9 Y T hn hst (by first | omega | with_reducible assumption) (by first | omega | with_reducible assumption) (by first | omega | with_reducible assumption) (by first | omega | with_reducible assumption) (by first | omega | with_reducible assumption) (by omega) (by first | omega | with_reducible assumption)) (lw_V q1668 q1670 qs37 q86 q1671) ⟨rfl, by decide +kernel⟩ 16 5 rfl rfl mW_o rfl (Nat.le_of_ble_eq_true rfl) (Nat.le_of_ble_eq_true rfl) ⟨Nat.le_of_ble_eq_true rfl, Nat.le_of_ble_eq_true rfl⟩ (Nat.le_of_ble_eq_true rfl) dX5_sends_71 (fun r_71 u H locs hp hI hz => ?_)
          have hI : wI E AR sR H locs (mW E ad kp tr (va_up iv 30 (nI ((GL K n st).length))) (va_up ia 29 (wrL (ia 29) 0 (GL K n st))) K R mv) := hI
          have hp : r_71 = nI (sentV K (ia 12) n st kd k9 Y T) := hp
          have hr_71 := hp
          subst hr_71
          have hC : sendsC n (ia 0) (nI P) (nI Y) (nI T) = 0 := by
            clear hret hI
            unfold sendsC; rw [if_pos ⟨c_6, c_14, c_26⟩]; exact c_48
          have eia9 : bumpR (ia 9) (sendsC n (ia 0) (nI P) (nI Y) (nI T)) = ia 9 := by rw [hC]; exact bump_0 _
          have hI := wI_w (ws' := mW E ad kp tr (va_up iv 30 (nI ((GL K n st).length))) (va_up (va_up ia 9 (bumpR (ia 9) (sendsC n (ia 0) (nI P) (nI Y) (nI T)))) 29 (wrL (ia 29) 0 (GL K n st))) K R mv) (by rw [eia9, va_up_id (f := ia) (k := 9) (v := ia 9) rfl]; try rfl) hI
          obtain ⟨zg0, hzg0⟩ : ∃ z, z = nI ((GL K n st).length) := ⟨_, rfl⟩
          rw [← hzg0] at hI
          obtain ⟨zg1, hzg1⟩ : ∃ z, z = wrL (ia 29) 0 (GL K n st) := ⟨_, rfl⟩
          rw [← hzg1] at hI
          exact hret (zg0, zg1) (nI (sentV K (ia 12) n st kd k9 Y T)) _ _ 0 0 _ _ dX5_sends_74 hI (by show (nI (sentV K (ia 12) n st kd k9 Y T)) = gd (sendsC n (ia 0) (nI P) (nI Y) (nI T)) (nI (sentV K (ia 12) n st (kdV (ia 5) (nI P)) (kdV (ia 6) (nI P)) (nI Y).toNatClampNeg (nI T).toNatClampNeg)) (sendsC n (ia 0) (nI P) (nI Y) (nI T)); rw [hC, kdV_n hP hkd2 hkd1, kdV_n hP hk92 hk91]; simp only [nI_clamp (n := Y) (by omega), nI_clamp (n := T) (by omega)]; rfl) (Nat.le_of_ble_eq_true rfl) (Nat.le_of_ble_eq_true rfl) rfl
        · skip
          have i_48 : ¬ ((noManV (ia 0) x).toInt = 0) := by have zz := mt i_eq.mpr c_48; exact zz
          refine lv_iload hxR hbR dX5_sends_51 (lv_at hl 0 rfl) ?_
          refine lv_goto (tgt := 74) hxR hbR dX5_sends_53 (by decide) ?_
          have hC : sendsC n (ia 0) x (nI Y) (nI T) = noManV (ia 0) x := by
            clear hret hI
            exact if_pos ⟨c_6, c_14, c_26⟩
          have eia9 : bumpR (ia 9) (sendsC n (ia 0) x (nI Y) (nI T)) = bumpR (ia 9) (noManV (ia 0) x) := by rw [hC]
          have hI := wI_w (ws' := mW E ad kp tr (va_up iv 30 (iv 30)) (va_up (va_up ia 9 (bumpR (ia 9) (sendsC n (ia 0) x (nI Y) (nI T)))) 29 (ia 29)) K R mv) (by rw [eia9, va_up_id (f := iv) (k := 30) (v := iv 30) rfl, va_up_id (f := (va_up ia 9 (bumpR (ia 9) (noManV (ia 0) x)))) (k := 29) (v := ia 29) (up_n (by decide) rfl)]; try rfl) hI
          exact hret (iv 30, ia 29) (noManV (ia 0) x) _ _ 0 0 _ _ dX5_sends_74 hI (by show (noManV (ia 0) x) = gd (sendsC n (ia 0) x (nI Y) (nI T)) (nI (sentV K (ia 12) n st (kdV (ia 5) x) (kdV (ia 6) x) (nI Y).toNatClampNeg (nI T).toNatClampNeg)) (sendsC n (ia 0) x (nI Y) (nI T)); rw [hC]; exact (gd_n c_48).symm) (Nat.le_of_ble_eq_true rfl) (Nat.le_of_ble_eq_true rfl) rfl
      · skip
        have c_26 : ¬ ((0 : Int64).toInt ≤ t.toInt64.toInt ∧ t.toInt64.toInt ≤ (7 : Int64).toInt) := of_decide_eq_false c_26
        have c_26 : ¬ (0 ≤ t.toInt ∧ t.toInt ≤ 7) := by simp only [Int32.toInt_toInt64] at c_26; exact c_26
        refine lv_if_ne (tgt := 39) hxR hbR dX5_sends_29 (by decide) (fun c => absurd c (by decide)) (fun _ => ?_)
        refine lv_aload_n hxR hbR dX5_sends_32 rfl (lv_at hl 0 rfl) ?_
        refine lv_bipush (v := (-2)) hxR hbR dX5_sends_33 (by decide) ?_
        refine kVI (n := 1) (As := [.int (-2)]) (rest := []) (fun w => w) hxR hbR hmlR hts hown hK hA hl.1 isCtx.id hI (c5_refuse l E ad kp tr iv ia K R mv (-2) 2 (by decide) (by decide)) (lw_V q1624 q1626 qs34 q86 q1627) ⟨rfl, by decide +kernel⟩ 16 5 rfl rfl mW_o rfl (Nat.le_of_ble_eq_true rfl) (Nat.le_of_ble_eq_true rfl) ⟨Nat.le_of_ble_eq_true rfl, Nat.le_of_ble_eq_true rfl⟩ (Nat.le_of_ble_eq_true rfl) dX5_sends_35 (fun r_35 u H locs hp hI hz => ?_)
        have hI : wI E AR sR H locs (mW E ad kp tr iv (va_up ia 9 (va_up (ia 9) 2 (ia 9 2 + 1))) K R mv) := hI
        have hp : r_35 = (-2) := hp
        have hr_35 := hp
        subst hr_35
        have hC : sendsC n (ia 0) x (nI Y) t = (-2) := by
          clear hret hI
          unfold sendsC
          try simp only [nI_clamp (n := Y) (by omega)]
          repeat' split
          all_goals first | rfl | (exfalso; omega) | contradiction | (exfalso; simp_all; done) | simp_all
        have eia9 : bumpR (ia 9) (sendsC n (ia 0) x (nI Y) t) = va_up (ia 9) 2 (ia 9 2 + 1) := by rw [hC]; exact bump_2 _
        have hI := wI_w (ws' := mW E ad kp tr (va_up iv 30 (iv 30)) (va_up (va_up ia 9 (bumpR (ia 9) (sendsC n (ia 0) x (nI Y) t))) 29 (ia 29)) K R mv) (by rw [eia9, va_up_id (f := iv) (k := 30) (v := iv 30) rfl, va_up_id (f := (va_up ia 9 (va_up (ia 9) 2 (ia 9 2 + 1)))) (k := 29) (v := ia 29) (up_n (by decide) rfl)]; try rfl) hI
        exact hret (iv 30, ia 29) (-2) _ _ 0 0 _ _ dX5_sends_38 hI (by show (-2) = gd (sendsC n (ia 0) x (nI Y) t) (nI (sentV K (ia 12) n st (kdV (ia 5) x) (kdV (ia 6) x) (nI Y).toNatClampNeg t.toNatClampNeg)) (sendsC n (ia 0) x (nI Y) t); rw [hC]; first | rfl | (simp only [nI_clamp (n := Y) (by omega)]; rfl) | (simp only [gd_0, nI_clamp (n := Y) (by omega)]; split <;> first | rfl | contradiction)) (Nat.le_of_ble_eq_true rfl) (Nat.le_of_ble_eq_true rfl) rfl
    · skip
      have c_14 : ¬ (0 ≤ y.toInt ∧ y.toInt < ((2 ^ n : Nat) : Int)) := of_decide_eq_false c_14
      refine lv_if_eq (tgt := 32) hxR hbR dX5_sends_17 (by decide) (fun _ => ?_) (fun c => absurd c (by decide))
      refine lv_aload_n hxR hbR dX5_sends_32 rfl (lv_at hl 0 rfl) ?_
      refine lv_bipush (v := (-2)) hxR hbR dX5_sends_33 (by decide) ?_
      refine kVI (n := 1) (As := [.int (-2)]) (rest := []) (fun w => w) hxR hbR hmlR hts hown hK hA hl.1 isCtx.id hI (c5_refuse l E ad kp tr iv ia K R mv (-2) 2 (by decide) (by decide)) (lw_V q1624 q1626 qs34 q86 q1627) ⟨rfl, by decide +kernel⟩ 16 5 rfl rfl mW_o rfl (Nat.le_of_ble_eq_true rfl) (Nat.le_of_ble_eq_true rfl) ⟨Nat.le_of_ble_eq_true rfl, Nat.le_of_ble_eq_true rfl⟩ (Nat.le_of_ble_eq_true rfl) dX5_sends_35 (fun r_35 u H locs hp hI hz => ?_)
      have hI : wI E AR sR H locs (mW E ad kp tr iv (va_up ia 9 (va_up (ia 9) 2 (ia 9 2 + 1))) K R mv) := hI
      have hp : r_35 = (-2) := hp
      have hr_35 := hp
      subst hr_35
      have hC : sendsC n (ia 0) x y t = (-2) := by
        clear hret hI
        unfold sendsC
        repeat' split
        all_goals first | rfl | (exfalso; omega) | contradiction | (exfalso; simp_all; done) | simp_all
      have eia9 : bumpR (ia 9) (sendsC n (ia 0) x y t) = va_up (ia 9) 2 (ia 9 2 + 1) := by rw [hC]; exact bump_2 _
      have hI := wI_w (ws' := mW E ad kp tr (va_up iv 30 (iv 30)) (va_up (va_up ia 9 (bumpR (ia 9) (sendsC n (ia 0) x y t))) 29 (ia 29)) K R mv) (by rw [eia9, va_up_id (f := iv) (k := 30) (v := iv 30) rfl, va_up_id (f := (va_up ia 9 (va_up (ia 9) 2 (ia 9 2 + 1)))) (k := 29) (v := ia 29) (up_n (by decide) rfl)]; try rfl) hI
      exact hret (iv 30, ia 29) (-2) _ _ 0 0 _ _ dX5_sends_38 hI (by show (-2) = gd (sendsC n (ia 0) x y t) (nI (sentV K (ia 12) n st (kdV (ia 5) x) (kdV (ia 6) x) y.toNatClampNeg t.toNatClampNeg)) (sendsC n (ia 0) x y t); rw [hC]; first | rfl | (simp only [gd_0]; split <;> first | rfl | contradiction)) (Nat.le_of_ble_eq_true rfl) (Nat.le_of_ble_eq_true rfl) rfl
  · skip
    have c_6 : ¬ ((0 : Int64).toInt ≤ x.toInt64.toInt ∧ x.toInt64.toInt ≤ (7 : Int64).toInt) := of_decide_eq_false c_6
    have c_6 : ¬ (0 ≤ x.toInt ∧ x.toInt ≤ 7) := by simp only [Int32.toInt_toInt64] at c_6; exact c_6
    refine lv_if_eq (tgt := 32) hxR hbR dX5_sends_9 (by decide) (fun _ => ?_) (fun c => absurd c (by decide))
    refine lv_aload_n hxR hbR dX5_sends_32 rfl (lv_at hl 0 rfl) ?_
    refine lv_bipush (v := (-2)) hxR hbR dX5_sends_33 (by decide) ?_
    refine kVI (n := 1) (As := [.int (-2)]) (rest := []) (fun w => w) hxR hbR hmlR hts hown hK hA hl.1 isCtx.id hI (c5_refuse l E ad kp tr iv ia K R mv (-2) 2 (by decide) (by decide)) (lw_V q1624 q1626 qs34 q86 q1627) ⟨rfl, by decide +kernel⟩ 16 5 rfl rfl mW_o rfl (Nat.le_of_ble_eq_true rfl) (Nat.le_of_ble_eq_true rfl) ⟨Nat.le_of_ble_eq_true rfl, Nat.le_of_ble_eq_true rfl⟩ (Nat.le_of_ble_eq_true rfl) dX5_sends_35 (fun r_35 u H locs hp hI hz => ?_)
    have hI : wI E AR sR H locs (mW E ad kp tr iv (va_up ia 9 (va_up (ia 9) 2 (ia 9 2 + 1))) K R mv) := hI
    have hp : r_35 = (-2) := hp
    have hr_35 := hp
    subst hr_35
    have hC : sendsC n (ia 0) x y t = (-2) := by
      clear hret hI
      unfold sendsC
      repeat' split
      all_goals first | rfl | (exfalso; omega) | contradiction | (exfalso; simp_all; done) | simp_all
    have eia9 : bumpR (ia 9) (sendsC n (ia 0) x y t) = va_up (ia 9) 2 (ia 9 2 + 1) := by rw [hC]; exact bump_2 _
    have hI := wI_w (ws' := mW E ad kp tr (va_up iv 30 (iv 30)) (va_up (va_up ia 9 (bumpR (ia 9) (sendsC n (ia 0) x y t))) 29 (ia 29)) K R mv) (by rw [eia9, va_up_id (f := iv) (k := 30) (v := iv 30) rfl, va_up_id (f := (va_up ia 9 (va_up (ia 9) 2 (ia 9 2 + 1)))) (k := 29) (v := ia 29) (up_n (by decide) rfl)]; try rfl) hI
    exact hret (iv 30, ia 29) (-2) _ _ 0 0 _ _ dX5_sends_38 hI (by show (-2) = gd (sendsC n (ia 0) x y t) (nI (sentV K (ia 12) n st (kdV (ia 5) x) (kdV (ia 6) x) y.toNatClampNeg t.toNatClampNeg)) (sendsC n (ia 0) x y t); rw [hC]; first | rfl | (simp only [gd_0]; split <;> first | rfl | contradiction)) (Nat.le_of_ble_eq_true rfl) (Nat.le_of_ble_eq_true rfl) rfl

theorem c5_head (l : Launch) (E : En) (ad : Nat → Nat) (kp tr : Option Nat) (iv : Nat → Int32) (ia K : Nat → Nat → Int32) (R : Nat → Nat → Int64) (mv : Nat → Int64) (n st : Nat) (hn : iv 10 = nI n) (hst : iv 14 = nI st) (hn7 : n ≤ 7) (hs2 : 2 ≤ st) (hs4 : st ≤ 4) (hh : ∀ q, q < n → ∃ x, x < 24 ∧ ia 11 q = nI x) (hkd : ∀ P, P < 8 → ∃ k, k < 100 ∧ ia 5 P = nI k) (hby : ∀ P, P < 8 → ∃ k, k < 100 ∧ ia 6 P = nI k) : CtI l E yX5_head cX5_head 5 .int 270 0 0 [.ref (ad 45)] (mW E ad kp tr iv ia K R mv) (fun (r : Int32) (u : Int32 × (Nat → Int32) × Int32 × Int32 × (Nat → Int32) × (Nat → Int32) × (Nat → Int32)) => r = gd (headC (ia 0) (ia 5) (ia 6) K (ia 12) (ia 11) n st) ((hdF (ia 0) (ia 5) (ia 6) K (ia 12) (ia 11) n st 8).1) (headC (ia 0) (ia 5) (ia 6) K (ia 12) (ia 11) n st)) (fun (u : Int32 × (Nat → Int32) × Int32 × Int32 × (Nat → Int32) × (Nat → Int32) × (Nat → Int32)) => mW E ad kp tr (va_up (va_up (va_up iv 30 u.1) 33 u.2.2.1) 34 u.2.2.2.1) (va_up (va_up (va_up (va_up (va_up ia 9 (bumpR (ia 9) (headC (ia 0) (ia 5) (ia 6) K (ia 12) (ia 11) n st))) 29 u.2.1) 31 u.2.2.2.2.1) 32 u.2.2.2.2.2.1) 35 u.2.2.2.2.2.2) K R mv) := by
  refine CtI.of (by decide +kernel) (Nat.le_of_ble_eq_true rfl) ?_
  intro pR eR sR mR aR bR tR cR AR ls QR hxR hbR hmlR hts hown hlk hnm hA hK hI hl hret
  have hl : lv_has ls 5 [(0, .ref (ad 45))] := hl
  refine lv_iconst (v := (-1)) hxR hbR dX5_head_0 (by decide) ?_
  refine lv_istore_n (lv' := [(1, .int (-1)), (0, .ref (ad 45))]) hxR hbR dX5_head_1 rfl hl (by decide) rfl (fun ls hl => ?_)
  refine lv_iconst (v := 0) hxR hbR dX5_head_2 (by decide) ?_
  refine lv_istore_n (lv' := [(2, .int 0), (1, .int (-1)), (0, .ref (ad 45))]) hxR hbR dX5_head_3 rfl hl (by decide) rfl (fun ls hl => ?_)
  refine lv_iconst (v := 0) hxR hbR dX5_head_4 (by decide) ?_
  refine lv_istore_n (lv' := [(3, .int 0), (2, .int 0), (1, .int (-1)), (0, .ref (ad 45))]) hxR hbR dX5_head_5 rfl hl (by decide) rfl (fun ls hl => ?_)
  have hI := wI_w (ws' := mW E ad kp tr (va_up iv 30 (iv 30)) ia K R mv) (by rw [va_up_id (f := iv) (k := 30) (v := iv 30) rfl]) hI
  have hI := wI_w (ws' := mW E ad kp tr (va_up (va_up iv 30 (iv 30)) 33 (iv 33)) ia K R mv) (by rw [va_up_id (f := (va_up iv 30 (iv 30))) (k := 33) (v := iv 33) (up_n (by decide) rfl)]) hI
  have hI := wI_w (ws' := mW E ad kp tr (va_up (va_up (va_up iv 30 (iv 30)) 33 (iv 33)) 34 (iv 34)) ia K R mv) (by rw [va_up_id (f := (va_up (va_up iv 30 (iv 30)) 33 (iv 33))) (k := 34) (v := iv 34) (up_n (by decide) (up_n (by decide) rfl))]) hI
  have hI := wI_w (ws' := mW E ad kp tr (va_up (va_up (va_up iv 30 (iv 30)) 33 (iv 33)) 34 (iv 34)) (va_up ia 29 (ia 29)) K R mv) (by rw [va_up_id (f := ia) (k := 29) (v := ia 29) rfl]) hI
  have hI := wI_w (ws' := mW E ad kp tr (va_up (va_up (va_up iv 30 (iv 30)) 33 (iv 33)) 34 (iv 34)) (va_up (va_up ia 29 (ia 29)) 31 (ia 31)) K R mv) (by rw [va_up_id (f := (va_up ia 29 (ia 29))) (k := 31) (v := ia 31) (up_n (by decide) rfl)]) hI
  have hI := wI_w (ws' := mW E ad kp tr (va_up (va_up (va_up iv 30 (iv 30)) 33 (iv 33)) 34 (iv 34)) (va_up (va_up (va_up ia 29 (ia 29)) 31 (ia 31)) 32 (ia 32)) K R mv) (by rw [va_up_id (f := (va_up (va_up ia 29 (ia 29)) 31 (ia 31))) (k := 32) (v := ia 32) (up_n (by decide) (up_n (by decide) rfl))]) hI
  have hI := wI_w (ws' := mW E ad kp tr (va_up (va_up (va_up iv 30 (iv 30)) 33 (iv 33)) 34 (iv 34)) (va_up (va_up (va_up (va_up ia 29 (ia 29)) 31 (ia 31)) 32 (ia 32)) 35 (ia 35)) K R mv) (by rw [va_up_id (f := (va_up (va_up (va_up ia 29 (ia 29)) 31 (ia 31)) 32 (ia 32))) (k := 35) (v := ia 35) (up_n (by decide) (up_n (by decide) (up_n (by decide) rfl)))]) hI
  have lp_6 : ∀ (fu : Nat) (b : Int32) (v : Int32) (s : Nat) (c30 : Int32) (c33 : Int32) (c34 : Int32) (g29 : Nat → Int32) (g31 : Nat → Int32) (g32 : Nat → Int32) (g35 : Nat → Int32), (s ≤ 8) → ((b, v) = (hdF (ia 0) (ia 5) (ia 6) K (ia 12) (ia 11) n st s)) → 8 - s < fu → ∀ (H : Heap) (locs : List Loc), wI E AR sR H locs (mW E ad kp tr (va_up (va_up (va_up iv 30 c30) 33 c33) 34 c34) (va_up (va_up (va_up (va_up ia 29 g29) 31 g31) 32 g32) 35 g35) K R mv) → ∀ ls : Array Slot, lv_has ls 5 [(0, .ref (ad 45)), (1, .int b), (2, .int v), (3, .int (nI s))] → W pR l eR (rmF 270 0 0) sR mR aR bR tR cR H locs 0 0 QR (F0 mR 6 ls []) := by
    intro fu
    induction fu with
    | zero =>
      intro b v s c30 c33 c34 g29 g31 g32 g35 hs8 hb hfu
      exact absurd hfu (Nat.not_lt_zero _)
    | succ fu ih_6 =>
      intro b v s c30 c33 c34 g29 g31 g32 g35 hs8 hb hfu H locs hI ls hl
      refine lv_iload_n hxR hbR dX5_head_6 rfl (lv_at hl 3 rfl) ?_
      refine lv_bipush (v := 8) hxR hbR dX5_head_7 (by decide) ?_
      refine lv_icmp_ge (tgt := 66) hxR hbR dX5_head_9 (by decide) (fun c_9 => ?_) (fun c_9 => ?_)
      · skip
        have c_9 : 8 ≤ s := (n_le (a := 8) (b := s) (by omega) (by omega)).mp c_9
        have hs9 : s = 8 := by omega
        subst hs9
        have hb1 := congrArg Prod.fst hb
        refine lv_iload_n hxR hbR dX5_head_66 rfl (lv_at hl 1 rfl) ?_
        refine lv_iconst (v := (-1)) hxR hbR dX5_head_67 (by decide) ?_
        refine lv_icmp_ne (tgt := 80) hxR hbR dX5_head_68 (by decide) (fun c_68 => ?_) (fun c_68 => ?_)
        · skip
          have i_68 : ¬ (b.toInt = (-1)) := by have zz := mt i_eq.mpr c_68; exact zz
          refine lv_iload_n hxR hbR dX5_head_80 rfl (lv_at hl 1 rfl) ?_
          have hC : headC (ia 0) (ia 5) (ia 6) K (ia 12) (ia 11) n st = 0 := by
            clear hret hI
            unfold headC; rw [← hb1]; exact if_neg c_68
          have eia9 : bumpR (ia 9) (headC (ia 0) (ia 5) (ia 6) K (ia 12) (ia 11) n st) = ia 9 := by rw [hC]; exact bump_0 _
          have hI := wI_w (ws' := mW E ad kp tr (va_up (va_up (va_up iv 30 c30) 33 c33) 34 c34) (va_up (va_up (va_up (va_up (va_up ia 9 (bumpR (ia 9) (headC (ia 0) (ia 5) (ia 6) K (ia 12) (ia 11) n st))) 29 g29) 31 g31) 32 g32) 35 g35) K R mv) (by rw [eia9, va_up_id (f := ia) (k := 9) (v := ia 9) rfl]; try rfl) hI
          exact hret (c30, g29, c33, c34, g31, g32, g35) b _ _ 0 0 _ _ dX5_head_81 hI (by show b = gd (headC (ia 0) (ia 5) (ia 6) K (ia 12) (ia 11) n st) ((hdF (ia 0) (ia 5) (ia 6) K (ia 12) (ia 11) n st 8).1) (headC (ia 0) (ia 5) (ia 6) K (ia 12) (ia 11) n st); rw [hC]; exact hb1) (Nat.le_of_ble_eq_true rfl) (Nat.le_of_ble_eq_true rfl) rfl
        · skip
          have i_68 : b.toInt = (-1) := by have zz := i_eq.mp c_68; exact zz
          refine lv_aload_n hxR hbR dX5_head_71 rfl (lv_at hl 0 rfl) ?_
          refine lv_bipush (v := (-5)) hxR hbR dX5_head_72 (by decide) ?_
          refine kVI (n := 1) (As := [.int (-5)]) (rest := []) (fun w => w) hxR hbR hmlR hts hown hK hA hl.1 isCtx.id hI (c5_refuse l E ad kp tr (va_up (va_up (va_up iv 30 c30) 33 c33) 34 c34) (va_up (va_up (va_up (va_up ia 29 g29) 31 g31) 32 g32) 35 g35) K R mv (-5) 5 (by decide) (by decide)) (lw_V q1624 q1626 qs34 q86 q1627) ⟨rfl, by decide +kernel⟩ 16 5 rfl rfl mW_o rfl (Nat.le_of_ble_eq_true rfl) (Nat.le_of_ble_eq_true rfl) ⟨Nat.le_of_ble_eq_true rfl, Nat.le_of_ble_eq_true rfl⟩ (Nat.le_of_ble_eq_true rfl) dX5_head_74 (fun r_74 u H locs hp hI hz => ?_)
          have hI : wI E AR sR H locs (mW E ad kp tr (va_up (va_up (va_up iv 30 c30) 33 c33) 34 c34) (va_up (va_up (va_up (va_up (va_up ia 29 g29) 31 g31) 32 g32) 35 g35) 9 (va_up ((ia 9)) 5 ((ia 9) 5 + 1))) K R mv) := hI
          have hI := wI_w (ws' := mW E ad kp tr (va_up (va_up (va_up iv 30 c30) 33 c33) 34 c34) (va_up (va_up (va_up (va_up (va_up ia 9 (va_up ((ia 9)) 5 ((ia 9) 5 + 1))) 29 g29) 31 g31) 32 g32) 35 g35) K R mv) (by rw [(show (va_up (va_up (va_up (va_up (va_up ia 9 (va_up ((ia 9)) 5 ((ia 9) 5 + 1))) 29 g29) 31 g31) 32 g32) 35 g35) = (va_up (va_up (va_up (va_up (va_up ia 29 g29) 31 g31) 32 g32) 35 g35) 9 (va_up ((ia 9)) 5 ((ia 9) 5 + 1))) from ((up_s (by decide) (up_s (by decide) (up_s (by decide) (up_s (by decide) rfl))))).symm)]) hI
          have hI : wI E AR sR H locs (mW E ad kp tr (va_up (va_up (va_up iv 30 c30) 33 c33) 34 c34) (va_up (va_up (va_up (va_up (va_up ia 9 (va_up ((ia 9)) 5 ((ia 9) 5 + 1))) 29 g29) 31 g31) 32 g32) 35 g35) K R mv) := hI
          have hp : r_74 = (-5) := hp
          have hr_74 := hp
          subst hr_74
          refine lv_goto (tgt := 81) hxR hbR dX5_head_77 (by decide) ?_
          have hC : headC (ia 0) (ia 5) (ia 6) K (ia 12) (ia 11) n st = (-5) := by
            clear hret hI
            unfold headC; rw [← hb1]; exact if_pos c_68
          have eia9 : bumpR (ia 9) (headC (ia 0) (ia 5) (ia 6) K (ia 12) (ia 11) n st) = va_up ((ia 9)) 5 ((ia 9) 5 + 1) := by rw [hC]; exact bump_5 _
          have hI := wI_w (ws' := mW E ad kp tr (va_up (va_up (va_up iv 30 c30) 33 c33) 34 c34) (va_up (va_up (va_up (va_up (va_up ia 9 (bumpR (ia 9) (headC (ia 0) (ia 5) (ia 6) K (ia 12) (ia 11) n st))) 29 g29) 31 g31) 32 g32) 35 g35) K R mv) (by rw [eia9]; try rfl) hI
          exact hret (c30, g29, c33, c34, g31, g32, g35) (-5) _ _ 0 0 _ _ dX5_head_81 hI (by show (-5) = gd (headC (ia 0) (ia 5) (ia 6) K (ia 12) (ia 11) n st) ((hdF (ia 0) (ia 5) (ia 6) K (ia 12) (ia 11) n st 8).1) (headC (ia 0) (ia 5) (ia 6) K (ia 12) (ia 11) n st); rw [hC]; first | rfl | (simp only [gd_0]; split <;> first | rfl | contradiction)) (Nat.le_of_ble_eq_true rfl) (Nat.le_of_ble_eq_true rfl) rfl
      · skip
        have c_9 : s < 8 := Nat.lt_of_not_le (fun zz => c_9 ((n_le (a := 8) (b := s) (by omega) (by omega)).mpr zz))
        refine lv_aload_n hxR hbR dX5_head_12 rfl (lv_at hl 0 rfl) ?_
        refine r_get hxR hbR hts hown hK hI okX5 (ci := 5) rfl 16 mW_o 0 (by decide) q1478 rfl (v := .ref (ad 0)) rfl dX5_head_13 ?_
        refine lv_iload_n hxR hbR dX5_head_16 rfl (lv_at hl 3 rfl) ?_
        refine r_iald hxR hbR hK hI 17 (n := 8) (J := s) (f := ia 0) (v := (ia 0) s) (mW_g0 (up_n (by decide) (up_n (by decide) (up_n (by decide) (up_n (by decide) rfl))))) (by omega) (by decide) rfl dX5_head_17 ?_
        refine lv_iconst (v := 2) hxR hbR dX5_head_18 (by decide) ?_
        refine lv_icmp_ne (tgt := 60) hxR hbR dX5_head_19 (by decide) (fun c_19 => ?_) (fun c_19 => ?_)
        · skip
          have i_19 : ¬ (((ia 0) s).toInt = 2) := by have zz := mt i_eq.mpr c_19; exact zz
          refine lv_iinc (v := nI (s + 1)) (lv' := [(3, .int (nI (s + 1))), (0, .ref (ad 45)), (1, .int b), (2, .int v)]) hxR hbR dX5_head_60 hl (k := 3) rfl (show nI s + 1 = nI (s + 1) from nI_add _ 1) (by decide) rfl (fun ls hl => ?_)
          refine lv_goto (tgt := 6) hxR hbR dX5_head_63 (by decide) ?_
          exact ih_6 b v (s + 1) c30 c33 c34 g29 g31 g32 g35 (by first | omega | with_reducible assumption) (by first | (rw [hb]; exact (hdF_n1 c_19).symm) | (rw [hV]; exact (hdF_y c_19 (Or.inl (by rw [← hb]; exact c_46)) hkd2 hkd1 hk92 hk91).symm) | (rw [hV] at c_52 ⊢; exact (hdF_y c_19 (Or.inr (by rw [← hb, kdc hkd2 hkd1, kdc hk92 hk91]; exact Int32.not_le.mp c_52)) hkd2 hkd1 hk92 hk91).symm) | (rw [hV] at c_52; rw [hb]; exact (hdF_n2 (by rw [← hb]; exact c_46) (by rw [← hb, kdc hkd2 hkd1, kdc hk92 hk91]; exact c_52)).symm)) (by omega) _ _ hI _ (lv_sub hl [1, 2, 3, 0] rfl)
        · skip
          have i_19 : ((ia 0) s).toInt = 2 := by have zz := i_eq.mp c_19; exact zz
          refine lv_aload_n hxR hbR dX5_head_22 rfl (lv_at hl 0 rfl) ?_
          refine lv_aload_n hxR hbR dX5_head_23 rfl (lv_at hl 0 rfl) ?_
          refine r_get hxR hbR hts hown hK hI okX5 (ci := 5) rfl 16 mW_o 5 (by decide) q1483 rfl (v := .ref (ad 5)) rfl dX5_head_24 ?_
          refine lv_iload_n hxR hbR dX5_head_27 rfl (lv_at hl 3 rfl) ?_
          obtain ⟨kd, hkd1, hkd2⟩ := hkd s (by omega)
          obtain ⟨k9, hk91, hk92⟩ := hby s (by omega)
          refine r_iald hxR hbR hK hI 22 (n := 8) (J := s) (f := ia 5) (v := nI kd) (mW_g5 (up_n (by decide) (up_n (by decide) (up_n (by decide) (up_n (by decide) rfl))))) (by omega) (by decide) hkd2 dX5_head_28 ?_
          refine lv_aload_n hxR hbR dX5_head_29 rfl (lv_at hl 0 rfl) ?_
          refine r_get hxR hbR hts hown hK hI okX5 (ci := 5) rfl 16 mW_o 6 (by decide) q1484 rfl (v := .ref (ad 6)) rfl dX5_head_30 ?_
          refine lv_iload_n hxR hbR dX5_head_33 rfl (lv_at hl 3 rfl) ?_
          refine r_iald hxR hbR hK hI 23 (n := 8) (J := s) (f := ia 6) (v := nI k9) (mW_g6 (up_n (by decide) (up_n (by decide) (up_n (by decide) (up_n (by decide) rfl))))) (by omega) (by decide) hk92 dX5_head_34 ?_
          refine kVV (n := 2) (As := [.int (nI kd), .int (nI k9)]) (rest := []) (fun w => w) hxR hbR hmlR hts hown hK hA hl.1 isCtx.id hI (c5_goesBy l E ad kp tr (va_up (va_up (va_up iv 30 c30) 33 c33) 34 c34) (va_up (va_up (va_up (va_up ia 29 g29) 31 g31) 32 g32) 35 g35) K R mv n st kd k9 (up_n (by decide) (up_n (by decide) (up_n (by decide) hn))) (up_n (by decide) (up_n (by decide) (up_n (by decide) hst))) (by first | omega | with_reducible assumption) (by first | omega | with_reducible assumption) (by first | omega | with_reducible assumption) (by first | omega | with_reducible assumption) (by first | omega | with_reducible assumption) hh) (lw_V q1902 q1904 qs67 q86 q1905) ⟨rfl, by decide +kernel⟩ 16 5 rfl rfl mW_o rfl (Nat.le_of_ble_eq_true rfl) (Nat.le_of_ble_eq_true rfl) ⟨Nat.le_of_ble_eq_true rfl, Nat.le_of_ble_eq_true rfl⟩ (Nat.le_of_ble_eq_true rfl) dX5_head_35 (fun u H locs hp hI hz => ?_)
          obtain ⟨c30_35, g29_35⟩ := u
          have hI : wI E AR sR H locs (mW E ad kp tr (va_up (va_up (va_up (va_up (va_up (va_up iv 30 c30) 33 c33) 34 c34) 30 c30_35) 33 (nI ((dayP K ((ia 12)) ((ia 11)) n st kd k9 (g35) n).1.length))) 34 (nI ((dayP K ((ia 12)) ((ia 11)) n st kd k9 (g35) n).2.1))) (va_up (va_up (va_up (va_up (va_up (va_up (va_up (va_up ia 29 g29) 31 g31) 32 g32) 35 g35) 29 g29_35) 31 (wrL (g31) 0 (comL ((ia 11)) n))) 32 (wrL (g32) 0 (dayP K ((ia 12)) ((ia 11)) n st kd k9 (g35) n).1)) 35 (leaveW ((ia 12)) ((ia 11)) 24 (dayP K ((ia 12)) ((ia 11)) n st kd k9 (g35) n).2.1 n (dayP K ((ia 12)) ((ia 11)) n st kd k9 (g35) n).2.2)) K R mv) := hI
          have hI := wI_w (ws' := mW E ad kp tr (va_up (va_up (va_up iv 30 c30_35) 33 (nI ((dayP K ((ia 12)) ((ia 11)) n st kd k9 (g35) n).1.length))) 34 (nI ((dayP K ((ia 12)) ((ia 11)) n st kd k9 (g35) n).2.1))) (va_up (va_up (va_up (va_up ia 29 g29_35) 31 (wrL (g31) 0 (comL ((ia 11)) n))) 32 (wrL (g32) 0 (dayP K ((ia 12)) ((ia 11)) n st kd k9 (g35) n).1)) 35 (leaveW ((ia 12)) ((ia 11)) 24 (dayP K ((ia 12)) ((ia 11)) n st kd k9 (g35) n).2.1 n (dayP K ((ia 12)) ((ia 11)) n st kd k9 (g35) n).2.2)) K R mv) (by rw [(show (va_up (va_up (va_up iv 30 c30_35) 33 (nI ((dayP K ((ia 12)) ((ia 11)) n st kd k9 (g35) n).1.length))) 34 (nI ((dayP K ((ia 12)) ((ia 11)) n st kd k9 (g35) n).2.1))) = (va_up (va_up (va_up (va_up (va_up (va_up iv 30 c30) 33 c33) 34 c34) 30 c30_35) 33 (nI ((dayP K ((ia 12)) ((ia 11)) n st kd k9 (g35) n).1.length))) 34 (nI ((dayP K ((ia 12)) ((ia 11)) n st kd k9 (g35) n).2.1))) from ((Eq.trans (congrArg (fun z => va_up z 34 (nI ((dayP K ((ia 12)) ((ia 11)) n st kd k9 (g35) n).2.1))) (Eq.trans (congrArg (fun z => va_up z 33 (nI ((dayP K ((ia 12)) ((ia 11)) n st kd k9 (g35) n).1.length))) (up_s (by decide) (up_s (by decide) up_0))) (up_s (by decide) up_0))) up_0)).symm), (show (va_up (va_up (va_up (va_up ia 29 g29_35) 31 (wrL (g31) 0 (comL ((ia 11)) n))) 32 (wrL (g32) 0 (dayP K ((ia 12)) ((ia 11)) n st kd k9 (g35) n).1)) 35 (leaveW ((ia 12)) ((ia 11)) 24 (dayP K ((ia 12)) ((ia 11)) n st kd k9 (g35) n).2.1 n (dayP K ((ia 12)) ((ia 11)) n st kd k9 (g35) n).2.2)) = (va_up (va_up (va_up (va_up (va_up (va_up (va_up (va_up ia 29 g29) 31 g31) 32 g32) 35 g35) 29 g29_35) 31 (wrL (g31) 0 (comL ((ia 11)) n))) 32 (wrL (g32) 0 (dayP K ((ia 12)) ((ia 11)) n st kd k9 (g35) n).1)) 35 (leaveW ((ia 12)) ((ia 11)) 24 (dayP K ((ia 12)) ((ia 11)) n st kd k9 (g35) n).2.1 n (dayP K ((ia 12)) ((ia 11)) n st kd k9 (g35) n).2.2)) from ((Eq.trans (congrArg (fun z => va_up z 35 (leaveW ((ia 12)) ((ia 11)) 24 (dayP K ((ia 12)) ((ia 11)) n st kd k9 (g35) n).2.1 n (dayP K ((ia 12)) ((ia 11)) n st kd k9 (g35) n).2.2)) (Eq.trans (congrArg (fun z => va_up z 32 (wrL (g32) 0 (dayP K ((ia 12)) ((ia 11)) n st kd k9 (g35) n).1)) (Eq.trans (congrArg (fun z => va_up z 31 (wrL (g31) 0 (comL ((ia 11)) n))) (up_s (by decide) (up_s (by decide) (up_s (by decide) up_0)))) (up_s (by decide) (up_s (by decide) up_0)))) (up_s (by decide) up_0))) up_0)).symm)]) hI
          have hI : wI E AR sR H locs (mW E ad kp tr (va_up (va_up (va_up iv 30 c30_35) 33 (nI ((dayP K ((ia 12)) ((ia 11)) n st kd k9 (g35) n).1.length))) 34 (nI ((dayP K ((ia 12)) ((ia 11)) n st kd k9 (g35) n).2.1))) (va_up (va_up (va_up (va_up ia 29 g29_35) 31 (wrL (g31) 0 (comL ((ia 11)) n))) 32 (wrL (g32) 0 (dayP K ((ia 12)) ((ia 11)) n st kd k9 (g35) n).1)) 35 (leaveW ((ia 12)) ((ia 11)) 24 (dayP K ((ia 12)) ((ia 11)) n st kd k9 (g35) n).2.1 n (dayP K ((ia 12)) ((ia 11)) n st kd k9 (g35) n).2.2)) K R mv) := hI
          have hV := dayT_eq (K := K) (cost := ia 12) (hour := ia 11) (n := n) (st := st) (kd := kd) (a := k9) (w := g35) hh
          refine lv_aload_n hxR hbR dX5_head_38 rfl (lv_at hl 0 rfl) ?_
          refine kVI (n := 0) (As := []) (rest := []) (fun w => w) hxR hbR hmlR hts hown hK hA hl.1 isCtx.id hI (c5_waitedAll l E ad kp tr (va_up (va_up (va_up iv 30 c30_35) 33 (nI ((dayP K ((ia 12)) ((ia 11)) n st kd k9 (g35) n).1.length))) 34 (nI ((dayP K ((ia 12)) ((ia 11)) n st kd k9 (g35) n).2.1))) (va_up (va_up (va_up (va_up ia 29 g29_35) 31 (wrL (g31) 0 (comL ((ia 11)) n))) 32 (wrL (g32) 0 (dayP K ((ia 12)) ((ia 11)) n st kd k9 (g35) n).1)) 35 (leaveW ((ia 12)) ((ia 11)) 24 (dayP K ((ia 12)) ((ia 11)) n st kd k9 (g35) n).2.1 n (dayP K ((ia 12)) ((ia 11)) n st kd k9 (g35) n).2.2)) K R mv n (up_n (by decide) (up_n (by decide) (up_n (by decide) hn))) (by first | omega | with_reducible assumption)) (lw_V q1922 q1924 qs69 q86 q1925) ⟨rfl, by decide +kernel⟩ 16 5 rfl rfl mW_o rfl (Nat.le_of_ble_eq_true rfl) (Nat.le_of_ble_eq_true rfl) ⟨Nat.le_of_ble_eq_true rfl, Nat.le_of_ble_eq_true rfl⟩ (Nat.le_of_ble_eq_true rfl) dX5_head_39 (fun r_39 u H locs hp hI hz => ?_)
          have hI : wI E AR sR H locs (mW E ad kp tr (va_up (va_up (va_up iv 30 c30_35) 33 (nI ((dayP K ((ia 12)) ((ia 11)) n st kd k9 (g35) n).1.length))) 34 (nI ((dayP K ((ia 12)) ((ia 11)) n st kd k9 (g35) n).2.1))) (va_up (va_up (va_up (va_up ia 29 g29_35) 31 (wrL (g31) 0 (comL ((ia 11)) n))) 32 (wrL (g32) 0 (dayP K ((ia 12)) ((ia 11)) n st kd k9 (g35) n).1)) 35 (leaveW ((ia 12)) ((ia 11)) 24 (dayP K ((ia 12)) ((ia 11)) n st kd k9 (g35) n).2.1 n (dayP K ((ia 12)) ((ia 11)) n st kd k9 (g35) n).2.2)) K R mv) := hI
          have hp : r_39 = sumA ((leaveW ((ia 12)) ((ia 11)) 24 (dayP K ((ia 12)) ((ia 11)) n st kd k9 (g35) n).2.1 n (dayP K ((ia 12)) ((ia 11)) n st kd k9 (g35) n).2.2)) n := hp
          have hr_39 := hp
          subst hr_39
          refine lv_istore (lv' := [(4, .int (sumA ((leaveW ((ia 12)) ((ia 11)) 24 (dayP K ((ia 12)) ((ia 11)) n st kd k9 (g35) n).2.1 n (dayP K ((ia 12)) ((ia 11)) n st kd k9 (g35) n).2.2)) n)), (0, .ref (ad 45)), (1, .int b), (2, .int v), (3, .int (nI s))]) hxR hbR dX5_head_42 hl (by decide) rfl (fun ls hl => ?_)
          refine lv_iload_n hxR hbR dX5_head_44 rfl (lv_at hl 2 rfl) ?_
          refine lv_iconst (v := (-1)) hxR hbR dX5_head_45 (by decide) ?_
          refine lv_icmp_eq (tgt := 55) hxR hbR dX5_head_46 (by decide) (fun c_46 => ?_) (fun c_46 => ?_)
          · skip
            have i_46 : b.toInt = (-1) := by have zz := i_eq.mp c_46; exact zz
            refine lv_iload_n hxR hbR dX5_head_55 rfl (lv_at hl 4 rfl) ?_
            refine lv_istore_n (lv' := [(1, .int (nI s)), (4, .int (sumA ((leaveW ((ia 12)) ((ia 11)) 24 (dayP K ((ia 12)) ((ia 11)) n st kd k9 (g35) n).2.1 n (dayP K ((ia 12)) ((ia 11)) n st kd k9 (g35) n).2.2)) n)), (0, .ref (ad 45)), (2, .int v), (3, .int (nI s))]) hxR hbR dX5_head_56 rfl hl (by decide) rfl (fun ls hl => ?_)
            refine lv_iload hxR hbR dX5_head_57 (lv_at hl 1 rfl) ?_
            refine lv_istore_n (lv' := [(2, .int (sumA ((leaveW ((ia 12)) ((ia 11)) 24 (dayP K ((ia 12)) ((ia 11)) n st kd k9 (g35) n).2.1 n (dayP K ((ia 12)) ((ia 11)) n st kd k9 (g35) n).2.2)) n)), (1, .int (nI s)), (4, .int (sumA ((leaveW ((ia 12)) ((ia 11)) 24 (dayP K ((ia 12)) ((ia 11)) n st kd k9 (g35) n).2.1 n (dayP K ((ia 12)) ((ia 11)) n st kd k9 (g35) n).2.2)) n)), (0, .ref (ad 45)), (3, .int (nI s))]) hxR hbR dX5_head_59 rfl hl (by decide) rfl (fun ls hl => ?_)
            refine lv_iinc (v := nI (s + 1)) (lv' := [(3, .int (nI (s + 1))), (2, .int (sumA ((leaveW ((ia 12)) ((ia 11)) 24 (dayP K ((ia 12)) ((ia 11)) n st kd k9 (g35) n).2.1 n (dayP K ((ia 12)) ((ia 11)) n st kd k9 (g35) n).2.2)) n)), (1, .int (nI s)), (4, .int (sumA ((leaveW ((ia 12)) ((ia 11)) 24 (dayP K ((ia 12)) ((ia 11)) n st kd k9 (g35) n).2.1 n (dayP K ((ia 12)) ((ia 11)) n st kd k9 (g35) n).2.2)) n)), (0, .ref (ad 45))]) hxR hbR dX5_head_60 hl (k := 4) rfl (show nI s + 1 = nI (s + 1) from nI_add _ 1) (by decide) rfl (fun ls hl => ?_)
            refine lv_goto (tgt := 6) hxR hbR dX5_head_63 (by decide) ?_
            exact ih_6 (nI s) (sumA ((leaveW ((ia 12)) ((ia 11)) 24 (dayP K ((ia 12)) ((ia 11)) n st kd k9 (g35) n).2.1 n (dayP K ((ia 12)) ((ia 11)) n st kd k9 (g35) n).2.2)) n) (s + 1) c30_35 (nI ((dayP K ((ia 12)) ((ia 11)) n st kd k9 (g35) n).1.length)) (nI ((dayP K ((ia 12)) ((ia 11)) n st kd k9 (g35) n).2.1)) g29_35 (wrL (g31) 0 (comL ((ia 11)) n)) (wrL (g32) 0 (dayP K ((ia 12)) ((ia 11)) n st kd k9 (g35) n).1) (leaveW ((ia 12)) ((ia 11)) 24 (dayP K ((ia 12)) ((ia 11)) n st kd k9 (g35) n).2.1 n (dayP K ((ia 12)) ((ia 11)) n st kd k9 (g35) n).2.2) (by first | omega | with_reducible assumption) (by first | (rw [hb]; exact (hdF_n1 c_19).symm) | (rw [hV]; exact (hdF_y c_19 (Or.inl (by rw [← hb]; exact c_46)) hkd2 hkd1 hk92 hk91).symm) | (rw [hV] at c_52 ⊢; exact (hdF_y c_19 (Or.inr (by rw [← hb, kdc hkd2 hkd1, kdc hk92 hk91]; exact Int32.not_le.mp c_52)) hkd2 hkd1 hk92 hk91).symm) | (rw [hV] at c_52; rw [hb]; exact (hdF_n2 (by rw [← hb]; exact c_46) (by rw [← hb, kdc hkd2 hkd1, kdc hk92 hk91]; exact c_52)).symm)) (by omega) _ _ hI _ (lv_sub hl [4, 2, 1, 0] rfl)
          · skip
            have i_46 : ¬ (b.toInt = (-1)) := by have zz := mt i_eq.mpr c_46; exact zz
            refine lv_iload hxR hbR dX5_head_49 (lv_at hl 0 rfl) ?_
            refine lv_iload_n hxR hbR dX5_head_51 rfl (lv_at hl 3 rfl) ?_
            refine lv_icmp_ge (tgt := 60) hxR hbR dX5_head_52 (by decide) (fun c_52 => ?_) (fun c_52 => ?_)
            · skip
              have i_52 : v.toInt ≤ (sumA ((leaveW ((ia 12)) ((ia 11)) 24 (dayP K ((ia 12)) ((ia 11)) n st kd k9 (g35) n).2.1 n (dayP K ((ia 12)) ((ia 11)) n st kd k9 (g35) n).2.2)) n).toInt := by have zz := i_le.mp c_52; exact zz
              refine lv_iinc (v := nI (s + 1)) (lv' := [(3, .int (nI (s + 1))), (4, .int (sumA ((leaveW ((ia 12)) ((ia 11)) 24 (dayP K ((ia 12)) ((ia 11)) n st kd k9 (g35) n).2.1 n (dayP K ((ia 12)) ((ia 11)) n st kd k9 (g35) n).2.2)) n)), (0, .ref (ad 45)), (1, .int b), (2, .int v)]) hxR hbR dX5_head_60 hl (k := 4) rfl (show nI s + 1 = nI (s + 1) from nI_add _ 1) (by decide) rfl (fun ls hl => ?_)
              refine lv_goto (tgt := 6) hxR hbR dX5_head_63 (by decide) ?_
              exact ih_6 b v (s + 1) c30_35 (nI ((dayP K ((ia 12)) ((ia 11)) n st kd k9 (g35) n).1.length)) (nI ((dayP K ((ia 12)) ((ia 11)) n st kd k9 (g35) n).2.1)) g29_35 (wrL (g31) 0 (comL ((ia 11)) n)) (wrL (g32) 0 (dayP K ((ia 12)) ((ia 11)) n st kd k9 (g35) n).1) (leaveW ((ia 12)) ((ia 11)) 24 (dayP K ((ia 12)) ((ia 11)) n st kd k9 (g35) n).2.1 n (dayP K ((ia 12)) ((ia 11)) n st kd k9 (g35) n).2.2) (by first | omega | with_reducible assumption) (by first | (rw [hb]; exact (hdF_n1 c_19).symm) | (rw [hV]; exact (hdF_y c_19 (Or.inl (by rw [← hb]; exact c_46)) hkd2 hkd1 hk92 hk91).symm) | (rw [hV] at c_52 ⊢; exact (hdF_y c_19 (Or.inr (by rw [← hb, kdc hkd2 hkd1, kdc hk92 hk91]; exact Int32.not_le.mp c_52)) hkd2 hkd1 hk92 hk91).symm) | (rw [hV] at c_52; rw [hb]; exact (hdF_n2 (by rw [← hb]; exact c_46) (by rw [← hb, kdc hkd2 hkd1, kdc hk92 hk91]; exact c_52)).symm)) (by omega) _ _ hI _ (lv_sub hl [2, 3, 4, 0] rfl)
            · skip
              have i_52 : ¬ (v.toInt ≤ (sumA ((leaveW ((ia 12)) ((ia 11)) 24 (dayP K ((ia 12)) ((ia 11)) n st kd k9 (g35) n).2.1 n (dayP K ((ia 12)) ((ia 11)) n st kd k9 (g35) n).2.2)) n).toInt) := by have zz := mt i_le.mpr c_52; exact zz
              refine lv_iload_n hxR hbR dX5_head_55 rfl (lv_at hl 4 rfl) ?_
              refine lv_istore_n (lv' := [(1, .int (nI s)), (4, .int (sumA ((leaveW ((ia 12)) ((ia 11)) 24 (dayP K ((ia 12)) ((ia 11)) n st kd k9 (g35) n).2.1 n (dayP K ((ia 12)) ((ia 11)) n st kd k9 (g35) n).2.2)) n)), (0, .ref (ad 45)), (2, .int v), (3, .int (nI s))]) hxR hbR dX5_head_56 rfl hl (by decide) rfl (fun ls hl => ?_)
              refine lv_iload hxR hbR dX5_head_57 (lv_at hl 1 rfl) ?_
              refine lv_istore_n (lv' := [(2, .int (sumA ((leaveW ((ia 12)) ((ia 11)) 24 (dayP K ((ia 12)) ((ia 11)) n st kd k9 (g35) n).2.1 n (dayP K ((ia 12)) ((ia 11)) n st kd k9 (g35) n).2.2)) n)), (1, .int (nI s)), (4, .int (sumA ((leaveW ((ia 12)) ((ia 11)) 24 (dayP K ((ia 12)) ((ia 11)) n st kd k9 (g35) n).2.1 n (dayP K ((ia 12)) ((ia 11)) n st kd k9 (g35) n).2.2)) n)), (0, .ref (ad 45)), (3, .int (nI s))]) hxR hbR dX5_head_59 rfl hl (by decide) rfl (fun ls hl => ?_)
              refine lv_iinc (v := nI (s + 1)) (lv' := [(3, .int (nI (s + 1))), (2, .int (sumA ((leaveW ((ia 12)) ((ia 11)) 24 (dayP K ((ia 12)) ((ia 11)) n st kd k9 (g35) n).2.1 n (dayP K ((ia 12)) ((ia 11)) n st kd k9 (g35) n).2.2)) n)), (1, .int (nI s)), (4, .int (sumA ((leaveW ((ia 12)) ((ia 11)) 24 (dayP K ((ia 12)) ((ia 11)) n st kd k9 (g35) n).2.1 n (dayP K ((ia 12)) ((ia 11)) n st kd k9 (g35) n).2.2)) n)), (0, .ref (ad 45))]) hxR hbR dX5_head_60 hl (k := 4) rfl (show nI s + 1 = nI (s + 1) from nI_add _ 1) (by decide) rfl (fun ls hl => ?_)
              refine lv_goto (tgt := 6) hxR hbR dX5_head_63 (by decide) ?_
              exact ih_6 (nI s) (sumA ((leaveW ((ia 12)) ((ia 11)) 24 (dayP K ((ia 12)) ((ia 11)) n st kd k9 (g35) n).2.1 n (dayP K ((ia 12)) ((ia 11)) n st kd k9 (g35) n).2.2)) n) (s + 1) c30_35 (nI ((dayP K ((ia 12)) ((ia 11)) n st kd k9 (g35) n).1.length)) (nI ((dayP K ((ia 12)) ((ia 11)) n st kd k9 (g35) n).2.1)) g29_35 (wrL (g31) 0 (comL ((ia 11)) n)) (wrL (g32) 0 (dayP K ((ia 12)) ((ia 11)) n st kd k9 (g35) n).1) (leaveW ((ia 12)) ((ia 11)) 24 (dayP K ((ia 12)) ((ia 11)) n st kd k9 (g35) n).2.1 n (dayP K ((ia 12)) ((ia 11)) n st kd k9 (g35) n).2.2) (by first | omega | with_reducible assumption) (by first | (rw [hb]; exact (hdF_n1 c_19).symm) | (rw [hV]; exact (hdF_y c_19 (Or.inl (by rw [← hb]; exact c_46)) hkd2 hkd1 hk92 hk91).symm) | (rw [hV] at c_52 ⊢; exact (hdF_y c_19 (Or.inr (by rw [← hb, kdc hkd2 hkd1, kdc hk92 hk91]; exact Int32.not_le.mp c_52)) hkd2 hkd1 hk92 hk91).symm) | (rw [hV] at c_52; rw [hb]; exact (hdF_n2 (by rw [← hb]; exact c_46) (by rw [← hb, kdc hkd2 hkd1, kdc hk92 hk91]; exact c_52)).symm)) (by omega) _ _ hI _ (lv_sub hl [4, 2, 1, 0] rfl)
  exact lp_6 _ (-1) 0 0 (iv 30) (iv 33) (iv 34) (ia 29) (ia 31) (ia 32) (ia 35) (by first | omega | with_reducible assumption) rfl (Nat.lt_succ_self _) _ _ hI _ (lv_sub hl [3, 2, 1, 0] rfl)

theorem c5_day (l : Launch) (E : En) (ad : Nat → Nat) (kp tr : Option Nat) (iv : Nat → Int32) (ia K : Nat → Nat → Int32) (R : Nat → Nat → Int64) (mv : Nat → Int64) (n st : Nat) (x : Int32) (hn : iv 10 = nI n) (hst : iv 14 = nI st) (hn7 : n ≤ 7) (hs2 : 2 ≤ st) (hs4 : st ≤ 4) (hh : ∀ q, q < n → ∃ x, x < 24 ∧ ia 11 q = nI x) (hkd : ∀ P, P < 8 → ∃ k, k < 100 ∧ ia 5 P = nI k) (hby : ∀ P, P < 8 → ∃ k, k < 100 ∧ ia 6 P = nI k) : CtI l E yX5_day cX5_day 4 .int 270 0 0 [.ref (ad 45), .int x] (mW E ad kp tr iv ia K R mv) (fun (r : Int32) (u : Int32 × (Nat → Int32) × Int32 × Int32 × (Nat → Int32) × (Nat → Int32) × (Nat → Int32)) => r = gd (noManV (ia 0) x) (nI ((dayC K (ia 12) (ia 11) n st (kdV (ia 5) x) (kdV (ia 6) x)).length)) (noManV (ia 0) x)) (fun (u : Int32 × (Nat → Int32) × Int32 × Int32 × (Nat → Int32) × (Nat → Int32) × (Nat → Int32)) => mW E ad kp tr (va_up (va_up (va_up (va_up (va_up iv 16 (gd (noManV (ia 0) x) (iv 16 + nI ((dayC K (ia 12) (ia 11) n st (kdV (ia 5) x) (kdV (ia 6) x)).length)) (iv 16))) 17 (gd (noManV (ia 0) x) (iv 17 + 1) (iv 17))) 30 u.1) 33 u.2.2.1) 34 u.2.2.2.1) (va_up (va_up (va_up (va_up (va_up ia 9 (bumpR (ia 9) (noManV (ia 0) x))) 29 u.2.1) 31 u.2.2.2.2.1) 32 u.2.2.2.2.2.1) 35 u.2.2.2.2.2.2) (gd (noManV (ia 0) x) (meetsK n K (dayC K (ia 12) (ia 11) n st (kdV (ia 5) x) (kdV (ia 6) x))) K) R mv) := by
  refine CtI.of (by decide +kernel) (Nat.le_of_ble_eq_true rfl) ?_
  intro pR eR sR mR aR bR tR cR AR ls QR hxR hbR hmlR hts hown hlk hnm hA hK hI hl hret
  have hl : lv_has ls 4 [(0, .ref (ad 45)), (1, .int x)] := hl
  refine lv_aload_n hxR hbR dX5_day_0 rfl (lv_at hl 0 rfl) ?_
  refine lv_iload_n hxR hbR dX5_day_1 rfl (lv_at hl 1 rfl) ?_
  refine kVI (n := 1) (As := [.int x]) (rest := []) (fun w => w) hxR hbR hmlR hts hown hK hA hl.1 isCtx.id hI (c5_noMan l E ad kp tr iv ia K R mv x ) (lw_V q1894 q1896 qs66 q86 q1897) ⟨rfl, by decide +kernel⟩ 16 5 rfl rfl mW_o rfl (Nat.le_of_ble_eq_true rfl) (Nat.le_of_ble_eq_true rfl) ⟨Nat.le_of_ble_eq_true rfl, Nat.le_of_ble_eq_true rfl⟩ (Nat.le_of_ble_eq_true rfl) dX5_day_2 (fun r_2 u H locs hp hI hz => ?_)
  have hI : wI E AR sR H locs (mW E ad kp tr iv (va_up ia 9 (bumpR (ia 9) (noManV (ia 0) x))) K R mv) := hI
  have hp : r_2 = noManV (ia 0) x := hp
  have hr_2 := hp
  subst hr_2
  refine lv_istore_n (lv' := [(2, .int (noManV (ia 0) x)), (0, .ref (ad 45)), (1, .int x)]) hxR hbR dX5_day_5 rfl hl (by decide) rfl (fun ls hl => ?_)
  refine lv_iload_n hxR hbR dX5_day_6 rfl (lv_at hl 0 rfl) ?_
  refine lv_if_eq (tgt := 12) hxR hbR dX5_day_7 (by decide) (fun c_7 => ?_) (fun c_7 => ?_)
  · skip
    have i_7 : (noManV (ia 0) x).toInt = 0 := by have zz := i_eq.mp c_7; exact zz
    obtain ⟨P, hP, rfl⟩ := nm8 c_7
    have tP : (nI P).toInt = (P : Int) := nI_toInt (by omega)
    have hne := nm_ne hP c_7
    obtain ⟨kd, hkd1, hkd2⟩ := hkd P hP
    obtain ⟨k9, hk91, hk92⟩ := hby P hP
    have hI := wI_w (ws' := mW E ad kp tr iv ia K R mv) (by rw [c_7, bump_0, va_up_id (f := ia) (k := 9) (v := ia 9) rfl]) hI
    refine lv_aload_n hxR hbR dX5_day_12 rfl (lv_at hl 1 rfl) ?_
    refine lv_aload_n hxR hbR dX5_day_13 rfl (lv_at hl 1 rfl) ?_
    refine r_get hxR hbR hts hown hK hI okX5 (ci := 5) rfl 16 mW_o 5 (by decide) q1483 rfl (v := .ref (ad 5)) rfl dX5_day_14 ?_
    refine lv_iload_n hxR hbR dX5_day_17 rfl (lv_at hl 2 rfl) ?_
    refine r_iald hxR hbR hK hI 22 (n := 8) (J := P) (f := ia 5) (v := nI kd) (mW_g5 rfl) (by omega) (by decide) hkd2 dX5_day_18 ?_
    refine lv_aload_n hxR hbR dX5_day_19 rfl (lv_at hl 1 rfl) ?_
    refine r_get hxR hbR hts hown hK hI okX5 (ci := 5) rfl 16 mW_o 6 (by decide) q1484 rfl (v := .ref (ad 6)) rfl dX5_day_20 ?_
    refine lv_iload_n hxR hbR dX5_day_23 rfl (lv_at hl 2 rfl) ?_
    refine r_iald hxR hbR hK hI 23 (n := 8) (J := P) (f := ia 6) (v := nI k9) (mW_g6 rfl) (by omega) (by decide) hk92 dX5_day_24 ?_
    refine kVI (n := 2) (As := [.int (nI kd), .int (nI k9)]) (rest := []) (fun w => w) hxR hbR hmlR hts hown hK hA hl.1 isCtx.id hI (c5_dayOf l E ad kp tr iv ia K R mv n st kd k9 hn hst (by first | omega | with_reducible assumption) (by first | omega | with_reducible assumption) (by first | omega | with_reducible assumption) (by first | omega | with_reducible assumption) (by first | omega | with_reducible assumption) hh) (lw_V q1942 q1944 qs71 q86 q1945) ⟨rfl, by decide +kernel⟩ 16 5 rfl rfl mW_o rfl (Nat.le_of_ble_eq_true rfl) (Nat.le_of_ble_eq_true rfl) ⟨Nat.le_of_ble_eq_true rfl, Nat.le_of_ble_eq_true rfl⟩ (Nat.le_of_ble_eq_true rfl) dX5_day_25 (fun r_25 u H locs hp hI hz => ?_)
    obtain ⟨c30_25, g29_25⟩ := u
    have hI : wI E AR sR H locs (mW E ad kp tr (va_up (va_up (va_up iv 30 c30_25) 33 (nI ((dayP K (ia 12) (ia 11) n st kd k9 (ia 35) n).1.length))) 34 (nI ((dayP K (ia 12) (ia 11) n st kd k9 (ia 35) n).2.1))) (va_up (va_up (va_up (va_up ia 29 g29_25) 31 (wrL (ia 31) 0 (comL (ia 11) n))) 32 (wrL (ia 32) 0 (dayP K (ia 12) (ia 11) n st kd k9 (ia 35) n).1)) 35 (leaveW (ia 12) (ia 11) 24 (dayP K (ia 12) (ia 11) n st kd k9 (ia 35) n).2.1 n (dayP K (ia 12) (ia 11) n st kd k9 (ia 35) n).2.2)) (meetsK n K (dayP K (ia 12) (ia 11) n st kd k9 (ia 35) n).1) R mv) := hI
    have hp : r_25 = nI ((dayP K (ia 12) (ia 11) n st kd k9 (ia 35) n).1.length) := hp
    have hr_25 := hp
    subst hr_25
    refine lv_istore_n (lv' := [(3, .int (nI ((dayP K (ia 12) (ia 11) n st kd k9 (ia 35) n).1.length))), (2, .int (noManV (ia 0) (nI P))), (0, .ref (ad 45)), (1, .int (nI P))]) hxR hbR dX5_day_28 rfl hl (by decide) rfl (fun ls hl => ?_)
    refine lv_aload_n hxR hbR dX5_day_29 rfl (lv_at hl 2 rfl) ?_
    refine lv_dup hxR hbR dX5_day_30 rfl ?_
    refine r_get hxR hbR hts hown hK hI okX5 (ci := 5) rfl 16 mW_o 16 (by decide) q1494 rfl (v := .int (iv 16)) (al (up_n (by decide) (up_n (by decide) (up_n (by decide) rfl)))) dX5_day_31 ?_
    refine lv_iload_n hxR hbR dX5_day_34 rfl (lv_at hl 0 rfl) ?_
    refine lv_iadd hxR hbR dX5_day_35 ?_
    refine r_put (v := .int ((iv 16) + (nI ((dayP K (ia 12) (ia 11) n st kd k9 (ia 35) n).1.length)))) (ws1 := mW E ad kp tr (va_up (va_up (va_up (va_up iv 16 ((iv 16) + (nI ((dayP K (ia 12) (ia 11) n st kd k9 (ia 35) n).1.length)))) 30 c30_25) 33 (nI ((dayP K (ia 12) (ia 11) n st kd k9 (ia 35) n).1.length))) 34 (nI ((dayP K (ia 12) (ia 11) n st kd k9 (ia 35) n).2.1))) (va_up (va_up (va_up (va_up ia 29 g29_25) 31 (wrL (ia 31) 0 (comL (ia 11) n))) 32 (wrL (ia 32) 0 (dayP K (ia 12) (ia 11) n st kd k9 (ia 35) n).1)) 35 (leaveW (ia 12) (ia 11) 24 (dayP K (ia 12) (ia 11) n st kd k9 (ia 35) n).2.1 n (dayP K (ia 12) (ia 11) n st kd k9 (ia 35) n).2.2)) (meetsK n K (dayP K (ia 12) (ia 11) n st kd k9 (ia 35) n).1) R mv) hxR hbR hts hown hK hI okX5 (ci := 5) rfl 16 mW_o 16 (by decide) q1494 rfl rfl rfl rfl (Nat.le_of_ble_eq_true rfl) (Eq.trans mW_i16 (mW_c1 (up_s (by decide) (up_s (by decide) (up_s (by decide) rfl))))) dX5_day_36 (fun H locs hI => ?_)
    refine lv_aload_n hxR hbR dX5_day_39 rfl (lv_at hl 2 rfl) ?_
    refine lv_dup hxR hbR dX5_day_40 rfl ?_
    refine r_get hxR hbR hts hown hK hI okX5 (ci := 5) rfl 16 mW_o 17 (by decide) q1495 rfl (v := .int (iv 17)) (al (up_n (by decide) (up_n (by decide) (up_n (by decide) (up_n (by decide) rfl))))) dX5_day_41 ?_
    refine lv_iconst (v := 1) hxR hbR dX5_day_44 (by decide) ?_
    refine lv_iadd hxR hbR dX5_day_45 ?_
    refine r_put (v := .int ((iv 17) + 1)) (ws1 := mW E ad kp tr (va_up (va_up (va_up (va_up (va_up iv 16 ((iv 16) + (nI ((dayP K (ia 12) (ia 11) n st kd k9 (ia 35) n).1.length)))) 17 ((iv 17) + 1)) 30 c30_25) 33 (nI ((dayP K (ia 12) (ia 11) n st kd k9 (ia 35) n).1.length))) 34 (nI ((dayP K (ia 12) (ia 11) n st kd k9 (ia 35) n).2.1))) (va_up (va_up (va_up (va_up ia 29 g29_25) 31 (wrL (ia 31) 0 (comL (ia 11) n))) 32 (wrL (ia 32) 0 (dayP K (ia 12) (ia 11) n st kd k9 (ia 35) n).1)) 35 (leaveW (ia 12) (ia 11) 24 (dayP K (ia 12) (ia 11) n st kd k9 (ia 35) n).2.1 n (dayP K (ia 12) (ia 11) n st kd k9 (ia 35) n).2.2)) (meetsK n K (dayP K (ia 12) (ia 11) n st kd k9 (ia 35) n).1) R mv) hxR hbR hts hown hK hI okX5 (ci := 5) rfl 16 mW_o 17 (by decide) q1495 rfl rfl rfl rfl (Nat.le_of_ble_eq_true rfl) (Eq.trans mW_i17 (mW_c1 (up_s (by decide) (up_s (by decide) (up_s (by decide) rfl))))) dX5_day_46 (fun H locs hI => ?_)
    refine lv_iload_n hxR hbR dX5_day_49 rfl (lv_at hl 0 rfl) ?_
    have hC : noManV (ia 0) (nI P) = 0 := by
      clear hret hI
      exact c_7
    have eiv16 : gd (noManV (ia 0) (nI P)) (iv 16 + nI ((dayC K (ia 12) (ia 11) n st (kdV (ia 5) (nI P)) (kdV (ia 6) (nI P))).length)) (iv 16) = (iv 16) + (nI ((dayP K (ia 12) (ia 11) n st kd k9 (ia 35) n).1.length)) := by rw [hC, dayC_eq, kdV_n hP hkd2 hkd1, kdV_n hP hk92 hk91]; rfl
    have eiv17 : gd (noManV (ia 0) (nI P)) (iv 17 + 1) (iv 17) = (iv 17) + 1 := by rw [hC]; rfl
    have eia9 : bumpR (ia 9) (noManV (ia 0) (nI P)) = ia 9 := by rw [hC]; exact bump_0 _
    have eK : gd (noManV (ia 0) (nI P)) (meetsK n K (dayC K (ia 12) (ia 11) n st (kdV (ia 5) (nI P)) (kdV (ia 6) (nI P)))) K = meetsK n K (dayP K (ia 12) (ia 11) n st kd k9 (ia 35) n).1 := by rw [hC, dayC_eq, kdV_n hP hkd2 hkd1, kdV_n hP hk92 hk91]; rfl
    have hI := wI_w (ws' := mW E ad kp tr (va_up (va_up (va_up (va_up (va_up iv 16 (gd (noManV (ia 0) (nI P)) (iv 16 + nI ((dayC K (ia 12) (ia 11) n st (kdV (ia 5) (nI P)) (kdV (ia 6) (nI P))).length)) (iv 16))) 17 (gd (noManV (ia 0) (nI P)) (iv 17 + 1) (iv 17))) 30 c30_25) 33 (nI ((dayP K (ia 12) (ia 11) n st kd k9 (ia 35) n).1.length))) 34 (nI ((dayP K (ia 12) (ia 11) n st kd k9 (ia 35) n).2.1))) (va_up (va_up (va_up (va_up (va_up ia 9 (bumpR (ia 9) (noManV (ia 0) (nI P)))) 29 g29_25) 31 (wrL (ia 31) 0 (comL (ia 11) n))) 32 (wrL (ia 32) 0 (dayP K (ia 12) (ia 11) n st kd k9 (ia 35) n).1)) 35 (leaveW (ia 12) (ia 11) 24 (dayP K (ia 12) (ia 11) n st kd k9 (ia 35) n).2.1 n (dayP K (ia 12) (ia 11) n st kd k9 (ia 35) n).2.2)) (gd (noManV (ia 0) (nI P)) (meetsK n K (dayC K (ia 12) (ia 11) n st (kdV (ia 5) (nI P)) (kdV (ia 6) (nI P)))) K) R mv) (by rw [eiv16, eiv17, eia9, eK, va_up_id (f := ia) (k := 9) (v := ia 9) rfl]; try rfl) hI
    obtain ⟨zg2, hzg2⟩ : ∃ z, z = nI ((dayP K (ia 12) (ia 11) n st kd k9 (ia 35) n).1.length) := ⟨_, rfl⟩
    rw [← hzg2] at hI
    obtain ⟨zg3, hzg3⟩ : ∃ z, z = nI ((dayP K (ia 12) (ia 11) n st kd k9 (ia 35) n).2.1) := ⟨_, rfl⟩
    rw [← hzg3] at hI
    obtain ⟨zg4, hzg4⟩ : ∃ z, z = wrL (ia 31) 0 (comL (ia 11) n) := ⟨_, rfl⟩
    rw [← hzg4] at hI
    obtain ⟨zg5, hzg5⟩ : ∃ z, z = wrL (ia 32) 0 (dayP K (ia 12) (ia 11) n st kd k9 (ia 35) n).1 := ⟨_, rfl⟩
    rw [← hzg5] at hI
    obtain ⟨zg6, hzg6⟩ : ∃ z, z = leaveW (ia 12) (ia 11) 24 (dayP K (ia 12) (ia 11) n st kd k9 (ia 35) n).2.1 n (dayP K (ia 12) (ia 11) n st kd k9 (ia 35) n).2.2 := ⟨_, rfl⟩
    rw [← hzg6] at hI
    exact hret (c30_25, g29_25, zg2, zg3, zg4, zg5, zg6) (nI ((dayP K (ia 12) (ia 11) n st kd k9 (ia 35) n).1.length)) _ _ 0 0 _ _ dX5_day_50 hI (by show (nI ((dayP K (ia 12) (ia 11) n st kd k9 (ia 35) n).1.length)) = gd (noManV (ia 0) (nI P)) (nI ((dayC K (ia 12) (ia 11) n st (kdV (ia 5) (nI P)) (kdV (ia 6) (nI P))).length)) (noManV (ia 0) (nI P)); rw [hC, dayC_eq, kdV_n hP hkd2 hkd1, kdV_n hP hk92 hk91]; rfl) (Nat.le_of_ble_eq_true rfl) (Nat.le_of_ble_eq_true rfl) rfl
  · skip
    have i_7 : ¬ ((noManV (ia 0) x).toInt = 0) := by have zz := mt i_eq.mpr c_7; exact zz
    refine lv_iload_n hxR hbR dX5_day_10 rfl (lv_at hl 0 rfl) ?_
    have hC : noManV (ia 0) x = noManV (ia 0) x := by
      clear hret hI
      rfl
    have eiv16 : gd (noManV (ia 0) x) (iv 16 + nI ((dayC K (ia 12) (ia 11) n st (kdV (ia 5) x) (kdV (ia 6) x)).length)) (iv 16) = iv 16 := by rw [hC]; exact gd_n c_7
    have eiv17 : gd (noManV (ia 0) x) (iv 17 + 1) (iv 17) = iv 17 := by rw [hC]; exact gd_n c_7
    have eK : gd (noManV (ia 0) x) (meetsK n K (dayC K (ia 12) (ia 11) n st (kdV (ia 5) x) (kdV (ia 6) x))) K = K := by rw [hC]; exact gd_n c_7
    have hI := wI_w (ws' := mW E ad kp tr (va_up (va_up (va_up (va_up (va_up iv 16 (gd (noManV (ia 0) x) (iv 16 + nI ((dayC K (ia 12) (ia 11) n st (kdV (ia 5) x) (kdV (ia 6) x)).length)) (iv 16))) 17 (gd (noManV (ia 0) x) (iv 17 + 1) (iv 17))) 30 (iv 30)) 33 (iv 33)) 34 (iv 34)) (va_up (va_up (va_up (va_up (va_up ia 9 (bumpR (ia 9) (noManV (ia 0) x))) 29 (ia 29)) 31 (ia 31)) 32 (ia 32)) 35 (ia 35)) (gd (noManV (ia 0) x) (meetsK n K (dayC K (ia 12) (ia 11) n st (kdV (ia 5) x) (kdV (ia 6) x))) K) R mv) (by rw [eiv16, eiv17, eK, va_up_id (f := iv) (k := 16) (v := iv 16) rfl, va_up_id (f := iv) (k := 17) (v := iv 17) rfl, va_up_id (f := iv) (k := 30) (v := iv 30) rfl, va_up_id (f := iv) (k := 33) (v := iv 33) rfl, va_up_id (f := iv) (k := 34) (v := iv 34) rfl, va_up_id (f := (va_up ia 9 (bumpR (ia 9) (noManV (ia 0) x)))) (k := 29) (v := ia 29) (up_n (by decide) rfl), va_up_id (f := (va_up ia 9 (bumpR (ia 9) (noManV (ia 0) x)))) (k := 31) (v := ia 31) (up_n (by decide) rfl), va_up_id (f := (va_up ia 9 (bumpR (ia 9) (noManV (ia 0) x)))) (k := 32) (v := ia 32) (up_n (by decide) rfl), va_up_id (f := (va_up ia 9 (bumpR (ia 9) (noManV (ia 0) x)))) (k := 35) (v := ia 35) (up_n (by decide) rfl)]; try rfl) hI
    exact hret (iv 30, ia 29, iv 33, iv 34, ia 31, ia 32, ia 35) (noManV (ia 0) x) _ _ 0 0 _ _ dX5_day_11 hI (by show (noManV (ia 0) x) = gd (noManV (ia 0) x) (nI ((dayC K (ia 12) (ia 11) n st (kdV (ia 5) x) (kdV (ia 6) x)).length)) (noManV (ia 0) x); rw [hC]; exact (gd_n c_7).symm) (Nat.le_of_ble_eq_true rfl) (Nat.le_of_ble_eq_true rfl) rfl

theorem c5_meet (l : Launch) (E : En) (ad : Nat → Nat) (kp tr : Option Nat) (iv : Nat → Int32) (ia K : Nat → Nat → Int32) (R : Nat → Nat → Int64) (mv : Nat → Int64) (n st : Nat) (x : Int32) (hn : iv 10 = nI n) (hst : iv 14 = nI st) (hn7 : n ≤ 7) (hs2 : 2 ≤ st) (hs4 : st ≤ 4) : CtI l E yX5_meet cX5_meet 2 .int 3 0 0 [.ref (ad 45), .int x] (mW E ad kp tr iv ia K R mv) (fun (r : Int32) (u : Unit) => r = gd (feastC n x) (nI (mC K x.toNatClampNeg n)) (feastC n x)) (fun (u : Unit) => mW E ad kp tr iv (va_up ia 9 (bumpR (ia 9) (feastC n x))) (gd (feastC n x) (meetK K x.toNatClampNeg n) K) R mv) := by
  have h28 : 2 ^ n ≤ 2 ^ 7 := Nat.pow_le_pow_right (by decide) hn7
  refine CtI.of (by decide +kernel) (Nat.le_of_ble_eq_true rfl) ?_
  intro pR eR sR mR aR bR tR cR AR ls QR hxR hbR hmlR hts hown hlk hnm hA hK hI hl hret
  have hl : lv_has ls 2 [(0, .ref (ad 45)), (1, .int x)] := hl
  refine lv_aload_n hxR hbR dX5_meet_0 rfl (lv_at hl 0 rfl) ?_
  refine lv_iload_n hxR hbR dX5_meet_1 rfl (lv_at hl 1 rfl) ?_
  refine kVI (n := 1) (As := [.int x]) (rest := []) (fun w => w) hxR hbR hmlR hts hown hK hA hl.1 isCtx.id hI (c5_isSet l E ad kp tr iv ia K R mv n x hn (by omega)) (lw_V q1862 q1864 qs63 q86 q1865) ⟨rfl, by decide +kernel⟩ 16 5 rfl rfl mW_o rfl (Nat.le_of_ble_eq_true rfl) (Nat.le_of_ble_eq_true rfl) ⟨Nat.le_of_ble_eq_true rfl, Nat.le_of_ble_eq_true rfl⟩ (Nat.le_of_ble_eq_true rfl) dX5_meet_2 (fun r_2 u H locs hp hI hz => ?_)
  have hI : wI E AR sR H locs (mW E ad kp tr iv ia K R mv) := hI
  have hp : r_2 = b2i (decide (0 ≤ x.toInt ∧ x.toInt < ((2 ^ n : Nat) : Int))) := hp
  have hr_2 := hp
  rcases b2i_cases hr_2 with ⟨c_2, rfl⟩ | ⟨c_2, rfl⟩
  · skip
    have c_2 : 0 ≤ x.toInt ∧ x.toInt < ((2 ^ n : Nat) : Int) := of_decide_eq_true c_2
    obtain ⟨P, hP, rfl⟩ := nat_of c_2 (by omega)
    have tP : (nI P).toInt = (P : Int) := nI_toInt (by omega)
    refine lv_if_eq (tgt := 16) hxR hbR dX5_meet_5 (by decide) (fun c => absurd c (by decide)) (fun _ => ?_)
    refine lv_aload_n hxR hbR dX5_meet_8 rfl (lv_at hl 0 rfl) ?_
    refine lv_iload_n hxR hbR dX5_meet_9 rfl (lv_at hl 1 rfl) ?_
    refine kVI (n := 1) (As := [.int (nI P)]) (rest := []) (fun w => w) hxR hbR hmlR hts hown hK hA hl.1 isCtx.id hI (c5_meets l E ad kp tr iv ia K R mv n P hn (by omega) (by omega)) (lw_V q1845 q1847 qs62 q86 q1848) ⟨rfl, by decide +kernel⟩ 16 5 rfl rfl mW_o rfl (Nat.le_of_ble_eq_true rfl) (Nat.le_of_ble_eq_true rfl) ⟨Nat.le_of_ble_eq_true rfl, Nat.le_of_ble_eq_true rfl⟩ (Nat.le_of_ble_eq_true rfl) dX5_meet_10 (fun r_10 u H locs hp hI hz => ?_)
    have hI : wI E AR sR H locs (mW E ad kp tr iv ia (meetK K P n) R mv) := hI
    have hp : r_10 = nI (mC K P n) := hp
    have hr_10 := hp
    subst hr_10
    refine lv_goto (tgt := 22) hxR hbR dX5_meet_13 (by decide) ?_
    have hC : feastC n (nI P) = 0 := by
      clear hret hI
      unfold feastC
      try simp only [nI_clamp (n := P) (by omega)]
      repeat' split
      all_goals first | rfl | (exfalso; omega) | contradiction | (exfalso; simp_all; done) | simp_all
    have eia9 : bumpR (ia 9) (feastC n (nI P)) = ia 9 := by rw [hC]; exact bump_0 _
    have eK : gd (feastC n (nI P)) (meetK K (nI P).toNatClampNeg n) K = meetK K P n := by rw [hC]; first | rfl | (simp only [nI_clamp (n := P) (by omega)]; rfl) | (simp only [gd_0, nI_clamp (n := P) (by omega)]; split <;> first | rfl | contradiction)
    have hI := wI_w (ws' := mW E ad kp tr iv (va_up ia 9 (bumpR (ia 9) (feastC n (nI P)))) (gd (feastC n (nI P)) (meetK K (nI P).toNatClampNeg n) K) R mv) (by rw [eia9, eK, va_up_id (f := ia) (k := 9) (v := ia 9) rfl]; try rfl) hI
    exact hret () (nI (mC K P n)) _ _ 0 0 _ _ dX5_meet_22 hI (by show (nI (mC K P n)) = gd (feastC n (nI P)) (nI (mC K (nI P).toNatClampNeg n)) (feastC n (nI P)); rw [hC]; first | rfl | (simp only [nI_clamp (n := P) (by omega)]; rfl) | (simp only [gd_0, nI_clamp (n := P) (by omega)]; split <;> first | rfl | contradiction)) (Nat.le_of_ble_eq_true rfl) (Nat.le_of_ble_eq_true rfl) rfl
  · skip
    have c_2 : ¬ (0 ≤ x.toInt ∧ x.toInt < ((2 ^ n : Nat) : Int)) := of_decide_eq_false c_2
    refine lv_if_eq (tgt := 16) hxR hbR dX5_meet_5 (by decide) (fun _ => ?_) (fun c => absurd c (by decide))
    refine lv_aload_n hxR hbR dX5_meet_16 rfl (lv_at hl 0 rfl) ?_
    refine lv_bipush (v := (-2)) hxR hbR dX5_meet_17 (by decide) ?_
    refine kVI (n := 1) (As := [.int (-2)]) (rest := []) (fun w => w) hxR hbR hmlR hts hown hK hA hl.1 isCtx.id hI (c5_refuse l E ad kp tr iv ia K R mv (-2) 2 (by decide) (by decide)) (lw_V q1624 q1626 qs34 q86 q1627) ⟨rfl, by decide +kernel⟩ 16 5 rfl rfl mW_o rfl (Nat.le_of_ble_eq_true rfl) (Nat.le_of_ble_eq_true rfl) ⟨Nat.le_of_ble_eq_true rfl, Nat.le_of_ble_eq_true rfl⟩ (Nat.le_of_ble_eq_true rfl) dX5_meet_19 (fun r_19 u H locs hp hI hz => ?_)
    have hI : wI E AR sR H locs (mW E ad kp tr iv (va_up ia 9 (va_up (ia 9) 2 (ia 9 2 + 1))) K R mv) := hI
    have hp : r_19 = (-2) := hp
    have hr_19 := hp
    subst hr_19
    have hC : feastC n x = (-2) := by
      clear hret hI
      unfold feastC
      repeat' split
      all_goals first | rfl | (exfalso; omega) | contradiction | (exfalso; simp_all; done) | simp_all
    have eia9 : bumpR (ia 9) (feastC n x) = va_up (ia 9) 2 (ia 9 2 + 1) := by rw [hC]; exact bump_2 _
    have eK : gd (feastC n x) (meetK K x.toNatClampNeg n) K = K := by rw [hC]; first | rfl | (simp only [gd_0]; split <;> first | rfl | contradiction)
    have hI := wI_w (ws' := mW E ad kp tr iv (va_up ia 9 (bumpR (ia 9) (feastC n x))) (gd (feastC n x) (meetK K x.toNatClampNeg n) K) R mv) (by rw [eia9, eK]; try rfl) hI
    exact hret () (-2) _ _ 0 0 _ _ dX5_meet_22 hI (by show (-2) = gd (feastC n x) (nI (mC K x.toNatClampNeg n)) (feastC n x); rw [hC]; first | rfl | (simp only [gd_0]; split <;> first | rfl | contradiction)) (Nat.le_of_ble_eq_true rfl) (Nat.le_of_ble_eq_true rfl) rfl

theorem c5_year (l : Launch) (E : En) (ad : Nat → Nat) (kp tr : Option Nat) (iv : Nat → Int32) (ia K : Nat → Nat → Int32) (R : Nat → Nat → Int64) (mv : Nat → Int64) (n : Nat) (hn : iv 10 = nI n) (hn7 : n ≤ 7) : CtI l E yX5_year cX5_year 6 .int 2 0 0 [.ref (ad 45)] (mW E ad kp tr iv ia K R mv) (fun (r : Int32) (u : Unit) => r = nI (yC K (iv 15) n)) (fun (u : Unit) => mW E ad kp tr (va_up iv 18 (iv 18 + 1)) ia (yearK K (iv 15) n) R mv) := by
  refine CtI.of (by decide +kernel) (Nat.le_of_ble_eq_true rfl) ?_
  intro pR eR sR mR aR bR tR cR AR ls QR hxR hbR hmlR hts hown hlk hnm hA hK hI hl hret
  have hl : lv_has ls 6 [(0, .ref (ad 45))] := hl
  refine lv_iconst (v := 0) hxR hbR dX5_year_0 (by decide) ?_
  refine lv_istore_n (lv' := [(1, .int 0), (0, .ref (ad 45))]) hxR hbR dX5_year_1 rfl hl (by decide) rfl (fun ls hl => ?_)
  refine lv_iconst (v := 0) hxR hbR dX5_year_2 (by decide) ?_
  refine lv_istore_n (lv' := [(2, .int 0), (1, .int 0), (0, .ref (ad 45))]) hxR hbR dX5_year_3 rfl hl (by decide) rfl (fun ls hl => ?_)
  have lp_4 : ∀ (fu : Nat) (a : Nat) (i : Nat) (Kx : Nat → Nat → Int32), (i ≤ n) → (a = yC K (iv 15) i) → (Kx = upS K (yearG K (iv 15)) i 0) → n - i < fu → ∀ (H : Heap) (locs : List Loc), wI E AR sR H locs (mW E ad kp tr iv ia Kx R mv) → ∀ ls : Array Slot, lv_has ls 6 [(0, .ref (ad 45)), (1, .int (nI a)), (2, .int (nI i))] → W pR l eR (rmF 2 0 0) sR mR aR bR tR cR H locs 0 0 QR (F0 mR 4 ls []) := by
    intro fu
    induction fu with
    | zero =>
      intro a i Kx hi ha hKx hfu
      exact absurd hfu (Nat.not_lt_zero _)
    | succ fu ih_4 =>
      intro a i Kx hi ha hKx hfu H locs hI ls hl
      refine lv_iload_n hxR hbR dX5_year_4 rfl (lv_at hl 2 rfl) ?_
      refine lv_aload_n hxR hbR dX5_year_5 rfl (lv_at hl 0 rfl) ?_
      refine r_get hxR hbR hts hown hK hI okX5 (ci := 5) rfl 16 mW_o 10 (by decide) q1488 rfl (v := .int (nI n)) (al hn) dX5_year_6 ?_
      refine lv_icmp_ge (tgt := 118) hxR hbR dX5_year_9 (by decide) (fun c_9 => ?_) (fun c_9 => ?_)
      · skip
        have c_9 : n ≤ i := (n_le (a := n) (b := i) (by omega) (by omega)).mp c_9
        refine lv_aload_n hxR hbR dX5_year_118 rfl (lv_at hl 0 rfl) ?_
        refine lv_dup hxR hbR dX5_year_119 rfl ?_
        refine r_get hxR hbR hts hown hK hI okX5 (ci := 5) rfl 16 mW_o 18 (by decide) q1496 rfl (v := .int (iv 18)) (al rfl) dX5_year_120 ?_
        refine lv_iconst (v := 1) hxR hbR dX5_year_123 (by decide) ?_
        refine lv_iadd hxR hbR dX5_year_124 ?_
        refine r_put (v := .int ((iv 18) + 1)) (ws1 := mW E ad kp tr (va_up iv 18 ((iv 18) + 1)) ia Kx R mv) hxR hbR hts hown hK hI okX5 (ci := 5) rfl 16 mW_o 18 (by decide) q1496 rfl rfl rfl rfl (Nat.le_of_ble_eq_true rfl) mW_i18 dX5_year_125 (fun H locs hI => ?_)
        refine lv_iload_n hxR hbR dX5_year_128 rfl (lv_at hl 1 rfl) ?_
        have hin : i = n := by omega
        rw [hin] at hKx ha
        have hI : wI E AR sR H locs (mW E ad kp tr (va_up iv 18 (iv 18 + 1)) ia (yearK K (iv 15) n) R mv) := by rw [yearK, ← hKx]; exact hI
        exact hret () (nI a) _ _ _ _ _ _ dX5_year_129 hI (by show (nI a) = nI (yC K (iv 15) n); rw [ha]) (Nat.le_of_ble_eq_true rfl) (Nat.le_of_ble_eq_true rfl) rfl
      · skip
        have c_9 : i < n := Nat.lt_of_not_le (fun zz => c_9 ((n_le (a := n) (b := i) (by omega) (by omega)).mpr zz))
        refine lv_iconst (v := 0) hxR hbR dX5_year_12 (by decide) ?_
        refine lv_istore_n (lv' := [(3, .int 0), (0, .ref (ad 45)), (1, .int (nI a)), (2, .int (nI i))]) hxR hbR dX5_year_13 rfl hl (by decide) rfl (fun ls hl => ?_)
        have lp_14 : ∀ (fu : Nat) (b : Nat) (j : Nat) (Ky : Nat → Nat → Int32), (j ≤ i) → (b = yC K (iv 15) i + yC1 K (iv 15) i j) → (Ky = upS K (yearG K (iv 15)) i j) → i - j < fu → ∀ (H : Heap) (locs : List Loc), wI E AR sR H locs (mW E ad kp tr iv ia Ky R mv) → ∀ ls : Array Slot, lv_has ls 6 [(0, .ref (ad 45)), (1, .int (nI b)), (2, .int (nI i)), (3, .int (nI j))] → W pR l eR (rmF 2 0 0) sR mR aR bR tR cR H locs 0 0 QR (F0 mR 14 ls []) := by
          intro fu
          induction fu with
          | zero =>
            intro b j Ky hj hb hKy hfu
            exact absurd hfu (Nat.not_lt_zero _)
          | succ fu ih_14 =>
            intro b j Ky hj hb hKy hfu H locs hI ls hl
            refine lv_iload_n hxR hbR dX5_year_14 rfl (lv_at hl 3 rfl) ?_
            refine lv_iload_n hxR hbR dX5_year_15 rfl (lv_at hl 2 rfl) ?_
            refine lv_icmp_ge (tgt := 112) hxR hbR dX5_year_16 (by decide) (fun c_16 => ?_) (fun c_16 => ?_)
            · skip
              have c_16 : i ≤ j := (n_le (a := i) (b := j) (by omega) (by omega)).mp c_16
              refine lv_iinc (v := nI (i + 1)) (lv' := [(2, .int (nI (i + 1))), (0, .ref (ad 45)), (1, .int (nI b)), (3, .int (nI j))]) hxR hbR dX5_year_112 hl (k := 2) rfl (show nI i + 1 = nI (i + 1) from nI_add _ 1) (by decide) rfl (fun ls hl => ?_)
              refine lv_goto (tgt := 4) hxR hbR dX5_year_115 (by decide) ?_
              exact ih_4 b (i + 1) Ky (by first | omega | with_reducible assumption) (by rw [hb, show j = i by omega]; rfl) (by rw [hKy, show j = i by omega, upS_row]) (by omega) _ _ hI _ (lv_sub hl [1, 2, 0] rfl)
            · skip
              have c_16 : j < i := Nat.lt_of_not_le (fun zz => c_16 ((n_le (a := i) (b := j) (by omega) (by omega)).mpr zz))
              refine lv_aload_n hxR hbR dX5_year_19 rfl (lv_at hl 0 rfl) ?_
              refine r_get hxR hbR hts hown hK hI okX5 (ci := 5) rfl 16 mW_o 13 (by decide) q1491 rfl (v := .ref (ad 13)) rfl dX5_year_20 ?_
              refine lv_iload_n hxR hbR dX5_year_23 rfl (lv_at hl 2 rfl) ?_
              refine r_aald hxR hbR hK hI 28 2 (r := ad (50 + i)) rfl rfl (n := 8) (J := i) rfl (by omega) (by decide) rfl dX5_year_24 ?_
              refine lv_iload_n hxR hbR dX5_year_25 rfl (lv_at hl 3 rfl) ?_
              refine r_iald hxR hbR hK hI i (n := 8) (J := j) (f := Ky i) (v := K i j) (mW_K i (by omega)) (by omega) (by decide) (by rw [hKy]; exact upS_at c_16) dX5_year_26 ?_
              refine lv_istore (lv' := [(4, .int (K i j)), (0, .ref (ad 45)), (1, .int (nI b)), (2, .int (nI i)), (3, .int (nI j))]) hxR hbR dX5_year_27 hl (by decide) rfl (fun ls hl => ?_)
              refine lv_iload hxR hbR dX5_year_29 (lv_at hl 0 rfl) ?_
              refine lv_iconst (v := (-1)) hxR hbR dX5_year_31 (by decide) ?_
              refine lv_icmp_eq (tgt := 106) hxR hbR dX5_year_32 (by decide) (fun c_32 => ?_) (fun c_32 => ?_)
              · skip
                refine lv_iinc (v := nI (j + 1)) (lv' := [(3, .int (nI (j + 1))), (4, .int (K i j)), (0, .ref (ad 45)), (1, .int (nI b)), (2, .int (nI i))]) hxR hbR dX5_year_106 hl (k := 4) rfl (show nI j + 1 = nI (j + 1) from nI_add _ 1) (by decide) rfl (fun ls hl => ?_)
                refine lv_goto (tgt := 14) hxR hbR dX5_year_109 (by decide) ?_
                exact ih_14 b (j + 1) Ky (by first | omega | with_reducible assumption) (by rw [hb]; first | rw [yC1_n1 c_32] | (rw [yC1_y c_32 hg]; try rfl) | (rw [yC1_n2 hg]; try rfl)) (by rw [hKy]; first | exact (upS_none (yearG_n c_32)).symm | exact (upS_some c_16 (yearG_y c_32 hg)).symm | exact (upS_some c_16 (yearG_y2 c_32 hg)).symm) (by omega) _ _ hI _ (lv_sub hl [2, 3, 4, 0] rfl)
              · skip
                refine lv_iload hxR hbR dX5_year_35 (lv_at hl 0 rfl) ?_
                refine lv_bipush (v := 99) hxR hbR dX5_year_37 (by decide) ?_
                refine lv_icmp_ge (tgt := 49) hxR hbR dX5_year_39 (by decide) (fun c_39 => ?_) (fun c_39 => ?_)
                · skip
                  refine lv_bipush (v := 99) hxR hbR dX5_year_49 (by decide) ?_
                  refine lv_as (y := yrV (K i j)) (if_neg (Int32.not_lt.mpr c_39)).symm ?_
                  refine lv_istore (lv' := [(4, .int (yrV (K i j))), (0, .ref (ad 45)), (1, .int (nI b)), (2, .int (nI i)), (3, .int (nI j))]) hxR hbR dX5_year_51 hl (by decide) rfl (fun ls hl => ?_)
                  refine lv_aload_n hxR hbR dX5_year_53 rfl (lv_at hl 1 rfl) ?_
                  refine r_get hxR hbR hts hown hK hI okX5 (ci := 5) rfl 16 mW_o 15 (by decide) q1493 rfl (v := .int (iv 15)) (al rfl) dX5_year_54 ?_
                  refine lv_if_eq (tgt := 73) hxR hbR dX5_year_57 (by decide) (fun c_57 => ?_) (fun c_57 => ?_)
                  · skip
                    have hg : yrG (iv 15) (K i j) = false := by first | exact decide_eq_false (fun z => z.1 c_57) | exact decide_eq_false (fun z => absurd z.2 (Int32.not_lt.mpr c_66))
                    refine lv_iconst (v := 0) hxR hbR dX5_year_73 (by decide) ?_
                    refine lv_istore (lv' := [(5, .int 0), (4, .int (yrV (K i j))), (0, .ref (ad 45)), (1, .int (nI b)), (2, .int (nI i)), (3, .int (nI j))]) hxR hbR dX5_year_74 hl (by decide) rfl (fun ls hl => ?_)
                    refine lv_iload_n hxR hbR dX5_year_76 rfl (lv_at hl 3 rfl) ?_
                    refine lv_iload hxR hbR dX5_year_77 (lv_at hl 0 rfl) ?_
                    refine lv_if_eq (tgt := 86) hxR hbR dX5_year_79 (by decide) (fun _ => ?_) (fun c => absurd c (by decide))
                    refine lv_iconst (v := 0) hxR hbR dX5_year_86 (by decide) ?_
                    refine lv_iadd hxR hbR dX5_year_87 ?_
                    refine lv_as (y := nI b) (nI_add b 0) ?_
                    refine lv_istore_n (lv' := [(1, .int (nI b)), (5, .int 0), (4, .int (yrV (K i j))), (0, .ref (ad 45)), (2, .int (nI i)), (3, .int (nI j))]) hxR hbR dX5_year_88 rfl hl (by decide) rfl (fun ls hl => ?_)
                    refine lv_aload_n hxR hbR dX5_year_89 rfl (lv_at hl 3 rfl) ?_
                    refine lv_iload_n hxR hbR dX5_year_90 rfl (lv_at hl 4 rfl) ?_
                    refine lv_iload_n hxR hbR dX5_year_91 rfl (lv_at hl 5 rfl) ?_
                    refine lv_iload hxR hbR dX5_year_92 (lv_at hl 1 rfl) ?_
                    refine lv_if_eq (tgt := 101) hxR hbR dX5_year_94 (by decide) (fun _ => ?_) (fun c => absurd c (by decide))
                    refine lv_iload hxR hbR dX5_year_101 (lv_at hl 2 rfl) ?_
                    refine kVV (n := 3) (As := [.int (nI i), .int (nI j), .int (yrV (K i j))]) (rest := []) (fun w => w) hxR hbR hmlR hts hown hK hA hl.1 isCtx.id hI (c5_knows l E ad kp tr iv ia Ky R mv i j (yrV (K i j)) (by first | omega | with_reducible assumption) (by first | omega | with_reducible assumption)) (lw_V q1737 q1739 qs49 q86 q1740) ⟨rfl, by decide +kernel⟩ 16 5 rfl rfl mW_o rfl (Nat.le_of_ble_eq_true rfl) (Nat.le_of_ble_eq_true rfl) ⟨Nat.le_of_ble_eq_true rfl, Nat.le_of_ble_eq_true rfl⟩ (Nat.le_of_ble_eq_true rfl) dX5_year_103 (fun u H locs hp hI hz => ?_)
                    have hI : wI E AR sR H locs (mW E ad kp tr iv ia (knF Ky i j (yrV (K i j))) R mv) := hI
                    refine lv_iinc (v := nI (j + 1)) (lv' := [(3, .int (nI (j + 1))), (1, .int (nI b)), (5, .int 0), (4, .int (yrV (K i j))), (0, .ref (ad 45)), (2, .int (nI i))]) hxR hbR dX5_year_106 hl (k := 5) rfl (show nI j + 1 = nI (j + 1) from nI_add _ 1) (by decide) rfl (fun ls hl => ?_)
                    refine lv_goto (tgt := 14) hxR hbR dX5_year_109 (by decide) ?_
                    exact ih_14 b (j + 1) (knF Ky i j (yrV (K i j))) (by first | omega | with_reducible assumption) (by rw [hb]; first | rw [yC1_n1 c_32] | (rw [yC1_y c_32 hg]; try rfl) | (rw [yC1_n2 hg]; try rfl)) (by rw [hKy]; first | exact (upS_none (yearG_n c_32)).symm | exact (upS_some c_16 (yearG_y c_32 hg)).symm | exact (upS_some c_16 (yearG_y2 c_32 hg)).symm) (by omega) _ _ hI _ (lv_sub hl [4, 1, 5, 0] rfl)
                  · skip
                    refine lv_iload hxR hbR dX5_year_60 (lv_at hl 0 rfl) ?_
                    refine lv_aload_n hxR hbR dX5_year_62 rfl (lv_at hl 1 rfl) ?_
                    refine r_get hxR hbR hts hown hK hI okX5 (ci := 5) rfl 16 mW_o 15 (by decide) q1493 rfl (v := .int (iv 15)) (al rfl) dX5_year_63 ?_
                    refine lv_icmp_le (tgt := 73) hxR hbR dX5_year_66 (by decide) (fun c_66 => ?_) (fun c_66 => ?_)
                    · skip
                      have hg : yrG (iv 15) (K i j) = false := by first | exact decide_eq_false (fun z => z.1 c_57) | exact decide_eq_false (fun z => absurd z.2 (Int32.not_lt.mpr c_66))
                      refine lv_iconst (v := 0) hxR hbR dX5_year_73 (by decide) ?_
                      refine lv_istore (lv' := [(5, .int 0), (4, .int (yrV (K i j))), (0, .ref (ad 45)), (1, .int (nI b)), (2, .int (nI i)), (3, .int (nI j))]) hxR hbR dX5_year_74 hl (by decide) rfl (fun ls hl => ?_)
                      refine lv_iload_n hxR hbR dX5_year_76 rfl (lv_at hl 3 rfl) ?_
                      refine lv_iload hxR hbR dX5_year_77 (lv_at hl 0 rfl) ?_
                      refine lv_if_eq (tgt := 86) hxR hbR dX5_year_79 (by decide) (fun _ => ?_) (fun c => absurd c (by decide))
                      refine lv_iconst (v := 0) hxR hbR dX5_year_86 (by decide) ?_
                      refine lv_iadd hxR hbR dX5_year_87 ?_
                      refine lv_as (y := nI b) (nI_add b 0) ?_
                      refine lv_istore_n (lv' := [(1, .int (nI b)), (5, .int 0), (4, .int (yrV (K i j))), (0, .ref (ad 45)), (2, .int (nI i)), (3, .int (nI j))]) hxR hbR dX5_year_88 rfl hl (by decide) rfl (fun ls hl => ?_)
                      refine lv_aload_n hxR hbR dX5_year_89 rfl (lv_at hl 3 rfl) ?_
                      refine lv_iload_n hxR hbR dX5_year_90 rfl (lv_at hl 4 rfl) ?_
                      refine lv_iload_n hxR hbR dX5_year_91 rfl (lv_at hl 5 rfl) ?_
                      refine lv_iload hxR hbR dX5_year_92 (lv_at hl 1 rfl) ?_
                      refine lv_if_eq (tgt := 101) hxR hbR dX5_year_94 (by decide) (fun _ => ?_) (fun c => absurd c (by decide))
                      refine lv_iload hxR hbR dX5_year_101 (lv_at hl 2 rfl) ?_
                      refine kVV (n := 3) (As := [.int (nI i), .int (nI j), .int (yrV (K i j))]) (rest := []) (fun w => w) hxR hbR hmlR hts hown hK hA hl.1 isCtx.id hI (c5_knows l E ad kp tr iv ia Ky R mv i j (yrV (K i j)) (by first | omega | with_reducible assumption) (by first | omega | with_reducible assumption)) (lw_V q1737 q1739 qs49 q86 q1740) ⟨rfl, by decide +kernel⟩ 16 5 rfl rfl mW_o rfl (Nat.le_of_ble_eq_true rfl) (Nat.le_of_ble_eq_true rfl) ⟨Nat.le_of_ble_eq_true rfl, Nat.le_of_ble_eq_true rfl⟩ (Nat.le_of_ble_eq_true rfl) dX5_year_103 (fun u H locs hp hI hz => ?_)
                      have hI : wI E AR sR H locs (mW E ad kp tr iv ia (knF Ky i j (yrV (K i j))) R mv) := hI
                      refine lv_iinc (v := nI (j + 1)) (lv' := [(3, .int (nI (j + 1))), (1, .int (nI b)), (5, .int 0), (4, .int (yrV (K i j))), (0, .ref (ad 45)), (2, .int (nI i))]) hxR hbR dX5_year_106 hl (k := 5) rfl (show nI j + 1 = nI (j + 1) from nI_add _ 1) (by decide) rfl (fun ls hl => ?_)
                      refine lv_goto (tgt := 14) hxR hbR dX5_year_109 (by decide) ?_
                      exact ih_14 b (j + 1) (knF Ky i j (yrV (K i j))) (by first | omega | with_reducible assumption) (by rw [hb]; first | rw [yC1_n1 c_32] | (rw [yC1_y c_32 hg]; try rfl) | (rw [yC1_n2 hg]; try rfl)) (by rw [hKy]; first | exact (upS_none (yearG_n c_32)).symm | exact (upS_some c_16 (yearG_y c_32 hg)).symm | exact (upS_some c_16 (yearG_y2 c_32 hg)).symm) (by omega) _ _ hI _ (lv_sub hl [4, 1, 5, 0] rfl)
                    · skip
                      have hg : yrG (iv 15) (K i j) = true := decide_eq_true ⟨c_57, Int32.not_le.mp c_66⟩
                      refine lv_iconst (v := 1) hxR hbR dX5_year_69 (by decide) ?_
                      refine lv_goto (tgt := 74) hxR hbR dX5_year_70 (by decide) ?_
                      refine lv_istore (lv' := [(5, .int 1), (4, .int (yrV (K i j))), (0, .ref (ad 45)), (1, .int (nI b)), (2, .int (nI i)), (3, .int (nI j))]) hxR hbR dX5_year_74 hl (by decide) rfl (fun ls hl => ?_)
                      refine lv_iload_n hxR hbR dX5_year_76 rfl (lv_at hl 3 rfl) ?_
                      refine lv_iload hxR hbR dX5_year_77 (lv_at hl 0 rfl) ?_
                      refine lv_if_eq (tgt := 86) hxR hbR dX5_year_79 (by decide) (fun c => absurd c (by decide)) (fun _ => ?_)
                      refine lv_iconst (v := 1) hxR hbR dX5_year_82 (by decide) ?_
                      refine lv_goto (tgt := 87) hxR hbR dX5_year_83 (by decide) ?_
                      refine lv_iadd hxR hbR dX5_year_87 ?_
                      refine lv_as (y := nI (b + 1)) (nI_add b 1) ?_
                      refine lv_istore_n (lv' := [(1, .int (nI (b + 1))), (5, .int 1), (4, .int (yrV (K i j))), (0, .ref (ad 45)), (2, .int (nI i)), (3, .int (nI j))]) hxR hbR dX5_year_88 rfl hl (by decide) rfl (fun ls hl => ?_)
                      refine lv_aload_n hxR hbR dX5_year_89 rfl (lv_at hl 3 rfl) ?_
                      refine lv_iload_n hxR hbR dX5_year_90 rfl (lv_at hl 4 rfl) ?_
                      refine lv_iload_n hxR hbR dX5_year_91 rfl (lv_at hl 5 rfl) ?_
                      refine lv_iload hxR hbR dX5_year_92 (lv_at hl 1 rfl) ?_
                      refine lv_if_eq (tgt := 101) hxR hbR dX5_year_94 (by decide) (fun c => absurd c (by decide)) (fun _ => ?_)
                      refine lv_iconst (v := (-1)) hxR hbR dX5_year_97 (by decide) ?_
                      refine lv_goto (tgt := 103) hxR hbR dX5_year_98 (by decide) ?_
                      refine kVV (n := 3) (As := [.int (nI i), .int (nI j), .int (-1)]) (rest := []) (fun w => w) hxR hbR hmlR hts hown hK hA hl.1 isCtx.id hI (c5_knows l E ad kp tr iv ia Ky R mv i j (-1) (by first | omega | with_reducible assumption) (by first | omega | with_reducible assumption)) (lw_V q1737 q1739 qs49 q86 q1740) ⟨rfl, by decide +kernel⟩ 16 5 rfl rfl mW_o rfl (Nat.le_of_ble_eq_true rfl) (Nat.le_of_ble_eq_true rfl) ⟨Nat.le_of_ble_eq_true rfl, Nat.le_of_ble_eq_true rfl⟩ (Nat.le_of_ble_eq_true rfl) dX5_year_103 (fun u H locs hp hI hz => ?_)
                      have hI : wI E AR sR H locs (mW E ad kp tr iv ia (knF Ky i j (-1)) R mv) := hI
                      refine lv_iinc (v := nI (j + 1)) (lv' := [(3, .int (nI (j + 1))), (1, .int (nI (b + 1))), (5, .int 1), (4, .int (yrV (K i j))), (0, .ref (ad 45)), (2, .int (nI i))]) hxR hbR dX5_year_106 hl (k := 5) rfl (show nI j + 1 = nI (j + 1) from nI_add _ 1) (by decide) rfl (fun ls hl => ?_)
                      refine lv_goto (tgt := 14) hxR hbR dX5_year_109 (by decide) ?_
                      exact ih_14 (b + 1) (j + 1) (knF Ky i j (-1)) (by first | omega | with_reducible assumption) (by rw [hb]; first | rw [yC1_n1 c_32] | (rw [yC1_y c_32 hg]; try rfl) | (rw [yC1_n2 hg]; try rfl)) (by rw [hKy]; first | exact (upS_none (yearG_n c_32)).symm | exact (upS_some c_16 (yearG_y c_32 hg)).symm | exact (upS_some c_16 (yearG_y2 c_32 hg)).symm) (by omega) _ _ hI _ (lv_sub hl [4, 1, 5, 0] rfl)
                · skip
                  refine lv_iload hxR hbR dX5_year_42 (lv_at hl 0 rfl) ?_
                  refine lv_iconst (v := 1) hxR hbR dX5_year_44 (by decide) ?_
                  refine lv_iadd hxR hbR dX5_year_45 ?_
                  refine lv_as (y := yrV (K i j)) (if_pos (Int32.not_le.mp c_39)).symm ?_
                  refine lv_goto (tgt := 51) hxR hbR dX5_year_46 (by decide) ?_
                  refine lv_istore (lv' := [(4, .int (yrV (K i j))), (0, .ref (ad 45)), (1, .int (nI b)), (2, .int (nI i)), (3, .int (nI j))]) hxR hbR dX5_year_51 hl (by decide) rfl (fun ls hl => ?_)
                  refine lv_aload_n hxR hbR dX5_year_53 rfl (lv_at hl 1 rfl) ?_
                  refine r_get hxR hbR hts hown hK hI okX5 (ci := 5) rfl 16 mW_o 15 (by decide) q1493 rfl (v := .int (iv 15)) (al rfl) dX5_year_54 ?_
                  refine lv_if_eq (tgt := 73) hxR hbR dX5_year_57 (by decide) (fun c_57 => ?_) (fun c_57 => ?_)
                  · skip
                    have hg : yrG (iv 15) (K i j) = false := by first | exact decide_eq_false (fun z => z.1 c_57) | exact decide_eq_false (fun z => absurd z.2 (Int32.not_lt.mpr c_66))
                    refine lv_iconst (v := 0) hxR hbR dX5_year_73 (by decide) ?_
                    refine lv_istore (lv' := [(5, .int 0), (4, .int (yrV (K i j))), (0, .ref (ad 45)), (1, .int (nI b)), (2, .int (nI i)), (3, .int (nI j))]) hxR hbR dX5_year_74 hl (by decide) rfl (fun ls hl => ?_)
                    refine lv_iload_n hxR hbR dX5_year_76 rfl (lv_at hl 3 rfl) ?_
                    refine lv_iload hxR hbR dX5_year_77 (lv_at hl 0 rfl) ?_
                    refine lv_if_eq (tgt := 86) hxR hbR dX5_year_79 (by decide) (fun _ => ?_) (fun c => absurd c (by decide))
                    refine lv_iconst (v := 0) hxR hbR dX5_year_86 (by decide) ?_
                    refine lv_iadd hxR hbR dX5_year_87 ?_
                    refine lv_as (y := nI b) (nI_add b 0) ?_
                    refine lv_istore_n (lv' := [(1, .int (nI b)), (5, .int 0), (4, .int (yrV (K i j))), (0, .ref (ad 45)), (2, .int (nI i)), (3, .int (nI j))]) hxR hbR dX5_year_88 rfl hl (by decide) rfl (fun ls hl => ?_)
                    refine lv_aload_n hxR hbR dX5_year_89 rfl (lv_at hl 3 rfl) ?_
                    refine lv_iload_n hxR hbR dX5_year_90 rfl (lv_at hl 4 rfl) ?_
                    refine lv_iload_n hxR hbR dX5_year_91 rfl (lv_at hl 5 rfl) ?_
                    refine lv_iload hxR hbR dX5_year_92 (lv_at hl 1 rfl) ?_
                    refine lv_if_eq (tgt := 101) hxR hbR dX5_year_94 (by decide) (fun _ => ?_) (fun c => absurd c (by decide))
                    refine lv_iload hxR hbR dX5_year_101 (lv_at hl 2 rfl) ?_
                    refine kVV (n := 3) (As := [.int (nI i), .int (nI j), .int (yrV (K i j))]) (rest := []) (fun w => w) hxR hbR hmlR hts hown hK hA hl.1 isCtx.id hI (c5_knows l E ad kp tr iv ia Ky R mv i j (yrV (K i j)) (by first | omega | with_reducible assumption) (by first | omega | with_reducible assumption)) (lw_V q1737 q1739 qs49 q86 q1740) ⟨rfl, by decide +kernel⟩ 16 5 rfl rfl mW_o rfl (Nat.le_of_ble_eq_true rfl) (Nat.le_of_ble_eq_true rfl) ⟨Nat.le_of_ble_eq_true rfl, Nat.le_of_ble_eq_true rfl⟩ (Nat.le_of_ble_eq_true rfl) dX5_year_103 (fun u H locs hp hI hz => ?_)
                    have hI : wI E AR sR H locs (mW E ad kp tr iv ia (knF Ky i j (yrV (K i j))) R mv) := hI
                    refine lv_iinc (v := nI (j + 1)) (lv' := [(3, .int (nI (j + 1))), (1, .int (nI b)), (5, .int 0), (4, .int (yrV (K i j))), (0, .ref (ad 45)), (2, .int (nI i))]) hxR hbR dX5_year_106 hl (k := 5) rfl (show nI j + 1 = nI (j + 1) from nI_add _ 1) (by decide) rfl (fun ls hl => ?_)
                    refine lv_goto (tgt := 14) hxR hbR dX5_year_109 (by decide) ?_
                    exact ih_14 b (j + 1) (knF Ky i j (yrV (K i j))) (by first | omega | with_reducible assumption) (by rw [hb]; first | rw [yC1_n1 c_32] | (rw [yC1_y c_32 hg]; try rfl) | (rw [yC1_n2 hg]; try rfl)) (by rw [hKy]; first | exact (upS_none (yearG_n c_32)).symm | exact (upS_some c_16 (yearG_y c_32 hg)).symm | exact (upS_some c_16 (yearG_y2 c_32 hg)).symm) (by omega) _ _ hI _ (lv_sub hl [4, 1, 5, 0] rfl)
                  · skip
                    refine lv_iload hxR hbR dX5_year_60 (lv_at hl 0 rfl) ?_
                    refine lv_aload_n hxR hbR dX5_year_62 rfl (lv_at hl 1 rfl) ?_
                    refine r_get hxR hbR hts hown hK hI okX5 (ci := 5) rfl 16 mW_o 15 (by decide) q1493 rfl (v := .int (iv 15)) (al rfl) dX5_year_63 ?_
                    refine lv_icmp_le (tgt := 73) hxR hbR dX5_year_66 (by decide) (fun c_66 => ?_) (fun c_66 => ?_)
                    · skip
                      have hg : yrG (iv 15) (K i j) = false := by first | exact decide_eq_false (fun z => z.1 c_57) | exact decide_eq_false (fun z => absurd z.2 (Int32.not_lt.mpr c_66))
                      refine lv_iconst (v := 0) hxR hbR dX5_year_73 (by decide) ?_
                      refine lv_istore (lv' := [(5, .int 0), (4, .int (yrV (K i j))), (0, .ref (ad 45)), (1, .int (nI b)), (2, .int (nI i)), (3, .int (nI j))]) hxR hbR dX5_year_74 hl (by decide) rfl (fun ls hl => ?_)
                      refine lv_iload_n hxR hbR dX5_year_76 rfl (lv_at hl 3 rfl) ?_
                      refine lv_iload hxR hbR dX5_year_77 (lv_at hl 0 rfl) ?_
                      refine lv_if_eq (tgt := 86) hxR hbR dX5_year_79 (by decide) (fun _ => ?_) (fun c => absurd c (by decide))
                      refine lv_iconst (v := 0) hxR hbR dX5_year_86 (by decide) ?_
                      refine lv_iadd hxR hbR dX5_year_87 ?_
                      refine lv_as (y := nI b) (nI_add b 0) ?_
                      refine lv_istore_n (lv' := [(1, .int (nI b)), (5, .int 0), (4, .int (yrV (K i j))), (0, .ref (ad 45)), (2, .int (nI i)), (3, .int (nI j))]) hxR hbR dX5_year_88 rfl hl (by decide) rfl (fun ls hl => ?_)
                      refine lv_aload_n hxR hbR dX5_year_89 rfl (lv_at hl 3 rfl) ?_
                      refine lv_iload_n hxR hbR dX5_year_90 rfl (lv_at hl 4 rfl) ?_
                      refine lv_iload_n hxR hbR dX5_year_91 rfl (lv_at hl 5 rfl) ?_
                      refine lv_iload hxR hbR dX5_year_92 (lv_at hl 1 rfl) ?_
                      refine lv_if_eq (tgt := 101) hxR hbR dX5_year_94 (by decide) (fun _ => ?_) (fun c => absurd c (by decide))
                      refine lv_iload hxR hbR dX5_year_101 (lv_at hl 2 rfl) ?_
                      refine kVV (n := 3) (As := [.int (nI i), .int (nI j), .int (yrV (K i j))]) (rest := []) (fun w => w) hxR hbR hmlR hts hown hK hA hl.1 isCtx.id hI (c5_knows l E ad kp tr iv ia Ky R mv i j (yrV (K i j)) (by first | omega | with_reducible assumption) (by first | omega | with_reducible assumption)) (lw_V q1737 q1739 qs49 q86 q1740) ⟨rfl, by decide +kernel⟩ 16 5 rfl rfl mW_o rfl (Nat.le_of_ble_eq_true rfl) (Nat.le_of_ble_eq_true rfl) ⟨Nat.le_of_ble_eq_true rfl, Nat.le_of_ble_eq_true rfl⟩ (Nat.le_of_ble_eq_true rfl) dX5_year_103 (fun u H locs hp hI hz => ?_)
                      have hI : wI E AR sR H locs (mW E ad kp tr iv ia (knF Ky i j (yrV (K i j))) R mv) := hI
                      refine lv_iinc (v := nI (j + 1)) (lv' := [(3, .int (nI (j + 1))), (1, .int (nI b)), (5, .int 0), (4, .int (yrV (K i j))), (0, .ref (ad 45)), (2, .int (nI i))]) hxR hbR dX5_year_106 hl (k := 5) rfl (show nI j + 1 = nI (j + 1) from nI_add _ 1) (by decide) rfl (fun ls hl => ?_)
                      refine lv_goto (tgt := 14) hxR hbR dX5_year_109 (by decide) ?_
                      exact ih_14 b (j + 1) (knF Ky i j (yrV (K i j))) (by first | omega | with_reducible assumption) (by rw [hb]; first | rw [yC1_n1 c_32] | (rw [yC1_y c_32 hg]; try rfl) | (rw [yC1_n2 hg]; try rfl)) (by rw [hKy]; first | exact (upS_none (yearG_n c_32)).symm | exact (upS_some c_16 (yearG_y c_32 hg)).symm | exact (upS_some c_16 (yearG_y2 c_32 hg)).symm) (by omega) _ _ hI _ (lv_sub hl [4, 1, 5, 0] rfl)
                    · skip
                      have hg : yrG (iv 15) (K i j) = true := decide_eq_true ⟨c_57, Int32.not_le.mp c_66⟩
                      refine lv_iconst (v := 1) hxR hbR dX5_year_69 (by decide) ?_
                      refine lv_goto (tgt := 74) hxR hbR dX5_year_70 (by decide) ?_
                      refine lv_istore (lv' := [(5, .int 1), (4, .int (yrV (K i j))), (0, .ref (ad 45)), (1, .int (nI b)), (2, .int (nI i)), (3, .int (nI j))]) hxR hbR dX5_year_74 hl (by decide) rfl (fun ls hl => ?_)
                      refine lv_iload_n hxR hbR dX5_year_76 rfl (lv_at hl 3 rfl) ?_
                      refine lv_iload hxR hbR dX5_year_77 (lv_at hl 0 rfl) ?_
                      refine lv_if_eq (tgt := 86) hxR hbR dX5_year_79 (by decide) (fun c => absurd c (by decide)) (fun _ => ?_)
                      refine lv_iconst (v := 1) hxR hbR dX5_year_82 (by decide) ?_
                      refine lv_goto (tgt := 87) hxR hbR dX5_year_83 (by decide) ?_
                      refine lv_iadd hxR hbR dX5_year_87 ?_
                      refine lv_as (y := nI (b + 1)) (nI_add b 1) ?_
                      refine lv_istore_n (lv' := [(1, .int (nI (b + 1))), (5, .int 1), (4, .int (yrV (K i j))), (0, .ref (ad 45)), (2, .int (nI i)), (3, .int (nI j))]) hxR hbR dX5_year_88 rfl hl (by decide) rfl (fun ls hl => ?_)
                      refine lv_aload_n hxR hbR dX5_year_89 rfl (lv_at hl 3 rfl) ?_
                      refine lv_iload_n hxR hbR dX5_year_90 rfl (lv_at hl 4 rfl) ?_
                      refine lv_iload_n hxR hbR dX5_year_91 rfl (lv_at hl 5 rfl) ?_
                      refine lv_iload hxR hbR dX5_year_92 (lv_at hl 1 rfl) ?_
                      refine lv_if_eq (tgt := 101) hxR hbR dX5_year_94 (by decide) (fun c => absurd c (by decide)) (fun _ => ?_)
                      refine lv_iconst (v := (-1)) hxR hbR dX5_year_97 (by decide) ?_
                      refine lv_goto (tgt := 103) hxR hbR dX5_year_98 (by decide) ?_
                      refine kVV (n := 3) (As := [.int (nI i), .int (nI j), .int (-1)]) (rest := []) (fun w => w) hxR hbR hmlR hts hown hK hA hl.1 isCtx.id hI (c5_knows l E ad kp tr iv ia Ky R mv i j (-1) (by first | omega | with_reducible assumption) (by first | omega | with_reducible assumption)) (lw_V q1737 q1739 qs49 q86 q1740) ⟨rfl, by decide +kernel⟩ 16 5 rfl rfl mW_o rfl (Nat.le_of_ble_eq_true rfl) (Nat.le_of_ble_eq_true rfl) ⟨Nat.le_of_ble_eq_true rfl, Nat.le_of_ble_eq_true rfl⟩ (Nat.le_of_ble_eq_true rfl) dX5_year_103 (fun u H locs hp hI hz => ?_)
                      have hI : wI E AR sR H locs (mW E ad kp tr iv ia (knF Ky i j (-1)) R mv) := hI
                      refine lv_iinc (v := nI (j + 1)) (lv' := [(3, .int (nI (j + 1))), (1, .int (nI (b + 1))), (5, .int 1), (4, .int (yrV (K i j))), (0, .ref (ad 45)), (2, .int (nI i))]) hxR hbR dX5_year_106 hl (k := 5) rfl (show nI j + 1 = nI (j + 1) from nI_add _ 1) (by decide) rfl (fun ls hl => ?_)
                      refine lv_goto (tgt := 14) hxR hbR dX5_year_109 (by decide) ?_
                      exact ih_14 (b + 1) (j + 1) (knF Ky i j (-1)) (by first | omega | with_reducible assumption) (by rw [hb]; first | rw [yC1_n1 c_32] | (rw [yC1_y c_32 hg]; try rfl) | (rw [yC1_n2 hg]; try rfl)) (by rw [hKy]; first | exact (upS_none (yearG_n c_32)).symm | exact (upS_some c_16 (yearG_y c_32 hg)).symm | exact (upS_some c_16 (yearG_y2 c_32 hg)).symm) (by omega) _ _ hI _ (lv_sub hl [4, 1, 5, 0] rfl)
        exact lp_14 _ a 0 Kx (by first | omega | with_reducible assumption) (by rw [ha]; rfl) hKx (Nat.lt_succ_self _) _ _ hI _ (lv_sub hl [1, 2, 3, 0] rfl)
  exact lp_4 _ 0 0 K (by first | omega | with_reducible assumption) rfl (upS_0 _ _).symm (Nat.lt_succ_self _) _ _ hI _ (lv_sub hl [2, 1, 0] rfl)

theorem c5_come (l : Launch) (E : En) (ad : Nat → Nat) (kp tr : Option Nat) (iv : Nat → Int32) (ia K : Nat → Nat → Int32) (R : Nat → Nat → Int64) (mv : Nat → Int64) (n : Nat) (x : Int32) (hn : iv 10 = nI n) (hn7 : n ≤ 7) : CtI l E yX5_come cX5_come 5 .int 3 0 0 [.ref (ad 45), .int x] (mW E ad kp tr iv ia K R mv) (fun (r : Int32) (u : Unit) => r = gd (comeC x) (nI (cmN n x)) (comeC x)) (fun (u : Unit) => mW E ad kp tr (va_up (va_up iv 10 (gd (comeC x) (nI (n + cmN n x)) (iv 10))) 19 (gd (comeC x) ((cmS n (iv 19) (ia 11) (ia 12) K (cmN n x)).1) (iv 19))) (va_up (va_up (va_up ia 9 (bumpR (ia 9) (comeC x))) 11 (gd (comeC x) ((cmS n (iv 19) (ia 11) (ia 12) K (cmN n x)).2.1) (ia 11))) 12 (gd (comeC x) ((cmS n (iv 19) (ia 11) (ia 12) K (cmN n x)).2.2.1) (ia 12))) (gd (comeC x) ((cmS n (iv 19) (ia 11) (ia 12) K (cmN n x)).2.2.2) K) R mv) := by
  refine CtI.of (by decide +kernel) (Nat.le_of_ble_eq_true rfl) ?_
  intro pR eR sR mR aR bR tR cR AR ls QR hxR hbR hmlR hts hown hlk hnm hA hK hI hl hret
  have hl : lv_has ls 5 [(0, .ref (ad 45)), (1, .int x)] := hl
  refine lv_iload_n hxR hbR dX5_come_0 rfl (lv_at hl 1 rfl) ?_
  refine lv_i2l (v := x.toInt64) hxR hbR dX5_come_1 rfl ?_
  refine lv_lconst (v := 1) hxR hbR dX5_come_2 (by decide) ?_
  refine lv_ldc2 (v := 7) hxR hbR hown (hts _ q1618) dX5_come_3 ?_
  refine kSI (n := 3) (As := [.long x.toInt64, .long (1 : Int64), .long (7 : Int64)]) (rest := []) (fun w => w ++ (mW E ad kp tr iv ia K R mv)) hxR hbR hmlR hts hown hK hA hl.1 (isCtx.suf _) hI (c5_in l E  x.toInt64 (1 : Int64) (7 : Int64) ) (lw_S q1619 q1620 q86 q1621) (by decide +kernel) rfl (Nat.le_of_ble_eq_true rfl) (Nat.le_of_ble_eq_true rfl) ⟨Nat.le_of_ble_eq_true rfl, Nat.le_of_ble_eq_true rfl⟩ (Nat.le_of_ble_eq_true rfl) dX5_come_6 (fun r_6 u H locs hp hI hz => ?_)
  have hI : wI E AR sR H locs (mW E ad kp tr iv ia K R mv) := hI
  have hp : r_6 = b2i (inL x.toInt64 (1 : Int64) (7 : Int64)) := hp
  have hr_6 := hp
  rcases b2i_cases hr_6 with ⟨c_6, rfl⟩ | ⟨c_6, rfl⟩
  · skip
    have c_6 : (1 : Int64).toInt ≤ x.toInt64.toInt ∧ x.toInt64.toInt ≤ (7 : Int64).toInt := of_decide_eq_true c_6
    have c_6 : 1 ≤ x.toInt ∧ x.toInt ≤ 7 := by simp only [Int32.toInt_toInt64] at c_6; exact c_6
    obtain ⟨k0, hk0, rfl⟩ := nat_of_le (k := 7) ⟨by omega, c_6.2⟩ (by decide)
    have tk0 : (nI k0).toInt = (k0 : Int) := nI_toInt (by omega)
    refine lv_if_ne (tgt := 19) hxR hbR dX5_come_9 (by decide) (fun _ => ?_) (fun c => absurd c (by decide))
    refine lv_iconst (v := 0) hxR hbR dX5_come_19 (by decide) ?_
    refine lv_istore_n (lv' := [(2, .int 0), (0, .ref (ad 45)), (1, .int (nI k0))]) hxR hbR dX5_come_20 rfl hl (by decide) rfl (fun ls hl => ?_)
    have hI := wI_w (ws' := mW E ad kp tr (va_up iv 10 (nI n)) ia K R mv) (by rw [va_up_id (f := iv) (k := 10) (v := nI n) hn]) hI
    have hI := wI_w (ws' := mW E ad kp tr (va_up (va_up iv 10 (nI n)) 19 (iv 19)) ia K R mv) (by rw [va_up_id (f := (va_up iv 10 (nI n))) (k := 19) (v := iv 19) (up_n (by decide) rfl)]) hI
    have hI := wI_w (ws' := mW E ad kp tr (va_up (va_up iv 10 (nI n)) 19 (iv 19)) (va_up ia 11 (ia 11)) K R mv) (by rw [va_up_id (f := ia) (k := 11) (v := ia 11) rfl]) hI
    have hI := wI_w (ws' := mW E ad kp tr (va_up (va_up iv 10 (nI n)) 19 (iv 19)) (va_up (va_up ia 11 (ia 11)) 12 (ia 12)) K R mv) (by rw [va_up_id (f := (va_up ia 11 (ia 11))) (k := 12) (v := ia 12) (up_n (by decide) rfl)]) hI
    have lp_21 : ∀ (fu : Nat) (m : Nat) (n2 : Nat) (sd : Int32) (h11 : Nat → Int32) (h12 : Nat → Int32) (Kx : Nat → Nat → Int32), (m ≤ k0) → (n2 = n + m) → (n + m ≤ 7) → ((sd, h11, h12, Kx) = (cmS n (iv 19) (ia 11) (ia 12) K m)) → k0 - m < fu → ∀ (H : Heap) (locs : List Loc), wI E AR sR H locs (mW E ad kp tr (va_up (va_up iv 10 (nI n2)) 19 sd) (va_up (va_up ia 11 h11) 12 h12) Kx R mv) → ∀ ls : Array Slot, lv_has ls 5 [(0, .ref (ad 45)), (1, .int (nI k0)), (2, .int (nI m))] → W pR l eR (rmF 3 0 0) sR mR aR bR tR cR H locs 0 0 QR (F0 mR 21 ls []) := by
      intro fu
      induction fu with
      | zero =>
        intro m n2 sd h11 h12 Kx hm hn2 hnm hT hfu
        exact absurd hfu (Nat.not_lt_zero _)
      | succ fu ih_21 =>
        intro m n2 sd h11 h12 Kx hm hn2 hnm hT hfu H locs hI ls hl
        refine lv_iload_n hxR hbR dX5_come_21 rfl (lv_at hl 2 rfl) ?_
        refine lv_iload_n hxR hbR dX5_come_22 rfl (lv_at hl 1 rfl) ?_
        refine lv_icmp_ge (tgt := 100) hxR hbR dX5_come_23 (by decide) (fun c_23 => ?_) (fun c_23 => ?_)
        · skip
          have c_23 : k0 ≤ m := (n_le (a := k0) (b := m) (by omega) (by omega)).mp c_23
          refine lv_iload_n hxR hbR dX5_come_100 rfl (lv_at hl 2 rfl) ?_
          have hC : comeC (nI k0) = 0 := by
            clear hret hI
            unfold comeC
            try simp only [nI_clamp (n := k0) (by omega)]
            repeat' split
            all_goals first | rfl | (exfalso; omega) | contradiction | (exfalso; simp_all; done) | simp_all
          have hmN : cmN n (nI k0) = m := by unfold cmN; rw [nI_clamp (by omega)]; omega
          have eiv10 : gd (comeC (nI k0)) (nI (n + cmN n (nI k0))) (iv 10) = nI n2 := by rw [hC, hmN, hn2]; rfl
          have eiv19 : gd (comeC (nI k0)) ((cmS n (iv 19) (ia 11) (ia 12) K (cmN n (nI k0))).1) (iv 19) = sd := by rw [hC, hmN, ← hT]; rfl
          have eia9 : bumpR (ia 9) (comeC (nI k0)) = ia 9 := by rw [hC]; exact bump_0 _
          have eia11 : gd (comeC (nI k0)) ((cmS n (iv 19) (ia 11) (ia 12) K (cmN n (nI k0))).2.1) (ia 11) = h11 := by rw [hC, hmN, ← hT]; rfl
          have eia12 : gd (comeC (nI k0)) ((cmS n (iv 19) (ia 11) (ia 12) K (cmN n (nI k0))).2.2.1) (ia 12) = h12 := by rw [hC, hmN, ← hT]; rfl
          have eK : gd (comeC (nI k0)) ((cmS n (iv 19) (ia 11) (ia 12) K (cmN n (nI k0))).2.2.2) K = Kx := by rw [hC, hmN, ← hT]; rfl
          have hI := wI_w (ws' := mW E ad kp tr (va_up (va_up iv 10 (gd (comeC (nI k0)) (nI (n + cmN n (nI k0))) (iv 10))) 19 (gd (comeC (nI k0)) ((cmS n (iv 19) (ia 11) (ia 12) K (cmN n (nI k0))).1) (iv 19))) (va_up (va_up (va_up ia 9 (bumpR (ia 9) (comeC (nI k0)))) 11 (gd (comeC (nI k0)) ((cmS n (iv 19) (ia 11) (ia 12) K (cmN n (nI k0))).2.1) (ia 11))) 12 (gd (comeC (nI k0)) ((cmS n (iv 19) (ia 11) (ia 12) K (cmN n (nI k0))).2.2.1) (ia 12))) (gd (comeC (nI k0)) ((cmS n (iv 19) (ia 11) (ia 12) K (cmN n (nI k0))).2.2.2) K) R mv) (by rw [eiv10, eiv19, eia9, eia11, eia12, eK, va_up_id (f := ia) (k := 9) (v := ia 9) rfl]; try rfl) hI
          exact hret () (nI m) _ _ 0 0 _ _ dX5_come_101 hI (by show (nI m) = gd (comeC (nI k0)) (nI (cmN n (nI k0))) (comeC (nI k0)); rw [hC, hmN]; rfl) (Nat.le_of_ble_eq_true rfl) (Nat.le_of_ble_eq_true rfl) rfl
        · skip
          have c_23 : m < k0 := Nat.lt_of_not_le (fun zz => c_23 ((n_le (a := k0) (b := m) (by omega) (by omega)).mpr zz))
          refine lv_aload_n hxR hbR dX5_come_26 rfl (lv_at hl 0 rfl) ?_
          refine r_get hxR hbR hts hown hK hI okX5 (ci := 5) rfl 16 mW_o 10 (by decide) q1488 rfl (v := .int (nI n2)) (al (up_n (by decide) va_up_s)) dX5_come_27 ?_
          refine lv_bipush (v := 7) hxR hbR dX5_come_30 (by decide) ?_
          refine lv_icmp_ge (tgt := 100) hxR hbR dX5_come_32 (by decide) (fun c_32 => ?_) (fun c_32 => ?_)
          · skip
            have c_32 : 7 ≤ n2 := (n_le (a := 7) (b := n2) (by omega) (by omega)).mp c_32
            refine lv_iload_n hxR hbR dX5_come_100 rfl (lv_at hl 2 rfl) ?_
            have hC : comeC (nI k0) = 0 := by
              clear hret hI
              unfold comeC
              try simp only [nI_clamp (n := k0) (by omega)]
              repeat' split
              all_goals first | rfl | (exfalso; omega) | contradiction | (exfalso; simp_all; done) | simp_all
            have hmN : cmN n (nI k0) = m := by unfold cmN; rw [nI_clamp (by omega)]; omega
            have eiv10 : gd (comeC (nI k0)) (nI (n + cmN n (nI k0))) (iv 10) = nI n2 := by rw [hC, hmN, hn2]; rfl
            have eiv19 : gd (comeC (nI k0)) ((cmS n (iv 19) (ia 11) (ia 12) K (cmN n (nI k0))).1) (iv 19) = sd := by rw [hC, hmN, ← hT]; rfl
            have eia9 : bumpR (ia 9) (comeC (nI k0)) = ia 9 := by rw [hC]; exact bump_0 _
            have eia11 : gd (comeC (nI k0)) ((cmS n (iv 19) (ia 11) (ia 12) K (cmN n (nI k0))).2.1) (ia 11) = h11 := by rw [hC, hmN, ← hT]; rfl
            have eia12 : gd (comeC (nI k0)) ((cmS n (iv 19) (ia 11) (ia 12) K (cmN n (nI k0))).2.2.1) (ia 12) = h12 := by rw [hC, hmN, ← hT]; rfl
            have eK : gd (comeC (nI k0)) ((cmS n (iv 19) (ia 11) (ia 12) K (cmN n (nI k0))).2.2.2) K = Kx := by rw [hC, hmN, ← hT]; rfl
            have hI := wI_w (ws' := mW E ad kp tr (va_up (va_up iv 10 (gd (comeC (nI k0)) (nI (n + cmN n (nI k0))) (iv 10))) 19 (gd (comeC (nI k0)) ((cmS n (iv 19) (ia 11) (ia 12) K (cmN n (nI k0))).1) (iv 19))) (va_up (va_up (va_up ia 9 (bumpR (ia 9) (comeC (nI k0)))) 11 (gd (comeC (nI k0)) ((cmS n (iv 19) (ia 11) (ia 12) K (cmN n (nI k0))).2.1) (ia 11))) 12 (gd (comeC (nI k0)) ((cmS n (iv 19) (ia 11) (ia 12) K (cmN n (nI k0))).2.2.1) (ia 12))) (gd (comeC (nI k0)) ((cmS n (iv 19) (ia 11) (ia 12) K (cmN n (nI k0))).2.2.2) K) R mv) (by rw [eiv10, eiv19, eia9, eia11, eia12, eK, va_up_id (f := ia) (k := 9) (v := ia 9) rfl]; try rfl) hI
            exact hret () (nI m) _ _ 0 0 _ _ dX5_come_101 hI (by show (nI m) = gd (comeC (nI k0)) (nI (cmN n (nI k0))) (comeC (nI k0)); rw [hC, hmN]; rfl) (Nat.le_of_ble_eq_true rfl) (Nat.le_of_ble_eq_true rfl) rfl
          · skip
            have c_32 : n2 < 7 := Nat.lt_of_not_le (fun zz => c_32 ((n_le (a := 7) (b := n2) (by omega) (by omega)).mpr zz))
            refine lv_aload_n hxR hbR dX5_come_35 rfl (lv_at hl 0 rfl) ?_
            refine lv_bipush (v := 24) hxR hbR dX5_come_36 (by decide) ?_
            refine kVI (n := 1) (As := [.int 24]) (rest := []) (fun w => w) hxR hbR hmlR hts hown hK hA hl.1 isCtx.id hI (c5_below l E ad kp tr (va_up (va_up iv 10 (nI n2)) 19 sd) (va_up (va_up ia 11 h11) 12 h12) Kx R mv 24 (by decide)) (lw_V q2033 q2035 qs79 q86 q2036) ⟨rfl, by decide +kernel⟩ 16 5 rfl rfl mW_o rfl (Nat.le_of_ble_eq_true rfl) (Nat.le_of_ble_eq_true rfl) ⟨Nat.le_of_ble_eq_true rfl, Nat.le_of_ble_eq_true rfl⟩ (Nat.le_of_ble_eq_true rfl) dX5_come_38 (fun r_38 u H locs hp hI hz => ?_)
            have hI : wI E AR sR H locs (mW E ad kp tr (va_up (va_up (va_up iv 10 (nI n2)) 19 sd) 19 (drS (sd))) (va_up (va_up ia 11 h11) 12 h12) Kx R mv) := hI
            have hI := wI_w (ws' := mW E ad kp tr (va_up (va_up iv 10 (nI n2)) 19 (drS (sd))) (va_up (va_up ia 11 h11) 12 h12) Kx R mv) (by rw [(show (va_up (va_up iv 10 (nI n2)) 19 (drS (sd))) = (va_up (va_up (va_up iv 10 (nI n2)) 19 sd) 19 (drS (sd))) from (up_0).symm)]) hI
            have hI : wI E AR sR H locs (mW E ad kp tr (va_up (va_up iv 10 (nI n2)) 19 (drS (sd))) (va_up (va_up ia 11 h11) 12 h12) Kx R mv) := hI
            have hp : r_38 = drV (sd) 24 := hp
            have hr_38 := hp
            subst hr_38
            refine lv_istore_n (lv' := [(3, .int (drV (sd) 24)), (0, .ref (ad 45)), (1, .int (nI k0)), (2, .int (nI m))]) hxR hbR dX5_come_41 rfl hl (by decide) rfl (fun ls hl => ?_)
            refine lv_aload_n hxR hbR dX5_come_42 rfl (lv_at hl 1 rfl) ?_
            refine lv_iload_n hxR hbR dX5_come_43 rfl (lv_at hl 0 rfl) ?_
            refine lv_aload_n hxR hbR dX5_come_44 rfl (lv_at hl 1 rfl) ?_
            refine lv_bipush (v := 10) hxR hbR dX5_come_45 (by decide) ?_
            refine kVI (n := 1) (As := [.int 10]) (rest := [.int (drV (sd) 24), .ref (ad 45)]) (fun w => w) hxR hbR hmlR hts hown hK hA hl.1 isCtx.id hI (c5_below l E ad kp tr (va_up (va_up iv 10 (nI n2)) 19 (drS (sd))) (va_up (va_up ia 11 h11) 12 h12) Kx R mv 10 (by decide)) (lw_V q2033 q2035 qs79 q86 q2036) ⟨rfl, by decide +kernel⟩ 16 5 rfl rfl mW_o rfl (Nat.le_of_ble_eq_true rfl) (Nat.le_of_ble_eq_true rfl) ⟨Nat.le_of_ble_eq_true rfl, Nat.le_of_ble_eq_true rfl⟩ (Nat.le_of_ble_eq_true rfl) dX5_come_47 (fun r_47 u H locs hp hI hz => ?_)
            have hI : wI E AR sR H locs (mW E ad kp tr (va_up (va_up (va_up iv 10 (nI n2)) 19 (drS (sd))) 19 (drS ((drS (sd))))) (va_up (va_up ia 11 h11) 12 h12) Kx R mv) := hI
            have hI := wI_w (ws' := mW E ad kp tr (va_up (va_up iv 10 (nI n2)) 19 (drS ((drS (sd))))) (va_up (va_up ia 11 h11) 12 h12) Kx R mv) (by rw [(show (va_up (va_up iv 10 (nI n2)) 19 (drS ((drS (sd))))) = (va_up (va_up (va_up iv 10 (nI n2)) 19 (drS (sd))) 19 (drS ((drS (sd))))) from (up_0).symm)]) hI
            have hI : wI E AR sR H locs (mW E ad kp tr (va_up (va_up iv 10 (nI n2)) 19 (drS ((drS (sd))))) (va_up (va_up ia 11 h11) 12 h12) Kx R mv) := hI
            have hp : r_47 = drV ((drS (sd))) 10 := hp
            have hr_47 := hp
            subst hr_47
            refine kVV (n := 2) (As := [.int (drV (sd) 24), .int (drV ((drS (sd))) 10)]) (rest := []) (fun w => w) hxR hbR hmlR hts hown hK hA hl.1 isCtx.id hI (c5_addOne l E ad kp tr (va_up (va_up iv 10 (nI n2)) 19 (drS ((drS (sd))))) (va_up (va_up ia 11 h11) 12 h12) Kx R mv n2 (drV (sd) 24) (drV ((drS (sd))) 10) (up_n (by decide) va_up_s) (by omega)) (lw_V q1715 q1717 qs46 q86 q1718) ⟨rfl, by decide +kernel⟩ 16 5 rfl rfl mW_o rfl (Nat.le_of_ble_eq_true rfl) (Nat.le_of_ble_eq_true rfl) ⟨Nat.le_of_ble_eq_true rfl, Nat.le_of_ble_eq_true rfl⟩ (Nat.le_of_ble_eq_true rfl) dX5_come_50 (fun u H locs hp hI hz => ?_)
            have hI : wI E AR sR H locs (mW E ad kp tr (va_up (va_up (va_up iv 10 (nI n2)) 19 (drS ((drS (sd))))) 10 (nI (n2 + 1))) (va_up (va_up (va_up (va_up ia 11 h11) 12 h12) 11 (va_up (h11) n2 (drV (sd) 24))) 12 (va_up (h12) n2 (drV ((drS (sd))) 10))) (newK Kx n2 n2) R mv) := hI
            have hI := wI_w (ws' := mW E ad kp tr (va_up (va_up iv 10 (nI (n2 + 1))) 19 (drS ((drS (sd))))) (va_up (va_up ia 11 (va_up (h11) n2 (drV (sd) 24))) 12 (va_up (h12) n2 (drV ((drS (sd))) 10))) (newK Kx n2 n2) R mv) (by rw [(show (va_up (va_up iv 10 (nI (n2 + 1))) 19 (drS ((drS (sd))))) = (va_up (va_up (va_up iv 10 (nI n2)) 19 (drS ((drS (sd))))) 10 (nI (n2 + 1))) from ((up_s (by decide) up_0)).symm), (show (va_up (va_up ia 11 (va_up (h11) n2 (drV (sd) 24))) 12 (va_up (h12) n2 (drV ((drS (sd))) 10))) = (va_up (va_up (va_up (va_up ia 11 h11) 12 h12) 11 (va_up (h11) n2 (drV (sd) 24))) 12 (va_up (h12) n2 (drV ((drS (sd))) 10))) from ((Eq.trans (congrArg (fun z => va_up z 12 (va_up (h12) n2 (drV ((drS (sd))) 10))) (up_s (by decide) up_0)) up_0)).symm)]) hI
            have hI : wI E AR sR H locs (mW E ad kp tr (va_up (va_up iv 10 (nI (n2 + 1))) 19 (drS ((drS (sd))))) (va_up (va_up ia 11 (va_up (h11) n2 (drV (sd) 24))) 12 (va_up (h12) n2 (drV ((drS (sd))) 10))) (newK Kx n2 n2) R mv) := hI
            refine lv_iconst (v := 0) hxR hbR dX5_come_53 (by decide) ?_
            refine lv_istore (lv' := [(4, .int 0), (3, .int (drV (sd) 24)), (0, .ref (ad 45)), (1, .int (nI k0)), (2, .int (nI m))]) hxR hbR dX5_come_54 hl (by decide) rfl (fun ls hl => ?_)
            have lp_56 : ∀ (fu : Nat) (q : Nat) (sd2 : Int32) (Ky : Nat → Nat → Int32), (q ≤ n2) → ((sd2, Ky) = (cmQ (newK Kx n2 n2) n2 (drS (drS sd)) q)) → n2 - q < fu → ∀ (H : Heap) (locs : List Loc), wI E AR sR H locs (mW E ad kp tr (va_up (va_up iv 10 (nI (n2 + 1))) 19 sd2) (va_up (va_up ia 11 (va_up (h11) n2 (drV (sd) 24))) 12 (va_up (h12) n2 (drV ((drS (sd))) 10))) Ky R mv) → ∀ ls : Array Slot, lv_has ls 5 [(0, .ref (ad 45)), (1, .int (nI k0)), (2, .int (nI m)), (3, .int (drV (sd) 24)), (4, .int (nI q))] → W pR l eR (rmF 3 0 0) sR mR aR bR tR cR H locs 0 0 QR (F0 mR 56 ls []) := by
              intro fu
              induction fu with
              | zero =>
                intro q sd2 Ky hq hQ hfu
                exact absurd hfu (Nat.not_lt_zero _)
              | succ fu ih_56 =>
                intro q sd2 Ky hq hQ hfu H locs hI ls hl
                refine lv_iload hxR hbR dX5_come_56 (lv_at hl 4 rfl) ?_
                refine lv_aload_n hxR hbR dX5_come_58 rfl (lv_at hl 0 rfl) ?_
                refine r_get hxR hbR hts hown hK hI okX5 (ci := 5) rfl 16 mW_o 10 (by decide) q1488 rfl (v := .int (nI (n2 + 1))) (al (up_n (by decide) va_up_s)) dX5_come_59 ?_
                refine lv_iconst (v := 1) hxR hbR dX5_come_62 (by decide) ?_
                refine lv_isub hxR hbR dX5_come_63 ?_
                refine lv_as (y := nI n2) (nI_sub1 n2) ?_
                refine lv_icmp_ge (tgt := 94) hxR hbR dX5_come_64 (by decide) (fun c_64 => ?_) (fun c_64 => ?_)
                · skip
                  have c_64 : n2 ≤ q := (n_le (a := n2) (b := q) (by omega) (by omega)).mp c_64
                  refine lv_iinc (v := nI (m + 1)) (lv' := [(2, .int (nI (m + 1))), (0, .ref (ad 45)), (1, .int (nI k0)), (3, .int (drV (sd) 24)), (4, .int (nI q))]) hxR hbR dX5_come_94 hl (k := 2) rfl (show nI m + 1 = nI (m + 1) from nI_add _ 1) (by decide) rfl (fun ls hl => ?_)
                  refine lv_goto (tgt := 21) hxR hbR dX5_come_97 (by decide) ?_
                  exact ih_21 (m + 1) (n2 + 1) sd2 (va_up (h11) n2 (drV (sd) 24)) (va_up (h12) n2 (drV ((drS (sd))) 10)) Ky (by first | omega | with_reducible assumption) (by first | omega | with_reducible assumption) (by first | omega | with_reducible assumption) (by rw [show q = n2 by omega, hn2] at hQ; rw [cmS, ← hT]; subst hn2; rw [← hQ]) (by omega) _ _ hI _ (lv_sub hl [1, 2, 0] rfl)
                · skip
                  have c_64 : q < n2 := Nat.lt_of_not_le (fun zz => c_64 ((n_le (a := n2) (b := q) (by omega) (by omega)).mpr zz))
                  refine lv_aload_n hxR hbR dX5_come_67 rfl (lv_at hl 0 rfl) ?_
                  refine lv_iconst (v := 3) hxR hbR dX5_come_68 (by decide) ?_
                  refine kVI (n := 1) (As := [.int 3]) (rest := []) (fun w => w) hxR hbR hmlR hts hown hK hA hl.1 isCtx.id hI (c5_below l E ad kp tr (va_up (va_up iv 10 (nI (n2 + 1))) 19 sd2) (va_up (va_up ia 11 (va_up (h11) n2 (drV (sd) 24))) 12 (va_up (h12) n2 (drV ((drS (sd))) 10))) Ky R mv 3 (by decide)) (lw_V q2033 q2035 qs79 q86 q2036) ⟨rfl, by decide +kernel⟩ 16 5 rfl rfl mW_o rfl (Nat.le_of_ble_eq_true rfl) (Nat.le_of_ble_eq_true rfl) ⟨Nat.le_of_ble_eq_true rfl, Nat.le_of_ble_eq_true rfl⟩ (Nat.le_of_ble_eq_true rfl) dX5_come_69 (fun r_69 u H locs hp hI hz => ?_)
                  have hI : wI E AR sR H locs (mW E ad kp tr (va_up (va_up (va_up iv 10 (nI (n2 + 1))) 19 sd2) 19 (drS (sd2))) (va_up (va_up ia 11 (va_up (h11) n2 (drV (sd) 24))) 12 (va_up (h12) n2 (drV ((drS (sd))) 10))) Ky R mv) := hI
                  have hI := wI_w (ws' := mW E ad kp tr (va_up (va_up iv 10 (nI (n2 + 1))) 19 (drS (sd2))) (va_up (va_up ia 11 (va_up (h11) n2 (drV (sd) 24))) 12 (va_up (h12) n2 (drV ((drS (sd))) 10))) Ky R mv) (by rw [(show (va_up (va_up iv 10 (nI (n2 + 1))) 19 (drS (sd2))) = (va_up (va_up (va_up iv 10 (nI (n2 + 1))) 19 sd2) 19 (drS (sd2))) from (up_0).symm)]) hI
                  have hI : wI E AR sR H locs (mW E ad kp tr (va_up (va_up iv 10 (nI (n2 + 1))) 19 (drS (sd2))) (va_up (va_up ia 11 (va_up (h11) n2 (drV (sd) 24))) 12 (va_up (h12) n2 (drV ((drS (sd))) 10))) Ky R mv) := hI
                  have hp : r_69 = drV (sd2) 3 := hp
                  have hr_69 := hp
                  subst hr_69
                  refine lv_if_ne (tgt := 88) hxR hbR dX5_come_72 (by decide) (fun c_72 => ?_) (fun c_72 => ?_)
                  · skip
                    have i_72 : ¬ ((drV (sd2) 3).toInt = 0) := by have zz := mt i_eq.mpr c_72; exact zz
                    refine lv_iinc (v := nI (q + 1)) (lv' := [(4, .int (nI (q + 1))), (0, .ref (ad 45)), (1, .int (nI k0)), (2, .int (nI m)), (3, .int (drV (sd) 24))]) hxR hbR dX5_come_88 hl (k := 4) rfl (show nI q + 1 = nI (q + 1) from nI_add _ 1) (by decide) rfl (fun ls hl => ?_)
                    refine lv_goto (tgt := 56) hxR hbR dX5_come_91 (by decide) ?_
                    exact ih_56 (q + 1) (drS (sd2)) Ky (by first | omega | with_reducible assumption) (by rw [cmQ, ← hQ]; first | (rw [if_pos c_72]) | (rw [if_neg c_72])) (by omega) _ _ hI _ (lv_sub hl [1, 2, 3, 4, 0] rfl)
                  · skip
                    have i_72 : (drV (sd2) 3).toInt = 0 := by have zz := i_eq.mp c_72; exact zz
                    refine lv_aload_n hxR hbR dX5_come_75 rfl (lv_at hl 0 rfl) ?_
                    refine lv_aload_n hxR hbR dX5_come_76 rfl (lv_at hl 0 rfl) ?_
                    refine r_get hxR hbR hts hown hK hI okX5 (ci := 5) rfl 16 mW_o 10 (by decide) q1488 rfl (v := .int (nI (n2 + 1))) (al (up_n (by decide) va_up_s)) dX5_come_77 ?_
                    refine lv_iconst (v := 1) hxR hbR dX5_come_80 (by decide) ?_
                    refine lv_isub hxR hbR dX5_come_81 ?_
                    refine lv_as (y := nI n2) (nI_sub1 n2) ?_
                    refine lv_iload hxR hbR dX5_come_82 (lv_at hl 4 rfl) ?_
                    refine lv_iconst (v := 0) hxR hbR dX5_come_84 (by decide) ?_
                    refine kVV (n := 3) (As := [.int (nI n2), .int (nI q), .int 0]) (rest := []) (fun w => w) hxR hbR hmlR hts hown hK hA hl.1 isCtx.id hI (c5_knows l E ad kp tr (va_up (va_up iv 10 (nI (n2 + 1))) 19 (drS (sd2))) (va_up (va_up ia 11 (va_up (h11) n2 (drV (sd) 24))) 12 (va_up (h12) n2 (drV ((drS (sd))) 10))) Ky R mv n2 q 0 (by first | omega | with_reducible assumption) (by first | omega | with_reducible assumption)) (lw_V q1737 q1739 qs49 q86 q1740) ⟨rfl, by decide +kernel⟩ 16 5 rfl rfl mW_o rfl (Nat.le_of_ble_eq_true rfl) (Nat.le_of_ble_eq_true rfl) ⟨Nat.le_of_ble_eq_true rfl, Nat.le_of_ble_eq_true rfl⟩ (Nat.le_of_ble_eq_true rfl) dX5_come_85 (fun u H locs hp hI hz => ?_)
                    have hI : wI E AR sR H locs (mW E ad kp tr (va_up (va_up iv 10 (nI (n2 + 1))) 19 (drS (sd2))) (va_up (va_up ia 11 (va_up (h11) n2 (drV (sd) 24))) 12 (va_up (h12) n2 (drV ((drS (sd))) 10))) (knF Ky n2 q 0) R mv) := hI
                    refine lv_iinc (v := nI (q + 1)) (lv' := [(4, .int (nI (q + 1))), (0, .ref (ad 45)), (1, .int (nI k0)), (2, .int (nI m)), (3, .int (drV (sd) 24))]) hxR hbR dX5_come_88 hl (k := 4) rfl (show nI q + 1 = nI (q + 1) from nI_add _ 1) (by decide) rfl (fun ls hl => ?_)
                    refine lv_goto (tgt := 56) hxR hbR dX5_come_91 (by decide) ?_
                    exact ih_56 (q + 1) (drS (sd2)) (knF Ky n2 q 0) (by first | omega | with_reducible assumption) (by rw [cmQ, ← hQ]; first | (rw [if_pos c_72]) | (rw [if_neg c_72])) (by omega) _ _ hI _ (lv_sub hl [1, 2, 3, 4, 0] rfl)
            exact lp_56 _ 0 (drS ((drS (sd)))) (newK Kx n2 n2) (by first | omega | with_reducible assumption) rfl (Nat.lt_succ_self _) _ _ hI _ (lv_sub hl [2, 3, 4, 1, 0] rfl)
    exact lp_21 _ 0 n (iv 19) (ia 11) (ia 12) K (by first | omega | with_reducible assumption) (by first | omega | with_reducible assumption) (by first | omega | with_reducible assumption) rfl (Nat.lt_succ_self _) _ _ hI _ (lv_sub hl [1, 2, 0] rfl)
  · skip
    have c_6 : ¬ ((1 : Int64).toInt ≤ x.toInt64.toInt ∧ x.toInt64.toInt ≤ (7 : Int64).toInt) := of_decide_eq_false c_6
    have c_6 : ¬ (1 ≤ x.toInt ∧ x.toInt ≤ 7) := by simp only [Int32.toInt_toInt64] at c_6; exact c_6
    refine lv_if_ne (tgt := 19) hxR hbR dX5_come_9 (by decide) (fun c => absurd c (by decide)) (fun _ => ?_)
    refine lv_aload_n hxR hbR dX5_come_12 rfl (lv_at hl 0 rfl) ?_
    refine lv_bipush (v := (-2)) hxR hbR dX5_come_13 (by decide) ?_
    refine kVI (n := 1) (As := [.int (-2)]) (rest := []) (fun w => w) hxR hbR hmlR hts hown hK hA hl.1 isCtx.id hI (c5_refuse l E ad kp tr iv ia K R mv (-2) 2 (by decide) (by decide)) (lw_V q1624 q1626 qs34 q86 q1627) ⟨rfl, by decide +kernel⟩ 16 5 rfl rfl mW_o rfl (Nat.le_of_ble_eq_true rfl) (Nat.le_of_ble_eq_true rfl) ⟨Nat.le_of_ble_eq_true rfl, Nat.le_of_ble_eq_true rfl⟩ (Nat.le_of_ble_eq_true rfl) dX5_come_15 (fun r_15 u H locs hp hI hz => ?_)
    have hI : wI E AR sR H locs (mW E ad kp tr iv (va_up ia 9 (va_up (ia 9) 2 (ia 9 2 + 1))) K R mv) := hI
    have hp : r_15 = (-2) := hp
    have hr_15 := hp
    subst hr_15
    have hC : comeC x = (-2) := by
      clear hret hI
      unfold comeC
      repeat' split
      all_goals first | rfl | (exfalso; omega) | contradiction | (exfalso; simp_all; done) | simp_all
    have eiv10 : gd (comeC x) (nI (n + cmN n x)) (iv 10) = iv 10 := by rw [hC]; first | rfl | (simp only [gd_0]; split <;> first | rfl | contradiction)
    have eiv19 : gd (comeC x) ((cmS n (iv 19) (ia 11) (ia 12) K (cmN n x)).1) (iv 19) = iv 19 := by rw [hC]; first | rfl | (simp only [gd_0]; split <;> first | rfl | contradiction)
    have eia9 : bumpR (ia 9) (comeC x) = va_up (ia 9) 2 (ia 9 2 + 1) := by rw [hC]; exact bump_2 _
    have eia11 : gd (comeC x) ((cmS n (iv 19) (ia 11) (ia 12) K (cmN n x)).2.1) (ia 11) = ia 11 := by rw [hC]; first | rfl | (simp only [gd_0]; split <;> first | rfl | contradiction)
    have eia12 : gd (comeC x) ((cmS n (iv 19) (ia 11) (ia 12) K (cmN n x)).2.2.1) (ia 12) = ia 12 := by rw [hC]; first | rfl | (simp only [gd_0]; split <;> first | rfl | contradiction)
    have eK : gd (comeC x) ((cmS n (iv 19) (ia 11) (ia 12) K (cmN n x)).2.2.2) K = K := by rw [hC]; first | rfl | (simp only [gd_0]; split <;> first | rfl | contradiction)
    have hI := wI_w (ws' := mW E ad kp tr (va_up (va_up iv 10 (gd (comeC x) (nI (n + cmN n x)) (iv 10))) 19 (gd (comeC x) ((cmS n (iv 19) (ia 11) (ia 12) K (cmN n x)).1) (iv 19))) (va_up (va_up (va_up ia 9 (bumpR (ia 9) (comeC x))) 11 (gd (comeC x) ((cmS n (iv 19) (ia 11) (ia 12) K (cmN n x)).2.1) (ia 11))) 12 (gd (comeC x) ((cmS n (iv 19) (ia 11) (ia 12) K (cmN n x)).2.2.1) (ia 12))) (gd (comeC x) ((cmS n (iv 19) (ia 11) (ia 12) K (cmN n x)).2.2.2) K) R mv) (by rw [eiv10, eiv19, eia9, eia11, eia12, eK, va_up_id (f := iv) (k := 10) (v := iv 10) rfl, va_up_id (f := iv) (k := 19) (v := iv 19) rfl, va_up_id (f := (va_up ia 9 (va_up (ia 9) 2 (ia 9 2 + 1)))) (k := 11) (v := ia 11) (up_n (by decide) rfl), va_up_id (f := (va_up ia 9 (va_up (ia 9) 2 (ia 9 2 + 1)))) (k := 12) (v := ia 12) (up_n (by decide) rfl)]; try rfl) hI
    exact hret () (-2) _ _ 0 0 _ _ dX5_come_18 hI (by show (-2) = gd (comeC x) (nI (cmN n x)) (comeC x); rw [hC]; first | rfl | (simp only [gd_0]; split <;> first | rfl | contradiction)) (Nat.le_of_ble_eq_true rfl) (Nat.le_of_ble_eq_true rfl) rfl

theorem c5_status (l : Launch) (E : En) (ad : Nat → Nat) (kp tr : Option Nat) (iv : Nat → Int32) (ia K : Nat → Nat → Int32) (R : Nat → Nat → Int64) (mv : Nat → Int64) (n : Nat) (x : Int32) (hn : iv 10 = nI n) (hn7 : n ≤ 7) : CtI l E yX5_status cX5_status 4 .int 3 0 0 [.ref (ad 45), .int x] (mW E ad kp tr iv ia K R mv) (fun (r : Int32) (u : Unit) => r = statV iv (ia 0) (ia 9) K n x) (fun (u : Unit) => mW E ad kp tr iv ia K R mv) := by
  have h28 : 2 ^ n ≤ 2 ^ 7 := Nat.pow_le_pow_right (by decide) hn7
  refine CtI.of (by decide +kernel) (Nat.le_of_ble_eq_true rfl) ?_
  intro pR eR sR mR aR bR tR cR AR ls QR hxR hbR hmlR hts hown hlk hnm hA hK hI hl hret
  have hl : lv_has ls 4 [(0, .ref (ad 45)), (1, .int x)] := hl
  refine lv_iconst (v := 0) hxR hbR dX5_status_0 (by decide) ?_
  refine lv_istore_n (lv' := [(2, .int 0), (0, .ref (ad 45)), (1, .int x)]) hxR hbR dX5_status_1 rfl hl (by decide) rfl (fun ls hl => ?_)
  refine lv_iload_n hxR hbR dX5_status_2 rfl (lv_at hl 2 rfl) ?_
  by_cases c_3_0 : x = 0
  · skip
    refine lv_tableIn (off := 53) (tgt := 56) hxR hbR dX5_status_3 (by rw [c_3_0]; decide) (by rw [c_3_0]; decide) (by rw [c_3_0]; rfl) (by decide) ?_
    refine lv_aload_n hxR hbR dX5_status_56 rfl (lv_at hl 1 rfl) ?_
    refine r_get hxR hbR hts hown hK hI okX5 (ci := 5) rfl 16 mW_o 10 (by decide) q1488 rfl (v := .int (nI n)) (al hn) dX5_status_57 ?_
    exact hret () (nI n) _ _ _ _ _ _ dX5_status_60 hI (by show (nI n) = statV iv (ia 0) (ia 9) K n x; rw [c_3_0]; exact hn.symm) (Nat.le_of_ble_eq_true rfl) (Nat.le_of_ble_eq_true rfl) rfl
  by_cases c_3_1 : x = 1
  · skip
    refine lv_tableIn (off := 58) (tgt := 61) hxR hbR dX5_status_3 (by rw [c_3_1]; decide) (by rw [c_3_1]; decide) (by rw [c_3_1]; rfl) (by decide) ?_
    refine lv_aload_n hxR hbR dX5_status_61 rfl (lv_at hl 1 rfl) ?_
    refine r_get hxR hbR hts hown hK hI okX5 (ci := 5) rfl 16 mW_o 14 (by decide) q1492 rfl (v := .int (iv 14)) (al rfl) dX5_status_62 ?_
    exact hret () (iv 14) _ _ _ _ _ _ dX5_status_65 hI (by show (iv 14) = statV iv (ia 0) (ia 9) K n x; first | (rw [c_3_0]; rfl) | (rw [c_3_1]; rfl) | (rw [c_3_2]; rfl) | (rw [c_3_3]; rfl) | (rw [c_3_4]; rfl) | (rw [c_3_5]; rfl) | (rw [c_3_6]; rfl) | (rw [c_3_7]; rfl) | (rw [c_3_8]; rfl)) (Nat.le_of_ble_eq_true rfl) (Nat.le_of_ble_eq_true rfl) rfl
  by_cases c_3_2 : x = 2
  · skip
    refine lv_tableIn (off := 63) (tgt := 66) hxR hbR dX5_status_3 (by rw [c_3_2]; decide) (by rw [c_3_2]; decide) (by rw [c_3_2]; rfl) (by decide) ?_
    refine lv_aload_n hxR hbR dX5_status_66 rfl (lv_at hl 1 rfl) ?_
    refine r_get hxR hbR hts hown hK hI okX5 (ci := 5) rfl 16 mW_o 15 (by decide) q1493 rfl (v := .int (iv 15)) (al rfl) dX5_status_67 ?_
    exact hret () (iv 15) _ _ _ _ _ _ dX5_status_70 hI (by show (iv 15) = statV iv (ia 0) (ia 9) K n x; first | (rw [c_3_0]; rfl) | (rw [c_3_1]; rfl) | (rw [c_3_2]; rfl) | (rw [c_3_3]; rfl) | (rw [c_3_4]; rfl) | (rw [c_3_5]; rfl) | (rw [c_3_6]; rfl) | (rw [c_3_7]; rfl) | (rw [c_3_8]; rfl)) (Nat.le_of_ble_eq_true rfl) (Nat.le_of_ble_eq_true rfl) rfl
  by_cases c_3_3 : x = 3
  · skip
    refine lv_tableIn (off := 68) (tgt := 71) hxR hbR dX5_status_3 (by rw [c_3_3]; decide) (by rw [c_3_3]; decide) (by rw [c_3_3]; rfl) (by decide) ?_
    refine lv_aload_n hxR hbR dX5_status_71 rfl (lv_at hl 1 rfl) ?_
    refine lv_aload_n hxR hbR dX5_status_72 rfl (lv_at hl 1 rfl) ?_
    refine kVI (n := 0) (As := []) (rest := [.ref (ad 45)]) (fun w => w) hxR hbR hmlR hts hown hK hA hl.1 isCtx.id hI (c5_all l E ad kp tr iv ia K R mv n hn (by omega)) (lw_V q1664 q1666 qs36 q86 q1667) ⟨rfl, by decide +kernel⟩ 16 5 rfl rfl mW_o rfl (Nat.le_of_ble_eq_true rfl) (Nat.le_of_ble_eq_true rfl) ⟨Nat.le_of_ble_eq_true rfl, Nat.le_of_ble_eq_true rfl⟩ (Nat.le_of_ble_eq_true rfl) dX5_status_73 (fun r_73 u H locs hp hI hz => ?_)
    have hI : wI E AR sR H locs (mW E ad kp tr iv ia K R mv) := hI
    have hp : r_73 = nI (2 ^ n - 1) := hp
    have hr_73 := hp
    subst hr_73
    refine kVI (n := 1) (As := [.int (nI (2 ^ n - 1))]) (rest := []) (fun w => w) hxR hbR hmlR hts hown hK hA hl.1 isCtx.id hI (c5_pairsOf l E ad kp tr iv ia K R mv n (2 ^ n - 1) hn (by omega) (by omega)) (lw_V q1954 q1956 qs73 q86 q1957) ⟨rfl, by decide +kernel⟩ 16 5 rfl rfl mW_o rfl (Nat.le_of_ble_eq_true rfl) (Nat.le_of_ble_eq_true rfl) ⟨Nat.le_of_ble_eq_true rfl, Nat.le_of_ble_eq_true rfl⟩ (Nat.le_of_ble_eq_true rfl) dX5_status_76 (fun r_76 u H locs hp hI hz => ?_)
    have hI : wI E AR sR H locs (mW E ad kp tr iv ia K R mv) := hI
    have hp : r_76 = nI (mC K (2 ^ n - 1) n) := hp
    have hr_76 := hp
    subst hr_76
    exact hret () (nI (mC K (2 ^ n - 1) n)) _ _ _ _ _ _ dX5_status_79 hI (by show (nI (mC K (2 ^ n - 1) n)) = statV iv (ia 0) (ia 9) K n x; first | (rw [c_3_0]; rfl) | (rw [c_3_1]; rfl) | (rw [c_3_2]; rfl) | (rw [c_3_3]; rfl) | (rw [c_3_4]; rfl) | (rw [c_3_5]; rfl) | (rw [c_3_6]; rfl) | (rw [c_3_7]; rfl) | (rw [c_3_8]; rfl)) (Nat.le_of_ble_eq_true rfl) (Nat.le_of_ble_eq_true rfl) rfl
  by_cases c_3_4 : x = 4
  · skip
    refine lv_tableIn (off := 77) (tgt := 80) hxR hbR dX5_status_3 (by rw [c_3_4]; decide) (by rw [c_3_4]; decide) (by rw [c_3_4]; rfl) (by decide) ?_
    refine lv_aload_n hxR hbR dX5_status_80 rfl (lv_at hl 1 rfl) ?_
    refine r_get hxR hbR hts hown hK hI okX5 (ci := 5) rfl 16 mW_o 16 (by decide) q1494 rfl (v := .int (iv 16)) (al rfl) dX5_status_81 ?_
    exact hret () (iv 16) _ _ _ _ _ _ dX5_status_84 hI (by show (iv 16) = statV iv (ia 0) (ia 9) K n x; first | (rw [c_3_0]; rfl) | (rw [c_3_1]; rfl) | (rw [c_3_2]; rfl) | (rw [c_3_3]; rfl) | (rw [c_3_4]; rfl) | (rw [c_3_5]; rfl) | (rw [c_3_6]; rfl) | (rw [c_3_7]; rfl) | (rw [c_3_8]; rfl)) (Nat.le_of_ble_eq_true rfl) (Nat.le_of_ble_eq_true rfl) rfl
  by_cases c_3_5 : x = 5
  · skip
    refine lv_tableIn (off := 82) (tgt := 85) hxR hbR dX5_status_3 (by rw [c_3_5]; decide) (by rw [c_3_5]; decide) (by rw [c_3_5]; rfl) (by decide) ?_
    refine lv_aload_n hxR hbR dX5_status_85 rfl (lv_at hl 1 rfl) ?_
    refine r_get hxR hbR hts hown hK hI okX5 (ci := 5) rfl 16 mW_o 17 (by decide) q1495 rfl (v := .int (iv 17)) (al rfl) dX5_status_86 ?_
    exact hret () (iv 17) _ _ _ _ _ _ dX5_status_89 hI (by show (iv 17) = statV iv (ia 0) (ia 9) K n x; first | (rw [c_3_0]; rfl) | (rw [c_3_1]; rfl) | (rw [c_3_2]; rfl) | (rw [c_3_3]; rfl) | (rw [c_3_4]; rfl) | (rw [c_3_5]; rfl) | (rw [c_3_6]; rfl) | (rw [c_3_7]; rfl) | (rw [c_3_8]; rfl)) (Nat.le_of_ble_eq_true rfl) (Nat.le_of_ble_eq_true rfl) rfl
  by_cases c_3_6 : x = 6
  · skip
    refine lv_tableIn (off := 87) (tgt := 90) hxR hbR dX5_status_3 (by rw [c_3_6]; decide) (by rw [c_3_6]; decide) (by rw [c_3_6]; rfl) (by decide) ?_
    refine lv_aload_n hxR hbR dX5_status_90 rfl (lv_at hl 1 rfl) ?_
    refine r_get hxR hbR hts hown hK hI okX5 (ci := 5) rfl 16 mW_o 18 (by decide) q1496 rfl (v := .int (iv 18)) (al rfl) dX5_status_91 ?_
    exact hret () (iv 18) _ _ _ _ _ _ dX5_status_94 hI (by show (iv 18) = statV iv (ia 0) (ia 9) K n x; first | (rw [c_3_0]; rfl) | (rw [c_3_1]; rfl) | (rw [c_3_2]; rfl) | (rw [c_3_3]; rfl) | (rw [c_3_4]; rfl) | (rw [c_3_5]; rfl) | (rw [c_3_6]; rfl) | (rw [c_3_7]; rfl) | (rw [c_3_8]; rfl)) (Nat.le_of_ble_eq_true rfl) (Nat.le_of_ble_eq_true rfl) rfl
  by_cases c_3_7 : x = 7
  · skip
    refine lv_tableIn (off := 92) (tgt := 95) hxR hbR dX5_status_3 (by rw [c_3_7]; decide) (by rw [c_3_7]; decide) (by rw [c_3_7]; rfl) (by decide) ?_
    refine lv_aload_n hxR hbR dX5_status_95 rfl (lv_at hl 1 rfl) ?_
    refine r_get hxR hbR hts hown hK hI okX5 (ci := 5) rfl 16 mW_o 8 (by decide) q1486 rfl (v := .int (iv 8)) (al rfl) dX5_status_96 ?_
    exact hret () (iv 8) _ _ _ _ _ _ dX5_status_99 hI (by show (iv 8) = statV iv (ia 0) (ia 9) K n x; first | (rw [c_3_0]; rfl) | (rw [c_3_1]; rfl) | (rw [c_3_2]; rfl) | (rw [c_3_3]; rfl) | (rw [c_3_4]; rfl) | (rw [c_3_5]; rfl) | (rw [c_3_6]; rfl) | (rw [c_3_7]; rfl) | (rw [c_3_8]; rfl)) (Nat.le_of_ble_eq_true rfl) (Nat.le_of_ble_eq_true rfl) rfl
  by_cases c_3_8 : x = 8
  · skip
    refine lv_tableIn (off := 97) (tgt := 100) hxR hbR dX5_status_3 (by rw [c_3_8]; decide) (by rw [c_3_8]; decide) (by rw [c_3_8]; rfl) (by decide) ?_
    refine lv_aload_n hxR hbR dX5_status_100 rfl (lv_at hl 1 rfl) ?_
    refine r_get hxR hbR hts hown hK hI okX5 (ci := 5) rfl 16 mW_o 19 (by decide) q1497 rfl (v := .int (iv 19)) (al rfl) dX5_status_101 ?_
    exact hret () (iv 19) _ _ _ _ _ _ dX5_status_104 hI (by show (iv 19) = statV iv (ia 0) (ia 9) K n x; first | (rw [c_3_0]; rfl) | (rw [c_3_1]; rfl) | (rw [c_3_2]; rfl) | (rw [c_3_3]; rfl) | (rw [c_3_4]; rfl) | (rw [c_3_5]; rfl) | (rw [c_3_6]; rfl) | (rw [c_3_7]; rfl) | (rw [c_3_8]; rfl)) (Nat.le_of_ble_eq_true rfl) (Nat.le_of_ble_eq_true rfl) rfl
  by_cases c_3_9 : x = 9
  · skip
    refine lv_tableIn (off := 102) (tgt := 105) hxR hbR dX5_status_3 (by rw [c_3_9]; decide) (by rw [c_3_9]; decide) (by rw [c_3_9]; rfl) (by decide) ?_
    refine lv_iconst (v := 0) hxR hbR dX5_status_105 (by decide) ?_
    refine lv_istore_n (lv' := [(3, .int 0), (2, .int 0), (0, .ref (ad 45)), (1, .int x)]) hxR hbR dX5_status_106 rfl hl (by decide) rfl (fun ls hl => ?_)
    have lp_107 : ∀ (fu : Nat) (a : Nat) (s : Nat), (s ≤ 8) → (a = heldV (ia 0) s) → 8 - s < fu → ∀ (H : Heap) (locs : List Loc), wI E AR sR H locs (mW E ad kp tr iv ia K R mv) → ∀ ls : Array Slot, lv_has ls 4 [(0, .ref (ad 45)), (1, .int x), (2, .int (nI a)), (3, .int (nI s))] → W pR l eR (rmF 3 0 0) sR mR aR bR tR cR H locs 0 0 QR (F0 mR 107 ls []) := by
      intro fu
      induction fu with
      | zero =>
        intro a s hs8 ha hfu
        exact absurd hfu (Nat.not_lt_zero _)
      | succ fu ih_107 =>
        intro a s hs8 ha hfu H locs hI ls hl
        refine lv_iload_n hxR hbR dX5_status_107 rfl (lv_at hl 3 rfl) ?_
        refine lv_bipush (v := 8) hxR hbR dX5_status_108 (by decide) ?_
        refine lv_icmp_ge (tgt := 136) hxR hbR dX5_status_110 (by decide) (fun c_110 => ?_) (fun c_110 => ?_)
        · skip
          have c_110 : 8 ≤ s := (n_le (a := 8) (b := s) (by omega) (by omega)).mp c_110
          refine lv_iload_n hxR hbR dX5_status_136 rfl (lv_at hl 2 rfl) ?_
          exact hret () (nI a) _ _ _ _ _ _ dX5_status_137 hI (by show (nI a) = statV iv (ia 0) (ia 9) K n x; rw [c_3_9]; rw [ha, show s = 8 by omega]; rfl) (Nat.le_of_ble_eq_true rfl) (Nat.le_of_ble_eq_true rfl) rfl
        · skip
          have c_110 : s < 8 := Nat.lt_of_not_le (fun zz => c_110 ((n_le (a := 8) (b := s) (by omega) (by omega)).mpr zz))
          refine lv_iload_n hxR hbR dX5_status_113 rfl (lv_at hl 2 rfl) ?_
          refine lv_aload_n hxR hbR dX5_status_114 rfl (lv_at hl 0 rfl) ?_
          refine r_get hxR hbR hts hown hK hI okX5 (ci := 5) rfl 16 mW_o 0 (by decide) q1478 rfl (v := .ref (ad 0)) rfl dX5_status_115 ?_
          refine lv_iload_n hxR hbR dX5_status_118 rfl (lv_at hl 3 rfl) ?_
          refine r_iald hxR hbR hK hI 17 (n := 8) (J := s) (f := ia 0) (v := (ia 0) s) (mW_g0 rfl) (by omega) (by decide) rfl dX5_status_119 ?_
          refine lv_if_eq (tgt := 127) hxR hbR dX5_status_120 (by decide) (fun c_120 => ?_) (fun c_120 => ?_)
          · skip
            have i_120 : ((ia 0) s).toInt = 0 := by have zz := i_eq.mp c_120; exact zz
            refine lv_iconst (v := 0) hxR hbR dX5_status_127 (by decide) ?_
            refine lv_iadd hxR hbR dX5_status_128 ?_
            refine lv_as (y := nI a) (nI_add a 0) ?_
            refine lv_istore_n (lv' := [(2, .int (nI a)), (0, .ref (ad 45)), (1, .int x), (3, .int (nI s))]) hxR hbR dX5_status_129 rfl hl (by decide) rfl (fun ls hl => ?_)
            refine lv_iinc (v := nI (s + 1)) (lv' := [(3, .int (nI (s + 1))), (2, .int (nI a)), (0, .ref (ad 45)), (1, .int x)]) hxR hbR dX5_status_130 hl (k := 3) rfl (show nI s + 1 = nI (s + 1) from nI_add _ 1) (by decide) rfl (fun ls hl => ?_)
            refine lv_goto (tgt := 107) hxR hbR dX5_status_133 (by decide) ?_
            exact ih_107 a (s + 1) (by first | omega | with_reducible assumption) (by rw [ha, heldV]; first | (rw [if_pos c_120]; rfl) | rw [if_neg c_120]) (by omega) _ _ hI _ (lv_sub hl [2, 3, 1, 0] rfl)
          · skip
            have i_120 : ¬ (((ia 0) s).toInt = 0) := by have zz := mt i_eq.mpr c_120; exact zz
            refine lv_iconst (v := 1) hxR hbR dX5_status_123 (by decide) ?_
            refine lv_goto (tgt := 128) hxR hbR dX5_status_124 (by decide) ?_
            refine lv_iadd hxR hbR dX5_status_128 ?_
            refine lv_as (y := nI (a + 1)) (nI_add a 1) ?_
            refine lv_istore_n (lv' := [(2, .int (nI (a + 1))), (0, .ref (ad 45)), (1, .int x), (3, .int (nI s))]) hxR hbR dX5_status_129 rfl hl (by decide) rfl (fun ls hl => ?_)
            refine lv_iinc (v := nI (s + 1)) (lv' := [(3, .int (nI (s + 1))), (2, .int (nI (a + 1))), (0, .ref (ad 45)), (1, .int x)]) hxR hbR dX5_status_130 hl (k := 3) rfl (show nI s + 1 = nI (s + 1) from nI_add _ 1) (by decide) rfl (fun ls hl => ?_)
            refine lv_goto (tgt := 107) hxR hbR dX5_status_133 (by decide) ?_
            exact ih_107 (a + 1) (s + 1) (by first | omega | with_reducible assumption) (by rw [ha, heldV]; first | (rw [if_pos c_120]; rfl) | rw [if_neg c_120]) (by omega) _ _ hI _ (lv_sub hl [2, 3, 1, 0] rfl)
    exact lp_107 _ 0 0 (by first | omega | with_reducible assumption) rfl (Nat.lt_succ_self _) _ _ hI _ (lv_sub hl [2, 3, 1, 0] rfl)
  have c_3_d : x.toInt < 0 ∨ 9 < x.toInt := by
    have z0 : ¬ x.toInt = 0 := fun q => c_3_0 (Int32.toInt_inj.mp q)
    have z1 : ¬ x.toInt = 1 := fun q => c_3_1 (Int32.toInt_inj.mp q)
    have z2 : ¬ x.toInt = 2 := fun q => c_3_2 (Int32.toInt_inj.mp q)
    have z3 : ¬ x.toInt = 3 := fun q => c_3_3 (Int32.toInt_inj.mp q)
    have z4 : ¬ x.toInt = 4 := fun q => c_3_4 (Int32.toInt_inj.mp q)
    have z5 : ¬ x.toInt = 5 := fun q => c_3_5 (Int32.toInt_inj.mp q)
    have z6 : ¬ x.toInt = 6 := fun q => c_3_6 (Int32.toInt_inj.mp q)
    have z7 : ¬ x.toInt = 7 := fun q => c_3_7 (Int32.toInt_inj.mp q)
    have z8 : ¬ x.toInt = 8 := fun q => c_3_8 (Int32.toInt_inj.mp q)
    have z9 : ¬ x.toInt = 9 := fun q => c_3_9 (Int32.toInt_inj.mp q)
    omega
  refine lv_tableOut (tgt := 138) hxR hbR dX5_status_3 c_3_d (by decide) ?_
  refine lv_iload_n hxR hbR dX5_status_138 rfl (lv_at hl 2 rfl) ?_
  refine lv_i2l (v := x.toInt64) hxR hbR dX5_status_139 rfl ?_
  refine lv_ldc2 (v := 12) hxR hbR hown (hts _ q2054) dX5_status_140 ?_
  refine lv_ldc2 (v := 16) hxR hbR hown (hts _ q2055) dX5_status_143 ?_
  refine kSI (n := 3) (As := [.long x.toInt64, .long (12 : Int64), .long (16 : Int64)]) (rest := []) (fun w => w ++ (mW E ad kp tr iv ia K R mv)) hxR hbR hmlR hts hown hK hA hl.1 (isCtx.suf _) hI (c5_in l E  x.toInt64 (12 : Int64) (16 : Int64) ) (lw_S q1619 q1620 q86 q1621) (by decide +kernel) rfl (Nat.le_of_ble_eq_true rfl) (Nat.le_of_ble_eq_true rfl) ⟨Nat.le_of_ble_eq_true rfl, Nat.le_of_ble_eq_true rfl⟩ (Nat.le_of_ble_eq_true rfl) dX5_status_146 (fun r_146 u H locs hp hI hz => ?_)
  have hI : wI E AR sR H locs (mW E ad kp tr iv ia K R mv) := hI
  have hp : r_146 = b2i (inL x.toInt64 (12 : Int64) (16 : Int64)) := hp
  have hr_146 := hp
  rcases b2i_cases hr_146 with ⟨c_146, rfl⟩ | ⟨c_146, rfl⟩
  · skip
    have c_146 : (12 : Int64).toInt ≤ x.toInt64.toInt ∧ x.toInt64.toInt ≤ (16 : Int64).toInt := of_decide_eq_true c_146
    have c_146 : 12 ≤ x.toInt ∧ x.toInt ≤ 16 := by simp only [Int32.toInt_toInt64] at c_146; exact c_146
    obtain ⟨X, hX, rfl⟩ := nat_of_le (k := 16) ⟨by omega, c_146.2⟩ (by decide)
    have tX : (nI X).toInt = (X : Int) := nI_toInt (by omega)
    refine lv_if_eq (tgt := 164) hxR hbR dX5_status_149 (by decide) (fun c => absurd c (by decide)) (fun _ => ?_)
    refine lv_aload_n hxR hbR dX5_status_152 rfl (lv_at hl 1 rfl) ?_
    refine r_get hxR hbR hts hown hK hI okX5 (ci := 5) rfl 16 mW_o 9 (by decide) q1487 rfl (v := .ref (ad 9)) rfl dX5_status_153 ?_
    refine lv_iload_n hxR hbR dX5_status_156 rfl (lv_at hl 2 rfl) ?_
    refine lv_bipush (v := 10) hxR hbR dX5_status_157 (by decide) ?_
    refine lv_isub hxR hbR dX5_status_159 ?_
    refine lv_as (y := nI (X - 10)) (pk_sub (a := X) (b := 10) (by omega)) ?_
    refine r_iald hxR hbR hK hI 25 (n := 8) (J := X - 10) (f := ia 9) (v := (ia 9) (X - 10)) (mW_g9 rfl) (by omega) (by decide) rfl dX5_status_160 ?_
    refine lv_goto (tgt := 165) hxR hbR dX5_status_161 (by decide) ?_
    exact hret () ((ia 9) (X - 10)) _ _ _ _ _ _ dX5_status_165 hI (by show ((ia 9) (X - 10)) = statV iv (ia 0) (ia 9) K n (nI X); unfold statV; rw [if_neg c_3_0, if_neg c_3_1, if_neg c_3_2, if_neg c_3_3, if_neg c_3_4, if_neg c_3_5, if_neg c_3_6, if_neg c_3_7, if_neg c_3_8, if_neg c_3_9]; first | (rw [if_pos c_146, nI_clamp (by omega)]) | rw [if_neg c_146]) (Nat.le_of_ble_eq_true rfl) (Nat.le_of_ble_eq_true rfl) rfl
  · skip
    have c_146 : ¬ ((12 : Int64).toInt ≤ x.toInt64.toInt ∧ x.toInt64.toInt ≤ (16 : Int64).toInt) := of_decide_eq_false c_146
    have c_146 : ¬ (12 ≤ x.toInt ∧ x.toInt ≤ 16) := by simp only [Int32.toInt_toInt64] at c_146; exact c_146
    refine lv_if_eq (tgt := 164) hxR hbR dX5_status_149 (by decide) (fun _ => ?_) (fun c => absurd c (by decide))
    refine lv_iconst (v := (-1)) hxR hbR dX5_status_164 (by decide) ?_
    exact hret () (-1) _ _ _ _ _ _ dX5_status_165 hI (by show (-1) = statV iv (ia 0) (ia 9) K n x; unfold statV; rw [if_neg c_3_0, if_neg c_3_1, if_neg c_3_2, if_neg c_3_3, if_neg c_3_4, if_neg c_3_5, if_neg c_3_6, if_neg c_3_7, if_neg c_3_8, if_neg c_3_9]; first | (rw [if_pos c_146, nI_clamp (by omega)]) | rw [if_neg c_146]) (Nat.le_of_ble_eq_true rfl) (Nat.le_of_ble_eq_true rfl) rfl

theorem c5_personOf (l : Launch) (E : En) (ad : Nat → Nat) (kp tr : Option Nat) (iv : Nat → Int32) (ia K : Nat → Nat → Int32) (R : Nat → Nat → Int64) (mv : Nat → Int64) (n : Nat) (x w : Int32) (hn : iv 10 = nI n) (hn7 : n ≤ 7) : CtI l E yX5_personOf cX5_personOf 3 .int 3 0 0 [.ref (ad 45), .int x, .int w] (mW E ad kp tr iv ia K R mv) (fun (r : Int32) (u : Unit) => r = gd (perOfC n x w) (perOfV (ia 11) (ia 12) K n x w) (perOfC n x w)) (fun (u : Unit) => mW E ad kp tr iv (va_up ia 9 (bumpR (ia 9) (perOfC n x w))) K R mv) := by
  refine CtI.of (by decide +kernel) (Nat.le_of_ble_eq_true rfl) ?_
  intro pR eR sR mR aR bR tR cR AR ls QR hxR hbR hmlR hts hown hlk hnm hA hK hI hl hret
  have hl : lv_has ls 3 [(0, .ref (ad 45)), (1, .int x), (2, .int w)] := hl
  refine lv_aload_n hxR hbR dX5_personOf_0 rfl (lv_at hl 0 rfl) ?_
  refine lv_iload_n hxR hbR dX5_personOf_1 rfl (lv_at hl 1 rfl) ?_
  refine kVI (n := 1) (As := [.int x]) (rest := []) (fun w => w) hxR hbR hmlR hts hown hK hA hl.1 isCtx.id hI (c5_isOne l E ad kp tr iv ia K R mv n x hn (by omega)) (lw_V q1723 q1725 qs47 q86 q1726) ⟨rfl, by decide +kernel⟩ 16 5 rfl rfl mW_o rfl (Nat.le_of_ble_eq_true rfl) (Nat.le_of_ble_eq_true rfl) ⟨Nat.le_of_ble_eq_true rfl, Nat.le_of_ble_eq_true rfl⟩ (Nat.le_of_ble_eq_true rfl) dX5_personOf_2 (fun r_2 u H locs hp hI hz => ?_)
  have hI : wI E AR sR H locs (mW E ad kp tr iv ia K R mv) := hI
  have hp : r_2 = b2i (decide (0 ≤ x.toInt ∧ x.toInt < (n : Int))) := hp
  have hr_2 := hp
  rcases b2i_cases hr_2 with ⟨c_2, rfl⟩ | ⟨c_2, rfl⟩
  · skip
    have c_2 : 0 ≤ x.toInt ∧ x.toInt < (n : Int) := of_decide_eq_true c_2
    obtain ⟨P, hP, rfl⟩ := nat_of c_2 (by omega)
    have tP : (nI P).toInt = (P : Int) := nI_toInt (by omega)
    refine lv_if_eq (tgt := 20) hxR hbR dX5_personOf_5 (by decide) (fun c => absurd c (by decide)) (fun _ => ?_)
    refine lv_iload_n hxR hbR dX5_personOf_8 rfl (lv_at hl 2 rfl) ?_
    refine lv_i2l (v := w.toInt64) hxR hbR dX5_personOf_9 rfl ?_
    refine lv_lconst (v := 0) hxR hbR dX5_personOf_10 (by decide) ?_
    refine lv_ldc2 (v := 3) hxR hbR hown (hts _ q1853) dX5_personOf_11 ?_
    refine kSI (n := 3) (As := [.long w.toInt64, .long (0 : Int64), .long (3 : Int64)]) (rest := []) (fun w => w ++ (mW E ad kp tr iv ia K R mv)) hxR hbR hmlR hts hown hK hA hl.1 (isCtx.suf _) hI (c5_in l E  w.toInt64 (0 : Int64) (3 : Int64) ) (lw_S q1619 q1620 q86 q1621) (by decide +kernel) rfl (Nat.le_of_ble_eq_true rfl) (Nat.le_of_ble_eq_true rfl) ⟨Nat.le_of_ble_eq_true rfl, Nat.le_of_ble_eq_true rfl⟩ (Nat.le_of_ble_eq_true rfl) dX5_personOf_14 (fun r_14 u H locs hp hI hz => ?_)
    have hI : wI E AR sR H locs (mW E ad kp tr iv ia K R mv) := hI
    have hp : r_14 = b2i (inL w.toInt64 (0 : Int64) (3 : Int64)) := hp
    have hr_14 := hp
    rcases b2i_cases hr_14 with ⟨c_14, rfl⟩ | ⟨c_14, rfl⟩
    · skip
      have c_14 : (0 : Int64).toInt ≤ w.toInt64.toInt ∧ w.toInt64.toInt ≤ (3 : Int64).toInt := of_decide_eq_true c_14
      have c_14 : 0 ≤ w.toInt ∧ w.toInt ≤ 3 := by simp only [Int32.toInt_toInt64] at c_14; exact c_14
      refine lv_if_ne (tgt := 27) hxR hbR dX5_personOf_17 (by decide) (fun _ => ?_) (fun c => absurd c (by decide))
      refine lv_iload_n hxR hbR dX5_personOf_27 rfl (lv_at hl 2 rfl) ?_
      by_cases c_28_0 : w = 0
      · skip
        refine lv_tableIn (off := 28) (tgt := 56) hxR hbR dX5_personOf_28 (by rw [c_28_0]; decide) (by rw [c_28_0]; decide) (by rw [c_28_0]; rfl) (by decide) ?_
        refine lv_aload_n hxR hbR dX5_personOf_56 rfl (lv_at hl 0 rfl) ?_
        refine r_get hxR hbR hts hown hK hI okX5 (ci := 5) rfl 16 mW_o 11 (by decide) q1489 rfl (v := .ref (ad 11)) rfl dX5_personOf_57 ?_
        refine lv_iload_n hxR hbR dX5_personOf_60 rfl (lv_at hl 1 rfl) ?_
        refine r_iald hxR hbR hK hI 26 (n := 8) (J := P) (f := ia 11) (v := (ia 11) P) (mW_g11 rfl) (by omega) (by decide) rfl dX5_personOf_61 ?_
        have hC : perOfC n (nI P) w = 0 := by
          clear hret hI
          unfold perOfC
          try simp only [nI_clamp (n := P) (by omega)]
          repeat' split
          all_goals first | rfl | (exfalso; omega) | contradiction | (exfalso; simp_all; done) | simp_all
        have eia9 : bumpR (ia 9) (perOfC n (nI P) w) = ia 9 := by rw [hC]; exact bump_0 _
        have hI := wI_w (ws' := mW E ad kp tr iv (va_up ia 9 (bumpR (ia 9) (perOfC n (nI P) w))) K R mv) (by rw [eia9, va_up_id (f := ia) (k := 9) (v := ia 9) rfl]; try rfl) hI
        exact hret () ((ia 11) P) _ _ 0 0 _ _ dX5_personOf_62 hI (by show ((ia 11) P) = gd (perOfC n (nI P) w) (perOfV (ia 11) (ia 12) K n (nI P) w) (perOfC n (nI P) w); rw [hC]; unfold perOfV; simp only [nI_clamp (n := P) (by omega)]; rw [c_28_0]; rfl) (Nat.le_of_ble_eq_true rfl) (Nat.le_of_ble_eq_true rfl) rfl
      by_cases c_28_1 : w = 1
      · skip
        refine lv_tableIn (off := 35) (tgt := 63) hxR hbR dX5_personOf_28 (by rw [c_28_1]; decide) (by rw [c_28_1]; decide) (by rw [c_28_1]; rfl) (by decide) ?_
        refine lv_aload_n hxR hbR dX5_personOf_63 rfl (lv_at hl 0 rfl) ?_
        refine r_get hxR hbR hts hown hK hI okX5 (ci := 5) rfl 16 mW_o 12 (by decide) q1490 rfl (v := .ref (ad 12)) rfl dX5_personOf_64 ?_
        refine lv_iload_n hxR hbR dX5_personOf_67 rfl (lv_at hl 1 rfl) ?_
        refine r_iald hxR hbR hK hI 27 (n := 8) (J := P) (f := ia 12) (v := (ia 12) P) (mW_g12 rfl) (by omega) (by decide) rfl dX5_personOf_68 ?_
        have hC : perOfC n (nI P) w = 0 := by
          clear hret hI
          unfold perOfC
          try simp only [nI_clamp (n := P) (by omega)]
          repeat' split
          all_goals first | rfl | (exfalso; omega) | contradiction | (exfalso; simp_all; done) | simp_all
        have eia9 : bumpR (ia 9) (perOfC n (nI P) w) = ia 9 := by rw [hC]; exact bump_0 _
        have hI := wI_w (ws' := mW E ad kp tr iv (va_up ia 9 (bumpR (ia 9) (perOfC n (nI P) w))) K R mv) (by rw [eia9, va_up_id (f := ia) (k := 9) (v := ia 9) rfl]; try rfl) hI
        exact hret () ((ia 12) P) _ _ 0 0 _ _ dX5_personOf_69 hI (by show ((ia 12) P) = gd (perOfC n (nI P) w) (perOfV (ia 11) (ia 12) K n (nI P) w) (perOfC n (nI P) w); rw [hC]; unfold perOfV; simp only [nI_clamp (n := P) (by omega)]; rw [c_28_1]; rfl) (Nat.le_of_ble_eq_true rfl) (Nat.le_of_ble_eq_true rfl) rfl
      by_cases c_28_2 : w = 2
      · skip
        refine lv_tableIn (off := 42) (tgt := 70) hxR hbR dX5_personOf_28 (by rw [c_28_2]; decide) (by rw [c_28_2]; decide) (by rw [c_28_2]; rfl) (by decide) ?_
        refine lv_aload_n hxR hbR dX5_personOf_70 rfl (lv_at hl 0 rfl) ?_
        refine lv_iload_n hxR hbR dX5_personOf_71 rfl (lv_at hl 1 rfl) ?_
        refine kVI (n := 1) (As := [.int (nI P)]) (rest := []) (fun w => w) hxR hbR hmlR hts hown hK hA hl.1 isCtx.id hI (c5_strangersOf l E ad kp tr iv ia K R mv n P hn (by omega) (by first | omega | with_reducible assumption)) (lw_V q1706 q1708 qs45 q86 q1709) ⟨rfl, by decide +kernel⟩ 16 5 rfl rfl mW_o rfl (Nat.le_of_ble_eq_true rfl) (Nat.le_of_ble_eq_true rfl) ⟨Nat.le_of_ble_eq_true rfl, Nat.le_of_ble_eq_true rfl⟩ (Nat.le_of_ble_eq_true rfl) dX5_personOf_72 (fun r_72 u H locs hp hI hz => ?_)
        have hI : wI E AR sR H locs (mW E ad kp tr iv ia K R mv) := hI
        have hp : r_72 = nI (strS K P n) := hp
        have hr_72 := hp
        subst hr_72
        have hC : perOfC n (nI P) w = 0 := by
          clear hret hI
          unfold perOfC
          try simp only [nI_clamp (n := P) (by omega)]
          repeat' split
          all_goals first | rfl | (exfalso; omega) | contradiction | (exfalso; simp_all; done) | simp_all
        have eia9 : bumpR (ia 9) (perOfC n (nI P) w) = ia 9 := by rw [hC]; exact bump_0 _
        have hI := wI_w (ws' := mW E ad kp tr iv (va_up ia 9 (bumpR (ia 9) (perOfC n (nI P) w))) K R mv) (by rw [eia9, va_up_id (f := ia) (k := 9) (v := ia 9) rfl]; try rfl) hI
        exact hret () (nI (strS K P n)) _ _ 0 0 _ _ dX5_personOf_75 hI (by show (nI (strS K P n)) = gd (perOfC n (nI P) w) (perOfV (ia 11) (ia 12) K n (nI P) w) (perOfC n (nI P) w); rw [hC]; unfold perOfV; simp only [nI_clamp (n := P) (by omega)]; rw [c_28_2]; rfl) (Nat.le_of_ble_eq_true rfl) (Nat.le_of_ble_eq_true rfl) rfl
      have c_28_d : w.toInt < 0 ∨ 2 < w.toInt := by
        have z0 : ¬ w.toInt = 0 := fun q => c_28_0 (Int32.toInt_inj.mp q)
        have z1 : ¬ w.toInt = 1 := fun q => c_28_1 (Int32.toInt_inj.mp q)
        have z2 : ¬ w.toInt = 2 := fun q => c_28_2 (Int32.toInt_inj.mp q)
        omega
      refine lv_tableOut (tgt := 76) hxR hbR dX5_personOf_28 c_28_d (by decide) ?_
      refine lv_aload_n hxR hbR dX5_personOf_76 rfl (lv_at hl 0 rfl) ?_
      refine lv_iload_n hxR hbR dX5_personOf_77 rfl (lv_at hl 1 rfl) ?_
      refine kVI (n := 1) (As := [.int (nI P)]) (rest := []) (fun w => w) hxR hbR hmlR hts hown hK hA hl.1 isCtx.id hI (c5_strangersOf l E ad kp tr iv ia K R mv n P hn (by omega) (by first | omega | with_reducible assumption)) (lw_V q1706 q1708 qs45 q86 q1709) ⟨rfl, by decide +kernel⟩ 16 5 rfl rfl mW_o rfl (Nat.le_of_ble_eq_true rfl) (Nat.le_of_ble_eq_true rfl) ⟨Nat.le_of_ble_eq_true rfl, Nat.le_of_ble_eq_true rfl⟩ (Nat.le_of_ble_eq_true rfl) dX5_personOf_78 (fun r_78 u H locs hp hI hz => ?_)
      have hI : wI E AR sR H locs (mW E ad kp tr iv ia K R mv) := hI
      have hp : r_78 = nI (strS K P n) := hp
      have hr_78 := hp
      subst hr_78
      refine kSI (n := 1) (As := [.int (nI (strS K P n))]) (rest := []) (fun w => w ++ (mW E ad kp tr iv ia K R mv)) hxR hbR hmlR hts hown hK hA hl.1 (isCtx.suf _) hI (c5_bits l E  (strS K P n) (Nat.lt_trans (strS_lt K P n) (Nat.pow_lt_pow_right (by decide) (by omega)))) (lw_S q1683 q1684 q86 q1685) (by decide +kernel) rfl (Nat.le_of_ble_eq_true rfl) (Nat.le_of_ble_eq_true rfl) ⟨Nat.le_of_ble_eq_true rfl, Nat.le_of_ble_eq_true rfl⟩ (Nat.le_of_ble_eq_true rfl) dX5_personOf_81 (fun r_81 u H locs hp hI hz => ?_)
      have hI : wI E AR sR H locs (mW E ad kp tr iv ia K R mv) := hI
      have hp : r_81 = nI (bitsN (strS K P n) 8) := hp
      have hr_81 := hp
      subst hr_81
      have hC : perOfC n (nI P) w = 0 := by
        clear hret hI
        unfold perOfC
        try simp only [nI_clamp (n := P) (by omega)]
        repeat' split
        all_goals first | rfl | (exfalso; omega) | contradiction | (exfalso; simp_all; done) | simp_all
      have eia9 : bumpR (ia 9) (perOfC n (nI P) w) = ia 9 := by rw [hC]; exact bump_0 _
      have hI := wI_w (ws' := mW E ad kp tr iv (va_up ia 9 (bumpR (ia 9) (perOfC n (nI P) w))) K R mv) (by rw [eia9, va_up_id (f := ia) (k := 9) (v := ia 9) rfl]; try rfl) hI
      exact hret () (nI (bitsN (strS K P n) 8)) _ _ 0 0 _ _ dX5_personOf_84 hI (by show (nI (bitsN (strS K P n) 8)) = gd (perOfC n (nI P) w) (perOfV (ia 11) (ia 12) K n (nI P) w) (perOfC n (nI P) w); rw [hC]; unfold perOfV; simp only [nI_clamp (n := P) (by omega)]; rw [if_neg c_28_0, if_neg c_28_1, if_neg c_28_2]; rfl) (Nat.le_of_ble_eq_true rfl) (Nat.le_of_ble_eq_true rfl) rfl
    · skip
      have c_14 : ¬ ((0 : Int64).toInt ≤ w.toInt64.toInt ∧ w.toInt64.toInt ≤ (3 : Int64).toInt) := of_decide_eq_false c_14
      have c_14 : ¬ (0 ≤ w.toInt ∧ w.toInt ≤ 3) := by simp only [Int32.toInt_toInt64] at c_14; exact c_14
      refine lv_if_ne (tgt := 27) hxR hbR dX5_personOf_17 (by decide) (fun c => absurd c (by decide)) (fun _ => ?_)
      refine lv_aload_n hxR hbR dX5_personOf_20 rfl (lv_at hl 0 rfl) ?_
      refine lv_bipush (v := (-2)) hxR hbR dX5_personOf_21 (by decide) ?_
      refine kVI (n := 1) (As := [.int (-2)]) (rest := []) (fun w => w) hxR hbR hmlR hts hown hK hA hl.1 isCtx.id hI (c5_refuse l E ad kp tr iv ia K R mv (-2) 2 (by decide) (by decide)) (lw_V q1624 q1626 qs34 q86 q1627) ⟨rfl, by decide +kernel⟩ 16 5 rfl rfl mW_o rfl (Nat.le_of_ble_eq_true rfl) (Nat.le_of_ble_eq_true rfl) ⟨Nat.le_of_ble_eq_true rfl, Nat.le_of_ble_eq_true rfl⟩ (Nat.le_of_ble_eq_true rfl) dX5_personOf_23 (fun r_23 u H locs hp hI hz => ?_)
      have hI : wI E AR sR H locs (mW E ad kp tr iv (va_up ia 9 (va_up (ia 9) 2 (ia 9 2 + 1))) K R mv) := hI
      have hp : r_23 = (-2) := hp
      have hr_23 := hp
      subst hr_23
      have hC : perOfC n (nI P) w = (-2) := by
        clear hret hI
        unfold perOfC
        try simp only [nI_clamp (n := P) (by omega)]
        repeat' split
        all_goals first | rfl | (exfalso; omega) | contradiction | (exfalso; simp_all; done) | simp_all
      have eia9 : bumpR (ia 9) (perOfC n (nI P) w) = va_up (ia 9) 2 (ia 9 2 + 1) := by rw [hC]; exact bump_2 _
      have hI := wI_w (ws' := mW E ad kp tr iv (va_up ia 9 (bumpR (ia 9) (perOfC n (nI P) w))) K R mv) (by rw [eia9]; try rfl) hI
      exact hret () (-2) _ _ 0 0 _ _ dX5_personOf_26 hI (by show (-2) = gd (perOfC n (nI P) w) (perOfV (ia 11) (ia 12) K n (nI P) w) (perOfC n (nI P) w); rw [hC]; first | rfl | (simp only [nI_clamp (n := P) (by omega)]; rfl) | (simp only [gd_0, nI_clamp (n := P) (by omega)]; split <;> first | rfl | contradiction)) (Nat.le_of_ble_eq_true rfl) (Nat.le_of_ble_eq_true rfl) rfl
  · skip
    have c_2 : ¬ (0 ≤ x.toInt ∧ x.toInt < (n : Int)) := of_decide_eq_false c_2
    refine lv_if_eq (tgt := 20) hxR hbR dX5_personOf_5 (by decide) (fun _ => ?_) (fun c => absurd c (by decide))
    refine lv_aload_n hxR hbR dX5_personOf_20 rfl (lv_at hl 0 rfl) ?_
    refine lv_bipush (v := (-2)) hxR hbR dX5_personOf_21 (by decide) ?_
    refine kVI (n := 1) (As := [.int (-2)]) (rest := []) (fun w => w) hxR hbR hmlR hts hown hK hA hl.1 isCtx.id hI (c5_refuse l E ad kp tr iv ia K R mv (-2) 2 (by decide) (by decide)) (lw_V q1624 q1626 qs34 q86 q1627) ⟨rfl, by decide +kernel⟩ 16 5 rfl rfl mW_o rfl (Nat.le_of_ble_eq_true rfl) (Nat.le_of_ble_eq_true rfl) ⟨Nat.le_of_ble_eq_true rfl, Nat.le_of_ble_eq_true rfl⟩ (Nat.le_of_ble_eq_true rfl) dX5_personOf_23 (fun r_23 u H locs hp hI hz => ?_)
    have hI : wI E AR sR H locs (mW E ad kp tr iv (va_up ia 9 (va_up (ia 9) 2 (ia 9 2 + 1))) K R mv) := hI
    have hp : r_23 = (-2) := hp
    have hr_23 := hp
    subst hr_23
    have hC : perOfC n x w = (-2) := by
      clear hret hI
      unfold perOfC
      repeat' split
      all_goals first | rfl | (exfalso; omega) | contradiction | (exfalso; simp_all; done) | simp_all
    have eia9 : bumpR (ia 9) (perOfC n x w) = va_up (ia 9) 2 (ia 9 2 + 1) := by rw [hC]; exact bump_2 _
    have hI := wI_w (ws' := mW E ad kp tr iv (va_up ia 9 (bumpR (ia 9) (perOfC n x w))) K R mv) (by rw [eia9]; try rfl) hI
    exact hret () (-2) _ _ 0 0 _ _ dX5_personOf_26 hI (by show (-2) = gd (perOfC n x w) (perOfV (ia 11) (ia 12) K n x w) (perOfC n x w); rw [hC]; first | rfl | (simp only [gd_0]; split <;> first | rfl | contradiction)) (Nat.le_of_ble_eq_true rfl) (Nat.le_of_ble_eq_true rfl) rfl
