theorem c5_findEver (l : Launch) (E : En) (ad : Nat → Nat) (kp tr : Option Nat) (iv : Nat → Int32) (ia K : Nat → Nat → Int32) (R : Nat → Nat → Int64) (mv : Nat → Int64) (n st : Nat) (hn : iv 10 = nI n) (hst : iv 14 = nI st) (hn7 : n ≤ 7) (hs2 : 2 ≤ st) (hs4 : st ≤ 4) : CtV l E yX5_findEver cX5_findEver 1 50 1 40 [.ref (ad 45)] (mW E ad kp tr iv ia K R mv) (fun (u : Int32 × (Nat → Int32)) => True) (fun (u : Int32 × (Nat → Int32)) => mW E ad kp tr (va_up (va_up (va_up iv 30 u.1) 37 (nI (ever1 K n st))) 38 (ever2 K n st)) (va_up ia 29 u.2) K R mv) := by
  have h28 : 2 ^ n ≤ 2 ^ 7 := Nat.pow_le_pow_right (by decide) hn7
  refine CtV.of (by decide +kernel) (Nat.le_of_ble_eq_true rfl) ?_
  intro pR eR sR mR aR bR tR cR AR ls QR hxR hbR hmlR hts hown hlk hnm hA hK hI hl hret
  have hl : lv_has ls 1 [(0, .ref (ad 45))] := hl
  refine lv_aload_n hxR hbR dX5_findEver_0 rfl (lv_at hl 0 rfl) ?_
  refine lv_iconst (v := 0) hxR hbR dX5_findEver_1 (by decide) ?_
  refine r_put (v := .int 0) (ws1 := mW E ad kp tr (va_up iv 37 0) ia K R mv) hxR hbR hts hown hK hI okX5 (ci := 5) rfl 16 mW_o 37 (by decide) q1515 rfl rfl rfl rfl (Nat.le_of_ble_eq_true rfl) mW_i37 dX5_findEver_2 (fun H locs hI => ?_)
  refine lv_aload_n hxR hbR dX5_findEver_5 rfl (lv_at hl 0 rfl) ?_
  refine lv_iconst (v := (-1)) hxR hbR dX5_findEver_6 (by decide) ?_
  refine r_put (v := .int (-1)) (ws1 := mW E ad kp tr (va_up (va_up iv 37 0) 38 (-1)) ia K R mv) hxR hbR hts hown hK hI okX5 (ci := 5) rfl 16 mW_o 38 (by decide) q1516 rfl rfl rfl rfl (Nat.le_of_ble_eq_true rfl) mW_i38 dX5_findEver_7 (fun H locs hI => ?_)
  refine lv_aload_n hxR hbR dX5_findEver_10 rfl (lv_at hl 0 rfl) ?_
  refine r_get hxR hbR hts hown hK hI okX5 (ci := 5) rfl 16 mW_o 14 (by decide) q1492 rfl (v := .int (nI st)) (al (up_n (by decide) (up_n (by decide) hst))) dX5_findEver_11 ?_
  refine lv_iconst (v := 2) hxR hbR dX5_findEver_14 (by decide) ?_
  refine lv_icmp_ne (tgt := 39) hxR hbR dX5_findEver_15 (by decide) (fun c_15 => ?_) (fun c_15 => ?_)
  · skip
    have c_15 : ¬ st = 2 := fun zz => c_15 ((n_eq (a := st) (b := 2) (by omega) (by omega)).mpr zz)
    refine lv_aload_n hxR hbR dX5_findEver_39 rfl (lv_at hl 0 rfl) ?_
    refine kVV (n := 0) (As := []) (rest := []) (fun w => w) hxR hbR hmlR hts hown hK hA hl.1 isCtx.id hI (c5_listAll l E ad kp tr (va_up (va_up iv 37 0) 38 (-1)) ia K R mv n st (up_n (by decide) (up_n (by decide) hn)) (up_n (by decide) (up_n (by decide) hst)) (by omega) (by first | omega | with_reducible assumption)) (lw_V q1672 q1674 qs38 q86 q1675) ⟨rfl, by decide +kernel⟩ 16 5 rfl rfl mW_o rfl (Nat.le_of_ble_eq_true rfl) (Nat.le_of_ble_eq_true rfl) ⟨Nat.le_of_ble_eq_true rfl, Nat.le_of_ble_eq_true rfl⟩ (Nat.le_of_ble_eq_true rfl) dX5_findEver_40 (fun u H locs hp hI hz => ?_)
    have hI : wI E AR sR H locs (mW E ad kp tr (va_up (va_up (va_up iv 37 0) 38 (-1)) 30 (nI ((GL K n st).length))) (va_up ia 29 (wrL (ia 29) 0 (GL K n st))) K R mv) := hI
    have hI := wI_w (ws' := mW E ad kp tr (va_up (va_up (va_up iv 30 (nI ((GL K n st).length))) 37 0) 38 (-1)) (va_up ia 29 (wrL (ia 29) 0 (GL K n st))) K R mv) (by rw [(show (va_up (va_up (va_up iv 30 (nI ((GL K n st).length))) 37 0) 38 (-1)) = (va_up (va_up (va_up iv 37 0) 38 (-1)) 30 (nI ((GL K n st).length))) from ((up_s (by decide) (up_s (by decide) rfl))).symm)]) hI
    have hI : wI E AR sR H locs (mW E ad kp tr (va_up (va_up (va_up iv 30 (nI ((GL K n st).length))) 37 0) 38 (-1)) (va_up ia 29 (wrL (ia 29) 0 (GL K n st))) K R mv) := hI
    have hL := isL_GL (f := ia 29) (K := K) (n := n) (by omega) hs2 hs4
    have hL35 := GL_35 (K := K) hn7 hs4
    refine lv_aload_n hxR hbR dX5_findEver_43 rfl (lv_at hl 0 rfl) ?_
    refine lv_iconst (v := 0) hxR hbR dX5_findEver_44 (by decide) ?_
    refine lv_bipush (v := 40) hxR hbR dX5_findEver_45 (by decide) ?_
    refine r_newa (n := 40) (a0 := (40, .inl (fun _ => 0))) hxR hbR hts hA hK hI (atype := .int) rfl q181 0 rfl (fun h => h) (fun _ => rfl) (by decide) (Nat.le_of_ble_eq_true rfl) (Nat.le_of_ble_eq_true rfl) (Nat.le_of_ble_eq_true rfl) dX5_findEver_47 (fun q_47 H hI => ?_)
    have hI : wI E AR sR H _ (mW E ad kp tr (va_up (va_up (va_up iv 30 (nI ((GL K n st).length))) 37 0) 38 (-1)) (va_up ia 29 (wrL (ia 29) 0 (GL K n st))) K R mv ++ ([(q_47, .inl (E.2 0, 40, .inl (fun _ => 0)))])) := hI
    refine lv_iconst (v := 0) hxR hbR dX5_findEver_49 (by decide) ?_
    refine kVV (n := 3) (As := [.int 0, .ref q_47, .int 0]) (rest := []) (fun w => w) hxR hbR hmlR hts hown hK hA hl.1 isCtx.id hI (c5_seekEver l E ((GL K n st).length) ad kp tr (va_up (va_up (va_up iv 30 (nI ((GL K n st).length))) 37 0) 38 (-1)) (va_up ia 29 (wrL (ia 29) 0 (GL K n st))) K R mv q_47 (fun _ => 0) 0 none (GL K n st) ([] : List Nat) 0 (up_n (by decide) (up_n (by decide) va_up_s)) (isL.of va_up_s hL) hL35 (up_n (by decide) va_up_s) va_up_s rfl (Nat.zero_le _) (Nat.le_refl _) (fun j h => absurd h (Nat.not_lt_zero _)) (fun j h => absurd h (Nat.not_lt_zero _)) (by decide) (fun s h => by cases h)) (lw_V q1958 q1960 qs74 q86 q1961) ⟨rfl, by decide +kernel⟩ 16 5 rfl rfl (he_l mW_o) rfl (by omega) (Nat.le_of_ble_eq_true rfl) ⟨Nat.le_of_ble_eq_true rfl, Nat.le_of_ble_eq_true rfl⟩ (Nat.le_of_ble_eq_true rfl) dX5_findEver_50 (fun u H locs hp hI hz => ?_)
    obtain ⟨tf2_50, rfl⟩ : ∃ z, z = u := ⟨_, rfl⟩
    have hI : wI E AR sR H locs (mW E ad kp tr (va_up (va_up (va_up (va_up (va_up iv 30 (nI ((GL K n st).length))) 37 0) 38 (-1)) 37 (nI ((seekL (GL K n st) ((GL K n st).drop 0) ([] : List Nat) (0, none)).1))) 38 (soI (seekL (GL K n st) ((GL K n st).drop 0) ([] : List Nat) (0, none)).2)) (va_up ia 29 (wrL (ia 29) 0 (GL K n st))) K R mv ++ ([(q_47, .inl (E.2 0, 40, .inl tf2_50))])) := hI
    have hI := wI_w (ws' := mW E ad kp tr (va_up (va_up (va_up iv 30 (nI ((GL K n st).length))) 37 (nI ((seekL (GL K n st) ((GL K n st).drop 0) ([] : List Nat) (0, none)).1))) 38 (soI (seekL (GL K n st) ((GL K n st).drop 0) ([] : List Nat) (0, none)).2)) (va_up ia 29 (wrL (ia 29) 0 (GL K n st))) K R mv ++ ([(q_47, .inl (E.2 0, 40, .inl tf2_50))])) (by rw [(show (va_up (va_up (va_up iv 30 (nI ((GL K n st).length))) 37 (nI ((seekL (GL K n st) ((GL K n st).drop 0) ([] : List Nat) (0, none)).1))) 38 (soI (seekL (GL K n st) ((GL K n st).drop 0) ([] : List Nat) (0, none)).2)) = (va_up (va_up (va_up (va_up (va_up iv 30 (nI ((GL K n st).length))) 37 0) 38 (-1)) 37 (nI ((seekL (GL K n st) ((GL K n st).drop 0) ([] : List Nat) (0, none)).1))) 38 (soI (seekL (GL K n st) ((GL K n st).drop 0) ([] : List Nat) (0, none)).2)) from ((Eq.trans (congrArg (fun z => va_up z 38 (soI (seekL (GL K n st) ((GL K n st).drop 0) ([] : List Nat) (0, none)).2)) (up_s (by decide) up_0)) up_0)).symm)]) hI
    have hI : wI E AR sR H locs (mW E ad kp tr (va_up (va_up (va_up iv 30 (nI ((GL K n st).length))) 37 (nI ((seekL (GL K n st) ((GL K n st).drop 0) ([] : List Nat) (0, none)).1))) 38 (soI (seekL (GL K n st) ((GL K n st).drop 0) ([] : List Nat) (0, none)).2)) (va_up ia 29 (wrL (ia 29) 0 (GL K n st))) K R mv ++ ([(q_47, .inl (E.2 0, 40, .inl tf2_50))])) := hI
    have hp : ∀ j, j < ([] : List Nat).length → tf2_50 j = (fun _ => 0) j := hp
    have htf_50 := hp
    have hI : wI E AR sR H locs (mW E ad kp tr (va_up (va_up (va_up iv 30 (nI ((GL K n st).length))) 37 (nI ((seekL (GL K n st) ((GL K n st).drop 0) ([] : List Nat) (0, none)).1))) 38 (soI (seekL (GL K n st) ((GL K n st).drop 0) ([] : List Nat) (0, none)).2)) (va_up ia 29 (wrL (ia 29) 0 (GL K n st))) K R mv) := wI_dropR hI
    have hI : wI E AR sR H locs (mW E ad kp tr (va_up (va_up (va_up iv 30 (nI (GL K n st).length)) 37 (nI (ever1 K n st))) 38 (ever2 K n st)) (va_up ia 29 (wrL (ia 29) 0 (GL K n st))) K R mv) := by rw [ever_n c_15, ever_nb c_15]; exact hI
    exact hret (nI (GL K n st).length, wrL (ia 29) 0 (GL K n st)) _ _ _ _ _ _ dX5_findEver_53 hI (by show True; trivial) (Nat.le_of_ble_eq_true rfl) (Nat.le_of_ble_eq_true rfl)
  · skip
    have c_15 : st = 2 := (n_eq (a := st) (b := 2) (by omega) (by omega)).mp c_15
    refine lv_aload_n hxR hbR dX5_findEver_18 rfl (lv_at hl 0 rfl) ?_
    refine lv_aload_n hxR hbR dX5_findEver_19 rfl (lv_at hl 0 rfl) ?_
    refine lv_aload_n hxR hbR dX5_findEver_20 rfl (lv_at hl 0 rfl) ?_
    refine kVI (n := 0) (As := []) (rest := [.ref (ad 45), .ref (ad 45)]) (fun w => w) hxR hbR hmlR hts hown hK hA hl.1 isCtx.id hI (c5_all l E ad kp tr (va_up (va_up iv 37 0) 38 (-1)) ia K R mv n (up_n (by decide) (up_n (by decide) hn)) (by omega)) (lw_V q1664 q1666 qs36 q86 q1667) ⟨rfl, by decide +kernel⟩ 16 5 rfl rfl mW_o rfl (Nat.le_of_ble_eq_true rfl) (Nat.le_of_ble_eq_true rfl) ⟨Nat.le_of_ble_eq_true rfl, Nat.le_of_ble_eq_true rfl⟩ (Nat.le_of_ble_eq_true rfl) dX5_findEver_21 (fun r_21 u H locs hp hI hz => ?_)
    have hI : wI E AR sR H locs (mW E ad kp tr (va_up (va_up iv 37 0) 38 (-1)) ia K R mv) := hI
    have hp : r_21 = nI (2 ^ n - 1) := hp
    have hr_21 := hp
    subst hr_21
    refine kVI (n := 1) (As := [.int (nI (2 ^ n - 1))]) (rest := [.ref (ad 45)]) (fun w => w) hxR hbR hmlR hts hown hK hA hl.1 isCtx.id hI (c5_pairsOf l E ad kp tr (va_up (va_up iv 37 0) 38 (-1)) ia K R mv n (2 ^ n - 1) (up_n (by decide) (up_n (by decide) hn)) (by omega) (by first | omega | with_reducible assumption)) (lw_V q1954 q1956 qs73 q86 q1957) ⟨rfl, by decide +kernel⟩ 16 5 rfl rfl mW_o rfl (Nat.le_of_ble_eq_true rfl) (Nat.le_of_ble_eq_true rfl) ⟨Nat.le_of_ble_eq_true rfl, Nat.le_of_ble_eq_true rfl⟩ (Nat.le_of_ble_eq_true rfl) dX5_findEver_24 (fun r_24 u H locs hp hI hz => ?_)
    have hI : wI E AR sR H locs (mW E ad kp tr (va_up (va_up iv 37 0) 38 (-1)) ia K R mv) := hI
    have hp : r_24 = nI (mC K (2 ^ n - 1) n) := hp
    have hr_24 := hp
    subst hr_24
    refine r_put (v := .int (nI (mC K (2 ^ n - 1) n))) (ws1 := mW E ad kp tr (va_up (va_up iv 37 (nI (mC K (2 ^ n - 1) n))) 38 (-1)) ia K R mv) hxR hbR hts hown hK hI okX5 (ci := 5) rfl 16 mW_o 37 (by decide) q1515 rfl rfl rfl rfl (Nat.le_of_ble_eq_true rfl) (Eq.trans mW_i37 (mW_c1 (up_s (by decide) up_0))) dX5_findEver_27 (fun H locs hI => ?_)
    refine lv_aload_n hxR hbR dX5_findEver_30 rfl (lv_at hl 0 rfl) ?_
    refine lv_aload_n hxR hbR dX5_findEver_31 rfl (lv_at hl 0 rfl) ?_
    refine r_get hxR hbR hts hown hK hI okX5 (ci := 5) rfl 16 mW_o 37 (by decide) q1515 rfl (v := .int (nI (mC K (2 ^ n - 1) n))) (al (up_n (by decide) va_up_s)) dX5_findEver_32 ?_
    refine r_put (v := .int (nI (mC K (2 ^ n - 1) n))) (ws1 := mW E ad kp tr (va_up (va_up iv 37 (nI (mC K (2 ^ n - 1) n))) 38 (nI (mC K (2 ^ n - 1) n))) ia K R mv) hxR hbR hts hown hK hI okX5 (ci := 5) rfl 16 mW_o 38 (by decide) q1516 rfl rfl rfl rfl (Nat.le_of_ble_eq_true rfl) (Eq.trans mW_i38 (mW_c1 up_0)) dX5_findEver_35 (fun H locs hI => ?_)
    have hI : wI E AR sR H locs (mW E ad kp tr (va_up (va_up (va_up iv 30 (iv 30)) 37 (nI (ever1 K n st))) 38 (ever2 K n st)) (va_up ia 29 (ia 29)) K R mv) := by rw [ever_2 c_15, ever_2b c_15, va_up_id (f := iv) (k := 30) rfl, va_up_id (f := ia) (k := 29) rfl]; exact hI
    exact hret (iv 30, ia 29) _ _ _ _ _ _ dX5_findEver_38 hI (by show True; trivial) (Nat.le_of_ble_eq_true rfl) (Nat.le_of_ble_eq_true rfl)

theorem c5_feast (l : Launch) (E : En) (ad : Nat → Nat) (kp : Option Nat) (iv : Nat → Int32) (ia K : Nat → Nat → Int32) (R : Nat → Nat → Int64) (mv : Nat → Int64) (ob : Option (Nat → Nat)) (kpb trb : Option Nat) (ivb : Nat → Int32) (iab Kb : Nat → Nat → Int32) (Rb : Nat → Nat → Int64) (mvb : Nat → Int64) (n st : Nat) (x : Int32) (hn : iv 10 = nI n) (hst : iv 14 = nI st) (hn7 : n ≤ 7) (hs2 : 2 ≤ st) (hs4 : st ≤ 4) : CtI l E yX5_feast cX5_feast 3 .int 60 40 2026 [.ref (ad 45), .int x] (mW E ad kp (oT ob) iv ia K R mv ++ (oM E ob kpb trb ivb iab Kb Rb mvb)) (fun (r : Int32) (u : Int32 × (Nat → Int32) × Int32 × Int32 × (Option (Nat → Nat)) × (Option Nat) × (Option Nat) × (Nat → Int32) × (Nat → Nat → Int32) × (Nat → Nat → Int32) × (Nat → Nat → Int64) × (Nat → Int64)) => r = feastV K n st x) (fun (u : Int32 × (Nat → Int32) × Int32 × Int32 × (Option (Nat → Nat)) × (Option Nat) × (Option Nat) × (Nat → Int32) × (Nat → Nat → Int32) × (Nat → Nat → Int32) × (Nat → Nat → Int64) × (Nat → Int64)) => mW E ad kp (oT u.2.2.2.2.1) (va_up (va_up (va_up iv 30 u.1) 37 u.2.2.1) 38 u.2.2.2.1) (va_up (va_up ia 9 (bumpR (ia 9) (feastC n x))) 29 u.2.1) K R mv ++ (oM E u.2.2.2.2.1 u.2.2.2.2.2.1 u.2.2.2.2.2.2.1 u.2.2.2.2.2.2.2.1 u.2.2.2.2.2.2.2.2.1 u.2.2.2.2.2.2.2.2.2.1 u.2.2.2.2.2.2.2.2.2.2.1 u.2.2.2.2.2.2.2.2.2.2.2)) := by
  have h28 : 2 ^ n ≤ 2 ^ 7 := Nat.pow_le_pow_right (by decide) hn7
  refine CtI.of (by decide +kernel) (Nat.le_of_ble_eq_true rfl) ?_
  intro pR eR sR mR aR bR tR cR AR ls QR hxR hbR hmlR hts hown hlk hnm hA hK hI hl hret
  have hl : lv_has ls 3 [(0, .ref (ad 45)), (1, .int x)] := hl
  refine lv_aload_n hxR hbR dX5_feast_0 rfl (lv_at hl 0 rfl) ?_
  refine lv_iload_n hxR hbR dX5_feast_1 rfl (lv_at hl 1 rfl) ?_
  refine kVI (n := 1) (As := [.int x]) (rest := []) (fun w => w ++ (oM E ob kpb trb ivb iab Kb Rb mvb)) hxR hbR hmlR hts hown hK hA hl.1 (isCtx.suf _) hI (c5_isSet l E ad kp (oT ob) iv ia K R mv n x hn (by omega)) (lw_V q1862 q1864 qs63 q86 q1865) ⟨rfl, by decide +kernel⟩ 16 5 rfl rfl mW_o rfl (Nat.le_of_ble_eq_true rfl) (Nat.le_of_ble_eq_true rfl) ⟨Nat.le_of_ble_eq_true rfl, Nat.le_of_ble_eq_true rfl⟩ (Nat.le_of_ble_eq_true rfl) dX5_feast_2 (fun r_2 u H locs hp hI hz => ?_)
  have hI : wI E AR sR H locs (mW E ad kp (oT ob) iv ia K R mv ++ (oM E ob kpb trb ivb iab Kb Rb mvb)) := hI
  have hp : r_2 = b2i (decide (0 ≤ x.toInt ∧ x.toInt < ((2 ^ n : Nat) : Int))) := hp
  have hr_2 := hp
  rcases b2i_cases hr_2 with ⟨c_2, rfl⟩ | ⟨c_2, rfl⟩
  · skip
    have c_2 : 0 ≤ x.toInt ∧ x.toInt < ((2 ^ n : Nat) : Int) := of_decide_eq_true c_2
    obtain ⟨P, hP, rfl⟩ := nat_of c_2 (by omega)
    refine lv_if_ne (tgt := 15) hxR hbR dX5_feast_5 (by decide) (fun _ => ?_) (fun c => absurd c (by decide))
    refine lv_aload_n hxR hbR dX5_feast_15 rfl (lv_at hl 0 rfl) ?_
    refine kVV (n := 0) (As := []) (rest := []) (fun w => w ++ (oM E ob kpb trb ivb iab Kb Rb mvb)) hxR hbR hmlR hts hown hK hA hl.1 (isCtx.suf _) hI (c5_findEver l E ad kp (oT ob) iv ia K R mv n st hn hst (by first | omega | with_reducible assumption) (by first | omega | with_reducible assumption) (by first | omega | with_reducible assumption)) (lw_V q1950 q1952 qs72 q86 q1953) ⟨rfl, by decide +kernel⟩ 16 5 rfl rfl mW_o rfl (Nat.le_of_ble_eq_true rfl) (Nat.le_of_ble_eq_true rfl) ⟨Nat.le_of_ble_eq_true rfl, Nat.le_of_ble_eq_true rfl⟩ (Nat.le_of_ble_eq_true rfl) dX5_feast_16 (fun u H locs hp hI hz => ?_)
    obtain ⟨c30_16, g29_16⟩ := u
    have hI : wI E AR sR H locs (mW E ad kp (oT ob) (va_up (va_up (va_up iv 30 c30_16) 37 (nI (ever1 K n st))) 38 (ever2 K n st)) (va_up ia 29 g29_16) K R mv ++ (oM E ob kpb trb ivb iab Kb Rb mvb)) := hI
    refine lv_aload_n hxR hbR dX5_feast_19 rfl (lv_at hl 0 rfl) ?_
    refine kVR (n := 0) (As := []) (rest := []) (fun w => w) hxR hbR hmlR hts hown hK hA hl.1 isCtx.id hI (c5_fresh l E ad kp (va_up (va_up (va_up iv 30 c30_16) 37 (nI (ever1 K n st))) 38 (ever2 K n st)) (va_up ia 29 g29_16) K R mv ob kpb trb ivb iab Kb Rb mvb) (lw_V q1759 q1761 qs50 q86 q1762) ⟨rfl, by decide +kernel⟩ 16 5 rfl rfl (he_l mW_o) rfl (Nat.le_of_ble_eq_true rfl) (Nat.le_of_ble_eq_true rfl) ⟨Nat.le_of_ble_eq_true rfl, Nat.le_of_ble_eq_true rfl⟩ (Nat.le_of_ble_eq_true rfl) dX5_feast_20 (fun u r_20 H locs hp hI hz => ?_)
    obtain ⟨adN_20, kpN_20, trN_20, ivN_20, iaN_20, RN_20, mvN_20⟩ := u
    have hp : ivN_20 10 = iv 10 ∧ ivN_20 14 = iv 14 ∧ ivN_20 15 = iv 15 ∧ ivN_20 16 = iv 16 ∧ ivN_20 17 = iv 17 ∧ ivN_20 18 = iv 18 ∧ ivN_20 19 = iv 19 ∧ iaN_20 11 = ia 11 ∧ iaN_20 12 = ia 12 := hp
    obtain ⟨hv10_20, hv14_20, hv15_20, hv16_20, hv17_20, hv18_20, hv19_20, ha11_20, ha12_20⟩ := hp
    have hI : wI E AR sR H locs (mW E ad kp (some r_20) (va_up (va_up (va_up iv 30 c30_16) 37 (nI (ever1 K n st))) 38 (ever2 K n st)) (va_up ia 29 g29_16) K R mv ++ (mW E (va_up adN_20 45 r_20) kpN_20 trN_20 ivN_20 iaN_20 K RN_20 mvN_20)) := hI
    generalize hadb_20 : va_up adN_20 45 r_20 = adb_20 at hI
    have e_20 : r_20 = adb_20 45 := by rw [← hadb_20, va_up_s]
    clear hadb_20
    subst e_20
    refine lv_astore_n (lv' := [(2, .ref (adb_20 45)), (0, .ref (ad 45)), (1, .int (nI P))]) hxR hbR dX5_feast_23 rfl hl (by decide) rfl (fun ls hl => ?_)
    refine lv_aload_n hxR hbR dX5_feast_24 rfl (lv_at hl 0 rfl) ?_
    refine lv_iload_n hxR hbR dX5_feast_25 rfl (lv_at hl 2 rfl) ?_
    refine kVI (n := 1) (As := [.int (nI P)]) (rest := []) (fun w => (mW E ad kp (some (adb_20 45)) (va_up (va_up (va_up iv 30 c30_16) 37 (nI (ever1 K n st))) 38 (ever2 K n st)) (va_up ia 29 g29_16) K R mv) ++ w) hxR hbR hmlR hts hown hK hA hl.1 (isCtx.pre _) hI (c5_meets l E adb_20 kpN_20 trN_20 ivN_20 iaN_20 K RN_20 mvN_20 n P (Eq.trans hv10_20 hn) (by omega) (by first | omega | with_reducible assumption)) (lw_V q1845 q1847 qs62 q86 q1848) ⟨rfl, by decide +kernel⟩ 16 5 rfl rfl mW_o rfl (Nat.le_of_ble_eq_true rfl) (Nat.le_of_ble_eq_true rfl) ⟨Nat.le_of_ble_eq_true rfl, Nat.le_of_ble_eq_true rfl⟩ (Nat.le_of_ble_eq_true rfl) dX5_feast_26 (fun r_26 u H locs hp hI hz => ?_)
    have hI : wI E AR sR H locs (mW E ad kp (some (adb_20 45)) (va_up (va_up (va_up iv 30 c30_16) 37 (nI (ever1 K n st))) 38 (ever2 K n st)) (va_up ia 29 g29_16) K R mv ++ (mW E adb_20 kpN_20 trN_20 ivN_20 iaN_20 (meetK K P n) RN_20 mvN_20)) := hI
    have hp : r_26 = nI (mC K P n) := hp
    have hr_26 := hp
    subst hr_26
    refine lv_pop hxR hbR dX5_feast_29 rfl ?_
    refine lv_aload_n hxR hbR dX5_feast_30 rfl (lv_at hl 0 rfl) ?_
    refine kVV (n := 0) (As := []) (rest := []) (fun w => (mW E ad kp (some (adb_20 45)) (va_up (va_up (va_up iv 30 c30_16) 37 (nI (ever1 K n st))) 38 (ever2 K n st)) (va_up ia 29 g29_16) K R mv) ++ w) hxR hbR hmlR hts hown hK hA hl.1 (isCtx.pre _) hI (c5_findEver l E adb_20 kpN_20 trN_20 ivN_20 iaN_20 (meetK K P n) RN_20 mvN_20 n st (Eq.trans hv10_20 hn) (Eq.trans hv14_20 hst) (by first | omega | with_reducible assumption) (by first | omega | with_reducible assumption) (by first | omega | with_reducible assumption)) (lw_V q1950 q1952 qs72 q86 q1953) ⟨rfl, by decide +kernel⟩ 16 5 rfl rfl mW_o rfl (Nat.le_of_ble_eq_true rfl) (Nat.le_of_ble_eq_true rfl) ⟨Nat.le_of_ble_eq_true rfl, Nat.le_of_ble_eq_true rfl⟩ (Nat.le_of_ble_eq_true rfl) dX5_feast_31 (fun u H locs hp hI hz => ?_)
    obtain ⟨c30_31, g29_31⟩ := u
    have hI : wI E AR sR H locs (mW E ad kp (some (adb_20 45)) (va_up (va_up (va_up iv 30 c30_16) 37 (nI (ever1 K n st))) 38 (ever2 K n st)) (va_up ia 29 g29_16) K R mv ++ (mW E adb_20 kpN_20 trN_20 (va_up (va_up (va_up ivN_20 30 c30_31) 37 (nI (ever1 (meetK K P n) n st))) 38 (ever2 (meetK K P n) n st)) (va_up iaN_20 29 g29_31) (meetK K P n) RN_20 mvN_20)) := hI
    refine lv_aload_n hxR hbR dX5_feast_34 rfl (lv_at hl 1 rfl) ?_
    refine r_get hxR hbR hts hown hK hI okX5 (ci := 5) rfl 16 (he_l mW_o) 37 (by decide) q1515 rfl (v := .int (nI (ever1 K n st))) (al (up_n (by decide) va_up_s)) dX5_feast_35 ?_
    refine lv_aload_n hxR hbR dX5_feast_38 rfl (lv_at hl 0 rfl) ?_
    refine r_get hxR hbR hts hown hK hI okX5 (ci := 5) rfl (38 + 16) (he_r (Nat.le_of_ble_eq_true rfl) (Nat.le_of_ble_eq_true rfl) mW_o) 37 (by decide) q1515 rfl (v := .int (nI (ever1 (meetK K P n) n st))) (al (up_n (by decide) va_up_s)) dX5_feast_39 ?_
    refine lv_isub hxR hbR dX5_feast_42 ?_
    have hI : wI E AR sR H locs (mW E ad kp (oT (some adb_20)) (va_up (va_up (va_up iv 30 c30_16) 37 (nI (ever1 K n st))) 38 (ever2 K n st)) (va_up (va_up ia 9 (bumpR (ia 9) (feastC n (nI P)))) 29 g29_16) K R mv ++ (oM E (some adb_20) kpN_20 trN_20 (va_up (va_up (va_up ivN_20 30 c30_31) 37 (nI (ever1 (meetK K P n) n st))) 38 (ever2 (meetK K P n) n st)) (va_up iaN_20 29 g29_31) (meetK K P n) RN_20 mvN_20)) := by rw [feastC_t hP h28, bump_0, va_up_id (f := ia) (k := 9) rfl]; exact hI
    exact hret (c30_16, g29_16, nI (ever1 K n st), (ever2 K n st), (some adb_20), kpN_20, trN_20, (va_up (va_up (va_up ivN_20 30 c30_31) 37 (nI (ever1 (meetK K P n) n st))) 38 (ever2 (meetK K P n) n st)), (va_up iaN_20 29 g29_31), meetK K P n, RN_20, mvN_20) ((nI (ever1 K n st)) - (nI (ever1 (meetK K P n) n st))) _ _ _ _ _ _ dX5_feast_43 hI (by show ((nI (ever1 K n st)) - (nI (ever1 (meetK K P n) n st))) = feastV K n st (nI P); rw [feastV_t hP h28]) (Nat.le_of_ble_eq_true rfl) (Nat.le_of_ble_eq_true rfl) rfl
  · skip
    have c_2 : ¬ (0 ≤ x.toInt ∧ x.toInt < ((2 ^ n : Nat) : Int)) := of_decide_eq_false c_2
    refine lv_if_ne (tgt := 15) hxR hbR dX5_feast_5 (by decide) (fun c => absurd c (by decide)) (fun _ => ?_)
    refine lv_aload_n hxR hbR dX5_feast_8 rfl (lv_at hl 0 rfl) ?_
    refine lv_bipush (v := (-2)) hxR hbR dX5_feast_9 (by decide) ?_
    refine kVI (n := 1) (As := [.int (-2)]) (rest := []) (fun w => w ++ (oM E ob kpb trb ivb iab Kb Rb mvb)) hxR hbR hmlR hts hown hK hA hl.1 (isCtx.suf _) hI (c5_refuse l E ad kp (oT ob) iv ia K R mv (-2) 2 (by decide) (by decide)) (lw_V q1624 q1626 qs34 q86 q1627) ⟨rfl, by decide +kernel⟩ 16 5 rfl rfl mW_o rfl (Nat.le_of_ble_eq_true rfl) (Nat.le_of_ble_eq_true rfl) ⟨Nat.le_of_ble_eq_true rfl, Nat.le_of_ble_eq_true rfl⟩ (Nat.le_of_ble_eq_true rfl) dX5_feast_11 (fun r_11 u H locs hp hI hz => ?_)
    have hI : wI E AR sR H locs (mW E ad kp (oT ob) iv (va_up ia 9 (va_up (ia 9) 2 (ia 9 2 + 1))) K R mv ++ (oM E ob kpb trb ivb iab Kb Rb mvb)) := hI
    have hp : r_11 = (-2) := hp
    have hr_11 := hp
    subst hr_11
    have hI : wI E AR sR H locs (mW E ad kp (oT ob) (va_up (va_up (va_up iv 30 (iv 30)) 37 (iv 37)) 38 (iv 38)) (va_up (va_up ia 9 (bumpR (ia 9) (feastC n x))) 29 (ia 29)) K R mv ++ (oM E ob kpb trb ivb iab Kb Rb mvb)) := by rw [feastC_f c_2, bump_2]; exact hI
    exact hret (iv 30, ia 29, iv 37, iv 38, ob, kpb, trb, ivb, iab, Kb, Rb, mvb) (-2) _ _ _ _ _ _ dX5_feast_14 hI (by show (-2) = feastV K n st x; rw [feastV_f c_2]) (Nat.le_of_ble_eq_true rfl) (Nat.le_of_ble_eq_true rfl) rfl
