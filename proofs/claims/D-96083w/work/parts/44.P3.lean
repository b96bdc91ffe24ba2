theorem c5_isGroup (l : Launch) (E : En) (ad : Nat → Nat) (kp tr : Option Nat) (iv : Nat → Int32) (ia K : Nat → Nat → Int32) (R : Nat → Nat → Int64) (mv : Nat → Int64) (n st : Nat) (x : Int32) (hn : iv 10 = nI n) (hst : iv 14 = nI st) (hn7 : n ≤ 7) (hs2 : 2 ≤ st) (hs4 : st ≤ 4) : CtI l E yX5_isGroup cX5_isGroup 2 .int 3 0 0 [.ref (ad 45), .int x] (mW E ad kp tr iv ia K R mv) (fun (r : Int32) (u : Unit) => r = gd (feastC n x) (b2i (isGrp K n st x.toNatClampNeg)) (feastC n x)) (fun (u : Unit) => mW E ad kp tr iv (va_up ia 9 (bumpR (ia 9) (feastC n x))) K R mv) := by
  have h28 : 2 ^ n ≤ 2 ^ 7 := Nat.pow_le_pow_right (by decide) hn7
  refine CtI.of (by decide +kernel) (Nat.le_of_ble_eq_true rfl) ?_
  intro pR eR sR mR aR bR tR cR AR ls QR hxR hbR hmlR hts hown hlk hnm hA hK hI hl hret
  have hl : lv_has ls 2 [(0, .ref (ad 45)), (1, .int x)] := hl
  refine lv_aload_n hxR hbR dX5_isGroup_0 rfl (lv_at hl 0 rfl) ?_
  refine lv_iload_n hxR hbR dX5_isGroup_1 rfl (lv_at hl 1 rfl) ?_
  refine kVI (n := 1) (As := [.int x]) (rest := []) (fun w => w) hxR hbR hmlR hts hown hK hA hl.1 isCtx.id hI (c5_isSet l E ad kp tr iv ia K R mv n x hn (by omega)) (lw_V q1862 q1864 qs63 q86 q1865) ⟨rfl, by decide +kernel⟩ 16 5 rfl rfl mW_o rfl (Nat.le_of_ble_eq_true rfl) (Nat.le_of_ble_eq_true rfl) ⟨Nat.le_of_ble_eq_true rfl, Nat.le_of_ble_eq_true rfl⟩ (Nat.le_of_ble_eq_true rfl) dX5_isGroup_2 (fun r_2 u H locs hp hI hz => ?_)
  have hI : wI E AR sR H locs (mW E ad kp tr iv ia K R mv) := hI
  have hp : r_2 = b2i (decide (0 ≤ x.toInt ∧ x.toInt < ((2 ^ n : Nat) : Int))) := hp
  have hr_2 := hp
  rcases b2i_cases hr_2 with ⟨c_2, rfl⟩ | ⟨c_2, rfl⟩
  · skip
    have c_2 : 0 ≤ x.toInt ∧ x.toInt < ((2 ^ n : Nat) : Int) := of_decide_eq_true c_2
    obtain ⟨P, hP, rfl⟩ := nat_of c_2 (by omega)
    have tP : (nI P).toInt = (P : Int) := nI_toInt (by omega)
    refine lv_if_ne (tgt := 15) hxR hbR dX5_isGroup_5 (by decide) (fun _ => ?_) (fun c => absurd c (by decide))
    refine lv_aload_n hxR hbR dX5_isGroup_15 rfl (lv_at hl 0 rfl) ?_
    refine lv_iload_n hxR hbR dX5_isGroup_16 rfl (lv_at hl 1 rfl) ?_
    refine kVI (n := 1) (As := [.int (nI P)]) (rest := []) (fun w => w) hxR hbR hmlR hts hown hK hA hl.1 isCtx.id hI (c5_isGroupNow l E ad kp tr iv ia K R mv n st P hn hst (by omega) (by first | omega | with_reducible assumption) (by omega)) (lw_V q1866 q1868 qs64 q86 q1869) ⟨rfl, by decide +kernel⟩ 16 5 rfl rfl mW_o rfl (Nat.le_of_ble_eq_true rfl) (Nat.le_of_ble_eq_true rfl) ⟨Nat.le_of_ble_eq_true rfl, Nat.le_of_ble_eq_true rfl⟩ (Nat.le_of_ble_eq_true rfl) dX5_isGroup_17 (fun r_17 u H locs hp hI hz => ?_)
    have hI : wI E AR sR H locs (mW E ad kp tr iv ia K R mv) := hI
    have hp : r_17 = b2i (isGrp K n st P) := hp
    have hr_17 := hp
    rcases b2i_cases hr_17 with ⟨c_17, rfl⟩ | ⟨c_17, rfl⟩
    · skip
      have c_17 : bitsN P 8 = st ∧ ∀ p, p < n → ∀ q, q < p → P.testBit p = true → P.testBit q = true → K p q = -1 := of_decide_eq_true c_17
      refine lv_if_eq (tgt := 27) hxR hbR dX5_isGroup_20 (by decide) (fun c => absurd c (by decide)) (fun _ => ?_)
      refine lv_iconst (v := 1) hxR hbR dX5_isGroup_23 (by decide) ?_
      refine lv_goto (tgt := 28) hxR hbR dX5_isGroup_24 (by decide) ?_
      have hC : feastC n (nI P) = 0 := by
        clear hret hI
        unfold feastC
        try simp only [nI_clamp (n := P) (by omega)]
        repeat' split
        all_goals first | rfl | (exfalso; omega) | contradiction | (exfalso; simp_all; done) | simp_all
      have eia9 : bumpR (ia 9) (feastC n (nI P)) = ia 9 := by rw [hC]; exact bump_0 _
      have hI := wI_w (ws' := mW E ad kp tr iv (va_up ia 9 (bumpR (ia 9) (feastC n (nI P)))) K R mv) (by rw [eia9, va_up_id (f := ia) (k := 9) (v := ia 9) rfl]; try rfl) hI
      exact hret () 1 _ _ 0 0 _ _ dX5_isGroup_28 hI (by show 1 = gd (feastC n (nI P)) (b2i (isGrp K n st (nI P).toNatClampNeg)) (feastC n (nI P)); rw [hC]; simp only [nI_clamp (n := P) (by omega)]; show _ = b2i (isGrp K n st P); rw [isGrp]; first | rw [decide_eq_true c_17]; rfl | rw [decide_eq_false c_17]; rfl) (Nat.le_of_ble_eq_true rfl) (Nat.le_of_ble_eq_true rfl) rfl
    · skip
      have c_17 : ¬ (bitsN P 8 = st ∧ ∀ p, p < n → ∀ q, q < p → P.testBit p = true → P.testBit q = true → K p q = -1) := of_decide_eq_false c_17
      refine lv_if_eq (tgt := 27) hxR hbR dX5_isGroup_20 (by decide) (fun _ => ?_) (fun c => absurd c (by decide))
      refine lv_iconst (v := 0) hxR hbR dX5_isGroup_27 (by decide) ?_
      have hC : feastC n (nI P) = 0 := by
        clear hret hI
        unfold feastC
        try simp only [nI_clamp (n := P) (by omega)]
        repeat' split
        all_goals first | rfl | (exfalso; omega) | contradiction | (exfalso; simp_all; done) | simp_all
      have eia9 : bumpR (ia 9) (feastC n (nI P)) = ia 9 := by rw [hC]; exact bump_0 _
      have hI := wI_w (ws' := mW E ad kp tr iv (va_up ia 9 (bumpR (ia 9) (feastC n (nI P)))) K R mv) (by rw [eia9, va_up_id (f := ia) (k := 9) (v := ia 9) rfl]; try rfl) hI
      exact hret () 0 _ _ 0 0 _ _ dX5_isGroup_28 hI (by show 0 = gd (feastC n (nI P)) (b2i (isGrp K n st (nI P).toNatClampNeg)) (feastC n (nI P)); rw [hC]; simp only [nI_clamp (n := P) (by omega)]; show _ = b2i (isGrp K n st P); rw [isGrp]; first | rw [decide_eq_true c_17]; rfl | rw [decide_eq_false c_17]; rfl) (Nat.le_of_ble_eq_true rfl) (Nat.le_of_ble_eq_true rfl) rfl
  · skip
    have c_2 : ¬ (0 ≤ x.toInt ∧ x.toInt < ((2 ^ n : Nat) : Int)) := of_decide_eq_false c_2
    refine lv_if_ne (tgt := 15) hxR hbR dX5_isGroup_5 (by decide) (fun c => absurd c (by decide)) (fun _ => ?_)
    refine lv_aload_n hxR hbR dX5_isGroup_8 rfl (lv_at hl 0 rfl) ?_
    refine lv_bipush (v := (-2)) hxR hbR dX5_isGroup_9 (by decide) ?_
    refine kVI (n := 1) (As := [.int (-2)]) (rest := []) (fun w => w) hxR hbR hmlR hts hown hK hA hl.1 isCtx.id hI (c5_refuse l E ad kp tr iv ia K R mv (-2) 2 (by decide) (by decide)) (lw_V q1624 q1626 qs34 q86 q1627) ⟨rfl, by decide +kernel⟩ 16 5 rfl rfl mW_o rfl (Nat.le_of_ble_eq_true rfl) (Nat.le_of_ble_eq_true rfl) ⟨Nat.le_of_ble_eq_true rfl, Nat.le_of_ble_eq_true rfl⟩ (Nat.le_of_ble_eq_true rfl) dX5_isGroup_11 (fun r_11 u H locs hp hI hz => ?_)
    have hI : wI E AR sR H locs (mW E ad kp tr iv (va_up ia 9 (va_up (ia 9) 2 (ia 9 2 + 1))) K R mv) := hI
    have hp : r_11 = (-2) := hp
    have hr_11 := hp
    subst hr_11
    have hC : feastC n x = (-2) := by
      clear hret hI
      unfold feastC
      repeat' split
      all_goals first | rfl | (exfalso; omega) | contradiction | (exfalso; simp_all; done) | simp_all
    have eia9 : bumpR (ia 9) (feastC n x) = va_up (ia 9) 2 (ia 9 2 + 1) := by rw [hC]; exact bump_2 _
    have hI := wI_w (ws' := mW E ad kp tr iv (va_up ia 9 (bumpR (ia 9) (feastC n x))) K R mv) (by rw [eia9]; try rfl) hI
    exact hret () (-2) _ _ 0 0 _ _ dX5_isGroup_14 hI (by show (-2) = gd (feastC n x) (b2i (isGrp K n st x.toNatClampNeg)) (feastC n x); rw [hC]; first | rfl | (simp only [gd_0]; split <;> first | rfl | contradiction)) (Nat.le_of_ble_eq_true rfl) (Nat.le_of_ble_eq_true rfl) rfl

theorem c5_groups (l : Launch) (E : En) (ad : Nat → Nat) (kp tr : Option Nat) (iv : Nat → Int32) (ia K : Nat → Nat → Int32) (R : Nat → Nat → Int64) (mv : Nat → Int64) (n st : Nat) (x : Int32) (hn : iv 10 = nI n) (hst : iv 14 = nI st) (hn7 : n ≤ 7) (hs2 : 2 ≤ st) (hs4 : st ≤ 4) : CtI l E yX5_groups cX5_groups 2 .int 13 0 0 [.ref (ad 45), .int x] (mW E ad kp tr iv ia K R mv) (fun (r : Int32) (u : Int32 × (Nat → Int32)) => r = gd (feastC n x) (nI (cntL x.toNatClampNeg (GL K n st))) (feastC n x)) (fun (u : Int32 × (Nat → Int32)) => mW E ad kp tr (va_up iv 30 u.1) (va_up (va_up ia 9 (bumpR (ia 9) (feastC n x))) 29 u.2) K R mv) := by
  have h28 : 2 ^ n ≤ 2 ^ 7 := Nat.pow_le_pow_right (by decide) hn7
  refine CtI.of (by decide +kernel) (Nat.le_of_ble_eq_true rfl) ?_
  intro pR eR sR mR aR bR tR cR AR ls QR hxR hbR hmlR hts hown hlk hnm hA hK hI hl hret
  have hl : lv_has ls 2 [(0, .ref (ad 45)), (1, .int x)] := hl
  refine lv_aload_n hxR hbR dX5_groups_0 rfl (lv_at hl 0 rfl) ?_
  refine lv_iload_n hxR hbR dX5_groups_1 rfl (lv_at hl 1 rfl) ?_
  refine kVI (n := 1) (As := [.int x]) (rest := []) (fun w => w) hxR hbR hmlR hts hown hK hA hl.1 isCtx.id hI (c5_isSet l E ad kp tr iv ia K R mv n x hn (by omega)) (lw_V q1862 q1864 qs63 q86 q1865) ⟨rfl, by decide +kernel⟩ 16 5 rfl rfl mW_o rfl (Nat.le_of_ble_eq_true rfl) (Nat.le_of_ble_eq_true rfl) ⟨Nat.le_of_ble_eq_true rfl, Nat.le_of_ble_eq_true rfl⟩ (Nat.le_of_ble_eq_true rfl) dX5_groups_2 (fun r_2 u H locs hp hI hz => ?_)
  have hI : wI E AR sR H locs (mW E ad kp tr iv ia K R mv) := hI
  have hp : r_2 = b2i (decide (0 ≤ x.toInt ∧ x.toInt < ((2 ^ n : Nat) : Int))) := hp
  have hr_2 := hp
  rcases b2i_cases hr_2 with ⟨c_2, rfl⟩ | ⟨c_2, rfl⟩
  · skip
    have c_2 : 0 ≤ x.toInt ∧ x.toInt < ((2 ^ n : Nat) : Int) := of_decide_eq_true c_2
    obtain ⟨P, hP, rfl⟩ := nat_of c_2 (by omega)
    have tP : (nI P).toInt = (P : Int) := nI_toInt (by omega)
    refine lv_if_eq (tgt := 16) hxR hbR dX5_groups_5 (by decide) (fun c => absurd c (by decide)) (fun _ => ?_)
    refine lv_aload_n hxR hbR dX5_groups_8 rfl (lv_at hl 0 rfl) ?_
    refine lv_iload_n hxR hbR dX5_groups_9 rfl (lv_at hl 1 rfl) ?_
    refine kVI (n := 1) (As := [.int (nI P)]) (rest := []) (fun w => w) hxR hbR hmlR hts hown hK hA hl.1 isCtx.id hI (c5_groupsOf l E ad kp tr iv ia K R mv n st P hn hst (by omega) (by first | omega | with_reducible assumption) (by first | omega | with_reducible assumption)) (lw_V q1874 q1876 qs65 q86 q1877) ⟨rfl, by decide +kernel⟩ 16 5 rfl rfl mW_o rfl (Nat.le_of_ble_eq_true rfl) (Nat.le_of_ble_eq_true rfl) ⟨Nat.le_of_ble_eq_true rfl, Nat.le_of_ble_eq_true rfl⟩ (Nat.le_of_ble_eq_true rfl) dX5_groups_10 (fun r_10 u H locs hp hI hz => ?_)
    have hI : wI E AR sR H locs (mW E ad kp tr (va_up iv 30 (nI ((GL K n st).length))) (va_up ia 29 (wrL (ia 29) 0 (GL K n st))) K R mv) := hI
    have hp : r_10 = nI (cntL P (GL K n st)) := hp
    have hr_10 := hp
    subst hr_10
    refine lv_goto (tgt := 22) hxR hbR dX5_groups_13 (by decide) ?_
    have hC : feastC n (nI P) = 0 := by
      clear hret hI
      unfold feastC
      try simp only [nI_clamp (n := P) (by omega)]
      repeat' split
      all_goals first | rfl | (exfalso; omega) | contradiction | (exfalso; simp_all; done) | simp_all
    have eia9 : bumpR (ia 9) (feastC n (nI P)) = ia 9 := by rw [hC]; exact bump_0 _
    have hI := wI_w (ws' := mW E ad kp tr (va_up iv 30 (nI ((GL K n st).length))) (va_up (va_up ia 9 (bumpR (ia 9) (feastC n (nI P)))) 29 (wrL (ia 29) 0 (GL K n st))) K R mv) (by rw [eia9, va_up_id (f := ia) (k := 9) (v := ia 9) rfl]; try rfl) hI
    obtain ⟨zg0, hzg0⟩ : ∃ z, z = nI ((GL K n st).length) := ⟨_, rfl⟩
    rw [← hzg0] at hI
    obtain ⟨zg1, hzg1⟩ : ∃ z, z = wrL (ia 29) 0 (GL K n st) := ⟨_, rfl⟩
    rw [← hzg1] at hI
    exact hret (zg0, zg1) (nI (cntL P (GL K n st))) _ _ 0 0 _ _ dX5_groups_22 hI (by show (nI (cntL P (GL K n st))) = gd (feastC n (nI P)) (nI (cntL (nI P).toNatClampNeg (GL K n st))) (feastC n (nI P)); rw [hC]; first | rfl | (simp only [nI_clamp (n := P) (by omega)]; rfl) | (simp only [gd_0, nI_clamp (n := P) (by omega)]; split <;> first | rfl | contradiction)) (Nat.le_of_ble_eq_true rfl) (Nat.le_of_ble_eq_true rfl) rfl
  · skip
    have c_2 : ¬ (0 ≤ x.toInt ∧ x.toInt < ((2 ^ n : Nat) : Int)) := of_decide_eq_false c_2
    refine lv_if_eq (tgt := 16) hxR hbR dX5_groups_5 (by decide) (fun _ => ?_) (fun c => absurd c (by decide))
    refine lv_aload_n hxR hbR dX5_groups_16 rfl (lv_at hl 0 rfl) ?_
    refine lv_bipush (v := (-2)) hxR hbR dX5_groups_17 (by decide) ?_
    refine kVI (n := 1) (As := [.int (-2)]) (rest := []) (fun w => w) hxR hbR hmlR hts hown hK hA hl.1 isCtx.id hI (c5_refuse l E ad kp tr iv ia K R mv (-2) 2 (by decide) (by decide)) (lw_V q1624 q1626 qs34 q86 q1627) ⟨rfl, by decide +kernel⟩ 16 5 rfl rfl mW_o rfl (Nat.le_of_ble_eq_true rfl) (Nat.le_of_ble_eq_true rfl) ⟨Nat.le_of_ble_eq_true rfl, Nat.le_of_ble_eq_true rfl⟩ (Nat.le_of_ble_eq_true rfl) dX5_groups_19 (fun r_19 u H locs hp hI hz => ?_)
    have hI : wI E AR sR H locs (mW E ad kp tr iv (va_up ia 9 (va_up (ia 9) 2 (ia 9 2 + 1))) K R mv) := hI
    have hp : r_19 = (-2) := hp
    have hr_19 := hp
    subst hr_19
    have hC : feastC n x = (-2) := by
      clear hret hI
      unfold feastC
      repeat' split
      all_goals first | rfl | (exfalso; omega) | contradiction | (exfalso; simp_all; done) | simp_all
    have eia9 : bumpR (ia 9) (feastC n x) = va_up (ia 9) 2 (ia 9 2 + 1) := by rw [hC]; exact bump_2 _
    have hI := wI_w (ws' := mW E ad kp tr (va_up iv 30 (iv 30)) (va_up (va_up ia 9 (bumpR (ia 9) (feastC n x))) 29 (ia 29)) K R mv) (by rw [eia9, va_up_id (f := iv) (k := 30) (v := iv 30) rfl, va_up_id (f := (va_up ia 9 (va_up (ia 9) 2 (ia 9 2 + 1)))) (k := 29) (v := ia 29) (up_n (by decide) rfl)]; try rfl) hI
    exact hret (iv 30, ia 29) (-2) _ _ 0 0 _ _ dX5_groups_22 hI (by show (-2) = gd (feastC n x) (nI (cntL x.toNatClampNeg (GL K n st))) (feastC n x); rw [hC]; first | rfl | (simp only [gd_0]; split <;> first | rfl | contradiction)) (Nat.le_of_ble_eq_true rfl) (Nat.le_of_ble_eq_true rfl) rfl

theorem c5_firstOf (l : Launch) (E : En) (ad : Nat → Nat) (kp tr : Option Nat) (iv : Nat → Int32) (ia K : Nat → Nat → Int32) (R : Nat → Nat → Int64) (mv : Nat → Int64) (n st : Nat) (x : Int32) (hn : iv 10 = nI n) (hst : iv 14 = nI st) (hn7 : n ≤ 7) (hs2 : 2 ≤ st) (hs4 : st ≤ 4) : CtI l E yX5_firstOf cX5_firstOf 2 .int 13 0 0 [.ref (ad 45), .int x] (mW E ad kp tr iv ia K R mv) (fun (r : Int32) (u : Int32 × (Nat → Int32)) => r = gd (feastC n x) (nI (firstL x.toNatClampNeg (GL K n st))) (feastC n x)) (fun (u : Int32 × (Nat → Int32)) => mW E ad kp tr (va_up iv 30 u.1) (va_up (va_up ia 9 (bumpR (ia 9) (feastC n x))) 29 u.2) K R mv) := by
  have h28 : 2 ^ n ≤ 2 ^ 7 := Nat.pow_le_pow_right (by decide) hn7
  refine CtI.of (by decide +kernel) (Nat.le_of_ble_eq_true rfl) ?_
  intro pR eR sR mR aR bR tR cR AR ls QR hxR hbR hmlR hts hown hlk hnm hA hK hI hl hret
  have hl : lv_has ls 2 [(0, .ref (ad 45)), (1, .int x)] := hl
  refine lv_aload_n hxR hbR dX5_firstOf_0 rfl (lv_at hl 0 rfl) ?_
  refine lv_iload_n hxR hbR dX5_firstOf_1 rfl (lv_at hl 1 rfl) ?_
  refine kVI (n := 1) (As := [.int x]) (rest := []) (fun w => w) hxR hbR hmlR hts hown hK hA hl.1 isCtx.id hI (c5_isSet l E ad kp tr iv ia K R mv n x hn (by omega)) (lw_V q1862 q1864 qs63 q86 q1865) ⟨rfl, by decide +kernel⟩ 16 5 rfl rfl mW_o rfl (Nat.le_of_ble_eq_true rfl) (Nat.le_of_ble_eq_true rfl) ⟨Nat.le_of_ble_eq_true rfl, Nat.le_of_ble_eq_true rfl⟩ (Nat.le_of_ble_eq_true rfl) dX5_firstOf_2 (fun r_2 u H locs hp hI hz => ?_)
  have hI : wI E AR sR H locs (mW E ad kp tr iv ia K R mv) := hI
  have hp : r_2 = b2i (decide (0 ≤ x.toInt ∧ x.toInt < ((2 ^ n : Nat) : Int))) := hp
  have hr_2 := hp
  rcases b2i_cases hr_2 with ⟨c_2, rfl⟩ | ⟨c_2, rfl⟩
  · skip
    have c_2 : 0 ≤ x.toInt ∧ x.toInt < ((2 ^ n : Nat) : Int) := of_decide_eq_true c_2
    obtain ⟨P, hP, rfl⟩ := nat_of c_2 (by omega)
    have tP : (nI P).toInt = (P : Int) := nI_toInt (by omega)
    refine lv_if_ne (tgt := 15) hxR hbR dX5_firstOf_5 (by decide) (fun _ => ?_) (fun c => absurd c (by decide))
    refine lv_aload_n hxR hbR dX5_firstOf_15 rfl (lv_at hl 0 rfl) ?_
    refine kVV (n := 0) (As := []) (rest := []) (fun w => w) hxR hbR hmlR hts hown hK hA hl.1 isCtx.id hI (c5_listAll l E ad kp tr iv ia K R mv n st hn hst (by omega) (by first | omega | with_reducible assumption)) (lw_V q1672 q1674 qs38 q86 q1675) ⟨rfl, by decide +kernel⟩ 16 5 rfl rfl mW_o rfl (Nat.le_of_ble_eq_true rfl) (Nat.le_of_ble_eq_true rfl) ⟨Nat.le_of_ble_eq_true rfl, Nat.le_of_ble_eq_true rfl⟩ (Nat.le_of_ble_eq_true rfl) dX5_firstOf_16 (fun u H locs hp hI hz => ?_)
    have hI : wI E AR sR H locs (mW E ad kp tr (va_up iv 30 (nI ((GL K n st).length))) (va_up ia 29 (wrL (ia 29) 0 (GL K n st))) K R mv) := hI
    have hL := isL_GL (f := ia 29) (K := K) (n := n) (by omega) hs2 hs4
    refine lv_aload_n hxR hbR dX5_firstOf_19 rfl (lv_at hl 0 rfl) ?_
    refine lv_iload_n hxR hbR dX5_firstOf_20 rfl (lv_at hl 1 rfl) ?_
    refine kVI (n := 1) (As := [.int (nI P)]) (rest := []) (fun w => w) hxR hbR hmlR hts hown hK hA hl.1 isCtx.id hI (c5_firstIn l E ad kp tr (va_up iv 30 (nI ((GL K n st).length))) (va_up ia 29 (wrL (ia 29) 0 (GL K n st))) K R mv P (GL K n st) va_up_s (isL.of va_up_s hL)) (lw_V q1686 q1688 qs40 q86 q1689) ⟨rfl, by decide +kernel⟩ 16 5 rfl rfl mW_o rfl (Nat.le_of_ble_eq_true rfl) (Nat.le_of_ble_eq_true rfl) ⟨Nat.le_of_ble_eq_true rfl, Nat.le_of_ble_eq_true rfl⟩ (Nat.le_of_ble_eq_true rfl) dX5_firstOf_21 (fun r_21 u H locs hp hI hz => ?_)
    have hI : wI E AR sR H locs (mW E ad kp tr (va_up iv 30 (nI ((GL K n st).length))) (va_up ia 29 (wrL (ia 29) 0 (GL K n st))) K R mv) := hI
    have hp : r_21 = nI (firstL P (GL K n st)) := hp
    have hr_21 := hp
    subst hr_21
    have hC : feastC n (nI P) = 0 := by
      clear hret hI
      unfold feastC
      try simp only [nI_clamp (n := P) (by omega)]
      repeat' split
      all_goals first | rfl | (exfalso; omega) | contradiction | (exfalso; simp_all; done) | simp_all
    have eia9 : bumpR (ia 9) (feastC n (nI P)) = ia 9 := by rw [hC]; exact bump_0 _
    have hI := wI_w (ws' := mW E ad kp tr (va_up iv 30 (nI ((GL K n st).length))) (va_up (va_up ia 9 (bumpR (ia 9) (feastC n (nI P)))) 29 (wrL (ia 29) 0 (GL K n st))) K R mv) (by rw [eia9, va_up_id (f := ia) (k := 9) (v := ia 9) rfl]; try rfl) hI
    obtain ⟨zg0, hzg0⟩ : ∃ z, z = nI ((GL K n st).length) := ⟨_, rfl⟩
    rw [← hzg0] at hI
    obtain ⟨zg1, hzg1⟩ : ∃ z, z = wrL (ia 29) 0 (GL K n st) := ⟨_, rfl⟩
    rw [← hzg1] at hI
    exact hret (zg0, zg1) (nI (firstL P (GL K n st))) _ _ 0 0 _ _ dX5_firstOf_24 hI (by show (nI (firstL P (GL K n st))) = gd (feastC n (nI P)) (nI (firstL (nI P).toNatClampNeg (GL K n st))) (feastC n (nI P)); rw [hC]; first | rfl | (simp only [nI_clamp (n := P) (by omega)]; rfl) | (simp only [gd_0, nI_clamp (n := P) (by omega)]; split <;> first | rfl | contradiction)) (Nat.le_of_ble_eq_true rfl) (Nat.le_of_ble_eq_true rfl) rfl
  · skip
    have c_2 : ¬ (0 ≤ x.toInt ∧ x.toInt < ((2 ^ n : Nat) : Int)) := of_decide_eq_false c_2
    refine lv_if_ne (tgt := 15) hxR hbR dX5_firstOf_5 (by decide) (fun c => absurd c (by decide)) (fun _ => ?_)
    refine lv_aload_n hxR hbR dX5_firstOf_8 rfl (lv_at hl 0 rfl) ?_
    refine lv_bipush (v := (-2)) hxR hbR dX5_firstOf_9 (by decide) ?_
    refine kVI (n := 1) (As := [.int (-2)]) (rest := []) (fun w => w) hxR hbR hmlR hts hown hK hA hl.1 isCtx.id hI (c5_refuse l E ad kp tr iv ia K R mv (-2) 2 (by decide) (by decide)) (lw_V q1624 q1626 qs34 q86 q1627) ⟨rfl, by decide +kernel⟩ 16 5 rfl rfl mW_o rfl (Nat.le_of_ble_eq_true rfl) (Nat.le_of_ble_eq_true rfl) ⟨Nat.le_of_ble_eq_true rfl, Nat.le_of_ble_eq_true rfl⟩ (Nat.le_of_ble_eq_true rfl) dX5_firstOf_11 (fun r_11 u H locs hp hI hz => ?_)
    have hI : wI E AR sR H locs (mW E ad kp tr iv (va_up ia 9 (va_up (ia 9) 2 (ia 9 2 + 1))) K R mv) := hI
    have hp : r_11 = (-2) := hp
    have hr_11 := hp
    subst hr_11
    have hC : feastC n x = (-2) := by
      clear hret hI
      unfold feastC
      repeat' split
      all_goals first | rfl | (exfalso; omega) | contradiction | (exfalso; simp_all; done) | simp_all
    have eia9 : bumpR (ia 9) (feastC n x) = va_up (ia 9) 2 (ia 9 2 + 1) := by rw [hC]; exact bump_2 _
    have hI := wI_w (ws' := mW E ad kp tr (va_up iv 30 (iv 30)) (va_up (va_up ia 9 (bumpR (ia 9) (feastC n x))) 29 (ia 29)) K R mv) (by rw [eia9, va_up_id (f := iv) (k := 30) (v := iv 30) rfl, va_up_id (f := (va_up ia 9 (va_up (ia 9) 2 (ia 9 2 + 1)))) (k := 29) (v := ia 29) (up_n (by decide) rfl)]; try rfl) hI
    exact hret (iv 30, ia 29) (-2) _ _ 0 0 _ _ dX5_firstOf_14 hI (by show (-2) = gd (feastC n x) (nI (firstL x.toNatClampNeg (GL K n st))) (feastC n x); rw [hC]; first | rfl | (simp only [gd_0]; split <;> first | rfl | contradiction)) (Nat.le_of_ble_eq_true rfl) (Nat.le_of_ble_eq_true rfl) rfl

theorem c5_most (l : Launch) (E : En) (ad : Nat → Nat) (kp tr : Option Nat) (iv : Nat → Int32) (ia K : Nat → Nat → Int32) (R : Nat → Nat → Int64) (mv : Nat → Int64) (n st : Nat) (x : Int32) (hn : iv 10 = nI n) (hst : iv 14 = nI st) (hn7 : n ≤ 7) (hs2 : 2 ≤ st) (hs4 : st ≤ 4) : CtI l E yX5_most cX5_most 2 .int 300 0 0 [.ref (ad 45), .int x] (mW E ad kp tr iv ia K R mv) (fun (r : Int32) (u : Int32 × (Nat → Int32)) => r = gd (feastC n x) (nI (mostV (GL K n st) x.toNatClampNeg)) (feastC n x)) (fun (u : Int32 × (Nat → Int32)) => mW E ad kp tr (va_up iv 30 u.1) (va_up (va_up ia 9 (bumpR (ia 9) (feastC n x))) 29 u.2) K R mv) := by
  have h28 : 2 ^ n ≤ 2 ^ 7 := Nat.pow_le_pow_right (by decide) hn7
  refine CtI.of (by decide +kernel) (Nat.le_of_ble_eq_true rfl) ?_
  intro pR eR sR mR aR bR tR cR AR ls QR hxR hbR hmlR hts hown hlk hnm hA hK hI hl hret
  have hl : lv_has ls 2 [(0, .ref (ad 45)), (1, .int x)] := hl
  refine lv_aload_n hxR hbR dX5_most_0 rfl (lv_at hl 0 rfl) ?_
  refine lv_iload_n hxR hbR dX5_most_1 rfl (lv_at hl 1 rfl) ?_
  refine kVI (n := 1) (As := [.int x]) (rest := []) (fun w => w) hxR hbR hmlR hts hown hK hA hl.1 isCtx.id hI (c5_isSet l E ad kp tr iv ia K R mv n x hn (by omega)) (lw_V q1862 q1864 qs63 q86 q1865) ⟨rfl, by decide +kernel⟩ 16 5 rfl rfl mW_o rfl (Nat.le_of_ble_eq_true rfl) (Nat.le_of_ble_eq_true rfl) ⟨Nat.le_of_ble_eq_true rfl, Nat.le_of_ble_eq_true rfl⟩ (Nat.le_of_ble_eq_true rfl) dX5_most_2 (fun r_2 u H locs hp hI hz => ?_)
  have hI : wI E AR sR H locs (mW E ad kp tr iv ia K R mv) := hI
  have hp : r_2 = b2i (decide (0 ≤ x.toInt ∧ x.toInt < ((2 ^ n : Nat) : Int))) := hp
  have hr_2 := hp
  rcases b2i_cases hr_2 with ⟨c_2, rfl⟩ | ⟨c_2, rfl⟩
  · skip
    have c_2 : 0 ≤ x.toInt ∧ x.toInt < ((2 ^ n : Nat) : Int) := of_decide_eq_true c_2
    obtain ⟨P, hP, rfl⟩ := nat_of c_2 (by omega)
    have tP : (nI P).toInt = (P : Int) := nI_toInt (by omega)
    refine lv_if_ne (tgt := 15) hxR hbR dX5_most_5 (by decide) (fun _ => ?_) (fun c => absurd c (by decide))
    refine lv_aload_n hxR hbR dX5_most_15 rfl (lv_at hl 0 rfl) ?_
    refine kVV (n := 0) (As := []) (rest := []) (fun w => w) hxR hbR hmlR hts hown hK hA hl.1 isCtx.id hI (c5_listAll l E ad kp tr iv ia K R mv n st hn hst (by omega) (by first | omega | with_reducible assumption)) (lw_V q1672 q1674 qs38 q86 q1675) ⟨rfl, by decide +kernel⟩ 16 5 rfl rfl mW_o rfl (Nat.le_of_ble_eq_true rfl) (Nat.le_of_ble_eq_true rfl) ⟨Nat.le_of_ble_eq_true rfl, Nat.le_of_ble_eq_true rfl⟩ (Nat.le_of_ble_eq_true rfl) dX5_most_16 (fun u H locs hp hI hz => ?_)
    have hI : wI E AR sR H locs (mW E ad kp tr (va_up iv 30 (nI ((GL K n st).length))) (va_up ia 29 (wrL (ia 29) 0 (GL K n st))) K R mv) := hI
    have hL := isL_GL (f := ia 29) (K := K) (n := n) (by omega) hs2 hs4
    refine lv_aload_n hxR hbR dX5_most_19 rfl (lv_at hl 0 rfl) ?_
    refine lv_iload_n hxR hbR dX5_most_20 rfl (lv_at hl 1 rfl) ?_
    refine kVI (n := 1) (As := [.int (nI P)]) (rest := []) (fun w => w) hxR hbR hmlR hts hown hK hA hl.1 isCtx.id hI (c5_mostIn l E P ad kp tr (va_up iv 30 (nI ((GL K n st).length))) (va_up ia 29 (wrL (ia 29) 0 (GL K n st))) K R mv P (GL K n st) va_up_s (isL.of va_up_s hL) rfl (by omega)) (lw_V q1694 q1696 qs42 q86 q1697) ⟨rfl, by decide +kernel⟩ 16 5 rfl rfl mW_o rfl (by omega) (Nat.le_of_ble_eq_true rfl) ⟨Nat.le_of_ble_eq_true rfl, Nat.le_of_ble_eq_true rfl⟩ (Nat.le_of_ble_eq_true rfl) dX5_most_21 (fun r_21 u H locs hp hI hz => ?_)
    have hI : wI E AR sR H locs (mW E ad kp tr (va_up iv 30 (nI ((GL K n st).length))) (va_up ia 29 (wrL (ia 29) 0 (GL K n st))) K R mv) := hI
    have hp : r_21 = nI (mostV (GL K n st) P) := hp
    have hr_21 := hp
    subst hr_21
    have hC : feastC n (nI P) = 0 := by
      clear hret hI
      unfold feastC
      try simp only [nI_clamp (n := P) (by omega)]
      repeat' split
      all_goals first | rfl | (exfalso; omega) | contradiction | (exfalso; simp_all; done) | simp_all
    have eia9 : bumpR (ia 9) (feastC n (nI P)) = ia 9 := by rw [hC]; exact bump_0 _
    have hI := wI_w (ws' := mW E ad kp tr (va_up iv 30 (nI ((GL K n st).length))) (va_up (va_up ia 9 (bumpR (ia 9) (feastC n (nI P)))) 29 (wrL (ia 29) 0 (GL K n st))) K R mv) (by rw [eia9, va_up_id (f := ia) (k := 9) (v := ia 9) rfl]; try rfl) hI
    obtain ⟨zg0, hzg0⟩ : ∃ z, z = nI ((GL K n st).length) := ⟨_, rfl⟩
    rw [← hzg0] at hI
    obtain ⟨zg1, hzg1⟩ : ∃ z, z = wrL (ia 29) 0 (GL K n st) := ⟨_, rfl⟩
    rw [← hzg1] at hI
    exact hret (zg0, zg1) (nI (mostV (GL K n st) P)) _ _ 0 0 _ _ dX5_most_24 hI (by show (nI (mostV (GL K n st) P)) = gd (feastC n (nI P)) (nI (mostV (GL K n st) (nI P).toNatClampNeg)) (feastC n (nI P)); rw [hC]; first | rfl | (simp only [nI_clamp (n := P) (by omega)]; rfl) | (simp only [gd_0, nI_clamp (n := P) (by omega)]; split <;> first | rfl | contradiction)) (Nat.le_of_ble_eq_true rfl) (Nat.le_of_ble_eq_true rfl) rfl
  · skip
    have c_2 : ¬ (0 ≤ x.toInt ∧ x.toInt < ((2 ^ n : Nat) : Int)) := of_decide_eq_false c_2
    refine lv_if_ne (tgt := 15) hxR hbR dX5_most_5 (by decide) (fun c => absurd c (by decide)) (fun _ => ?_)
    refine lv_aload_n hxR hbR dX5_most_8 rfl (lv_at hl 0 rfl) ?_
    refine lv_bipush (v := (-2)) hxR hbR dX5_most_9 (by decide) ?_
    refine kVI (n := 1) (As := [.int (-2)]) (rest := []) (fun w => w) hxR hbR hmlR hts hown hK hA hl.1 isCtx.id hI (c5_refuse l E ad kp tr iv ia K R mv (-2) 2 (by decide) (by decide)) (lw_V q1624 q1626 qs34 q86 q1627) ⟨rfl, by decide +kernel⟩ 16 5 rfl rfl mW_o rfl (Nat.le_of_ble_eq_true rfl) (Nat.le_of_ble_eq_true rfl) ⟨Nat.le_of_ble_eq_true rfl, Nat.le_of_ble_eq_true rfl⟩ (Nat.le_of_ble_eq_true rfl) dX5_most_11 (fun r_11 u H locs hp hI hz => ?_)
    have hI : wI E AR sR H locs (mW E ad kp tr iv (va_up ia 9 (va_up (ia 9) 2 (ia 9 2 + 1))) K R mv) := hI
    have hp : r_11 = (-2) := hp
    have hr_11 := hp
    subst hr_11
    have hC : feastC n x = (-2) := by
      clear hret hI
      unfold feastC
      repeat' split
      all_goals first | rfl | (exfalso; omega) | contradiction | (exfalso; simp_all; done) | simp_all
    have eia9 : bumpR (ia 9) (feastC n x) = va_up (ia 9) 2 (ia 9 2 + 1) := by rw [hC]; exact bump_2 _
    have hI := wI_w (ws' := mW E ad kp tr (va_up iv 30 (iv 30)) (va_up (va_up ia 9 (bumpR (ia 9) (feastC n x))) 29 (ia 29)) K R mv) (by rw [eia9, va_up_id (f := iv) (k := 30) (v := iv 30) rfl, va_up_id (f := (va_up ia 9 (va_up (ia 9) 2 (ia 9 2 + 1)))) (k := 29) (v := ia 29) (up_n (by decide) rfl)]; try rfl) hI
    exact hret (iv 30, ia 29) (-2) _ _ 0 0 _ _ dX5_most_14 hI (by show (-2) = gd (feastC n x) (nI (mostV (GL K n st) x.toNatClampNeg)) (feastC n x); rw [hC]; first | rfl | (simp only [gd_0]; split <;> first | rfl | contradiction)) (Nat.le_of_ble_eq_true rfl) (Nat.le_of_ble_eq_true rfl) rfl

theorem c5_mostOf (l : Launch) (E : En) (ad : Nat → Nat) (kp tr : Option Nat) (iv : Nat → Int32) (ia K : Nat → Nat → Int32) (R : Nat → Nat → Int64) (mv : Nat → Int64) (n st : Nat) (x i : Int32) (hn : iv 10 = nI n) (hst : iv 14 = nI st) (hn7 : n ≤ 7) (hs2 : 2 ≤ st) (hs4 : st ≤ 4) : CtI l E yX5_mostOf cX5_mostOf 5 .int 300 0 0 [.ref (ad 45), .int x, .int i] (mW E ad kp tr iv ia K R mv) (fun (r : Int32) (u : Int32 × (Nat → Int32)) => r = gd (mostOfC K n st x i) (nI (bestL (GL K n st) (moL (GL K n st) x.toNatClampNeg i.toNatClampNeg) (GL K n st))) (mostOfC K n st x i)) (fun (u : Int32 × (Nat → Int32)) => mW E ad kp tr (va_up iv 30 u.1) (va_up (va_up ia 9 (bumpR (ia 9) (mostOfC K n st x i))) 29 u.2) K R mv) := by
  have h28 : 2 ^ n ≤ 2 ^ 7 := Nat.pow_le_pow_right (by decide) hn7
  refine CtI.of (by decide +kernel) (Nat.le_of_ble_eq_true rfl) ?_
  intro pR eR sR mR aR bR tR cR AR ls QR hxR hbR hmlR hts hown hlk hnm hA hK hI hl hret
  have hl : lv_has ls 5 [(0, .ref (ad 45)), (1, .int x), (2, .int i)] := hl
  refine lv_aload_n hxR hbR dX5_mostOf_0 rfl (lv_at hl 0 rfl) ?_
  refine lv_iload_n hxR hbR dX5_mostOf_1 rfl (lv_at hl 1 rfl) ?_
  refine kVI (n := 1) (As := [.int x]) (rest := []) (fun w => w) hxR hbR hmlR hts hown hK hA hl.1 isCtx.id hI (c5_isSet l E ad kp tr iv ia K R mv n x hn (by omega)) (lw_V q1862 q1864 qs63 q86 q1865) ⟨rfl, by decide +kernel⟩ 16 5 rfl rfl mW_o rfl (Nat.le_of_ble_eq_true rfl) (Nat.le_of_ble_eq_true rfl) ⟨Nat.le_of_ble_eq_true rfl, Nat.le_of_ble_eq_true rfl⟩ (Nat.le_of_ble_eq_true rfl) dX5_mostOf_2 (fun r_2 u H locs hp hI hz => ?_)
  have hI : wI E AR sR H locs (mW E ad kp tr iv ia K R mv) := hI
  have hp : r_2 = b2i (decide (0 ≤ x.toInt ∧ x.toInt < ((2 ^ n : Nat) : Int))) := hp
  have hr_2 := hp
  rcases b2i_cases hr_2 with ⟨c_2, rfl⟩ | ⟨c_2, rfl⟩
  · skip
    have c_2 : 0 ≤ x.toInt ∧ x.toInt < ((2 ^ n : Nat) : Int) := of_decide_eq_true c_2
    obtain ⟨P, hP, rfl⟩ := nat_of c_2 (by omega)
    have tP : (nI P).toInt = (P : Int) := nI_toInt (by omega)
    refine lv_if_ne (tgt := 15) hxR hbR dX5_mostOf_5 (by decide) (fun _ => ?_) (fun c => absurd c (by decide))
    refine lv_aload_n hxR hbR dX5_mostOf_15 rfl (lv_at hl 0 rfl) ?_
    refine kVV (n := 0) (As := []) (rest := []) (fun w => w) hxR hbR hmlR hts hown hK hA hl.1 isCtx.id hI (c5_listAll l E ad kp tr iv ia K R mv n st hn hst (by omega) (by first | omega | with_reducible assumption)) (lw_V q1672 q1674 qs38 q86 q1675) ⟨rfl, by decide +kernel⟩ 16 5 rfl rfl mW_o rfl (Nat.le_of_ble_eq_true rfl) (Nat.le_of_ble_eq_true rfl) ⟨Nat.le_of_ble_eq_true rfl, Nat.le_of_ble_eq_true rfl⟩ (Nat.le_of_ble_eq_true rfl) dX5_mostOf_16 (fun u H locs hp hI hz => ?_)
    have hI : wI E AR sR H locs (mW E ad kp tr (va_up iv 30 (nI ((GL K n st).length))) (va_up ia 29 (wrL (ia 29) 0 (GL K n st))) K R mv) := hI
    have hL := isL_GL (f := ia 29) (K := K) (n := n) (by omega) hs2 hs4
    refine lv_iload_n hxR hbR dX5_mostOf_19 rfl (lv_at hl 2 rfl) ?_
    refine lv_i2l (v := i.toInt64) hxR hbR dX5_mostOf_20 rfl ?_
    refine lv_lconst (v := 0) hxR hbR dX5_mostOf_21 (by decide) ?_
    refine lv_aload_n hxR hbR dX5_mostOf_22 rfl (lv_at hl 0 rfl) ?_
    refine lv_iload_n hxR hbR dX5_mostOf_23 rfl (lv_at hl 1 rfl) ?_
    refine kVI (n := 1) (As := [.int (nI P)]) (rest := [.long (0 : Int64), .long i.toInt64]) (fun w => w) hxR hbR hmlR hts hown hK hA hl.1 isCtx.id hI (c5_mostIn l E P ad kp tr (va_up iv 30 (nI ((GL K n st).length))) (va_up ia 29 (wrL (ia 29) 0 (GL K n st))) K R mv P (GL K n st) va_up_s (isL.of va_up_s hL) rfl (by omega)) (lw_V q1694 q1696 qs42 q86 q1697) ⟨rfl, by decide +kernel⟩ 16 5 rfl rfl mW_o rfl (by omega) (Nat.le_of_ble_eq_true rfl) ⟨Nat.le_of_ble_eq_true rfl, Nat.le_of_ble_eq_true rfl⟩ (Nat.le_of_ble_eq_true rfl) dX5_mostOf_24 (fun r_24 u H locs hp hI hz => ?_)
    have hI : wI E AR sR H locs (mW E ad kp tr (va_up iv 30 (nI ((GL K n st).length))) (va_up ia 29 (wrL (ia 29) 0 (GL K n st))) K R mv) := hI
    have hp : r_24 = nI (mostV (GL K n st) P) := hp
    have hr_24 := hp
    subst hr_24
    have hmv := mostV_le hL.nz P
    refine lv_iconst (v := 1) hxR hbR dX5_mostOf_27 (by decide) ?_
    refine lv_isub hxR hbR dX5_mostOf_28 ?_
    refine lv_i2l (v := ((nI (mostV (GL K n st) P)) - 1).toInt64) hxR hbR dX5_mostOf_29 rfl ?_
    refine kSI (n := 3) (As := [.long i.toInt64, .long (0 : Int64), .long (((nI (mostV (GL K n st) P)) - 1).toInt64)]) (rest := []) (fun w => w ++ (mW E ad kp tr (va_up iv 30 (nI ((GL K n st).length))) (va_up ia 29 (wrL (ia 29) 0 (GL K n st))) K R mv)) hxR hbR hmlR hts hown hK hA hl.1 (isCtx.suf _) hI (c5_in l E  i.toInt64 (0 : Int64) (((nI (mostV (GL K n st) P)) - 1).toInt64) ) (lw_S q1619 q1620 q86 q1621) (by decide +kernel) rfl (Nat.le_of_ble_eq_true rfl) (Nat.le_of_ble_eq_true rfl) ⟨Nat.le_of_ble_eq_true rfl, Nat.le_of_ble_eq_true rfl⟩ (Nat.le_of_ble_eq_true rfl) dX5_mostOf_30 (fun r_30 u H locs hp hI hz => ?_)
    have hI : wI E AR sR H locs (mW E ad kp tr (va_up iv 30 (nI ((GL K n st).length))) (va_up ia 29 (wrL (ia 29) 0 (GL K n st))) K R mv) := hI
    have hp : r_30 = b2i (inL i.toInt64 (0 : Int64) (((nI (mostV (GL K n st) P)) - 1).toInt64)) := hp
    have hr_30 := hp
    rcases b2i_cases hr_30 with ⟨c_30, rfl⟩ | ⟨c_30, rfl⟩
    · skip
      have c_30 : (0 : Int64).toInt ≤ i.toInt64.toInt ∧ i.toInt64.toInt ≤ (((nI (mostV (GL K n st) P)) - 1).toInt64).toInt := of_decide_eq_true c_30
      have c_30 : 0 ≤ i.toInt ∧ i.toInt ≤ (mostV (GL K n st) P : Int) - 1 := by simp only [Int32.toInt_toInt64] at c_30; rw [nI_m1 (n := mostV (GL K n st) P) (by omega)] at c_30; exact c_30
      obtain ⟨ix, hix, rfl⟩ := nat_of (x := i) (k := mostV (GL K n st) P) (by omega) (by omega)
      have tix : (nI ix).toInt = (ix : Int) := nI_toInt (by omega)
      refine lv_if_ne (tgt := 43) hxR hbR dX5_mostOf_33 (by decide) (fun _ => ?_) (fun c => absurd c (by decide))
      refine lv_iload_n hxR hbR dX5_mostOf_43 rfl (lv_at hl 1 rfl) ?_
      refine lv_istore_n (lv' := [(3, .int (nI P)), (0, .ref (ad 45)), (1, .int (nI P)), (2, .int (nI ix))]) hxR hbR dX5_mostOf_44 rfl hl (by decide) rfl (fun ls hl => ?_)
      refine lv_iconst (v := 0) hxR hbR dX5_mostOf_45 (by decide) ?_
      refine lv_istore (lv' := [(4, .int 0), (3, .int (nI P)), (0, .ref (ad 45)), (1, .int (nI P)), (2, .int (nI ix))]) hxR hbR dX5_mostOf_46 hl (by decide) rfl (fun ls hl => ?_)
      have lp_48 : ∀ (fu : Nat) (k : Nat) (w : Nat), (k ≤ ix) → (w = moL (GL K n st) P k) → (w ≤ P) → ix - k < fu → ∀ (H : Heap) (locs : List Loc), wI E AR sR H locs (mW E ad kp tr (va_up iv 30 (nI ((GL K n st).length))) (va_up ia 29 (wrL (ia 29) 0 (GL K n st))) K R mv) → ∀ ls : Array Slot, lv_has ls 5 [(0, .ref (ad 45)), (1, .int (nI P)), (2, .int (nI ix)), (3, .int (nI w)), (4, .int (nI k))] → W pR l eR (rmF 300 0 0) sR mR aR bR tR cR H locs 0 0 QR (F0 mR 48 ls []) := by
        intro fu
        induction fu with
        | zero =>
          intro k w hk hw hwl hfu
          exact absurd hfu (Nat.not_lt_zero _)
        | succ fu ih_48 =>
          intro k w hk hw hwl hfu H locs hI ls hl
          refine lv_iload hxR hbR dX5_mostOf_48 (lv_at hl 4 rfl) ?_
          refine lv_iload_n hxR hbR dX5_mostOf_50 rfl (lv_at hl 2 rfl) ?_
          refine lv_icmp_ge (tgt := 70) hxR hbR dX5_mostOf_51 (by decide) (fun c_51 => ?_) (fun c_51 => ?_)
          · skip
            have c_51 : ix ≤ k := (n_le (a := ix) (b := k) (by omega) (by omega)).mp c_51
            have hkI : k = ix := by omega
            refine lv_aload_n hxR hbR dX5_mostOf_70 rfl (lv_at hl 0 rfl) ?_
            refine lv_iload_n hxR hbR dX5_mostOf_71 rfl (lv_at hl 3 rfl) ?_
            refine kVI (n := 1) (As := [.int (nI w)]) (rest := []) (fun w => w) hxR hbR hmlR hts hown hK hA hl.1 isCtx.id hI (c5_bestIn l E ad kp tr (va_up iv 30 (nI ((GL K n st).length))) (va_up ia 29 (wrL (ia 29) 0 (GL K n st))) K R mv w (GL K n st) va_up_s (isL.of va_up_s hL) (by omega)) (lw_V q1690 q1692 qs41 q86 q1693) ⟨rfl, by decide +kernel⟩ 16 5 rfl rfl mW_o rfl (Nat.le_of_ble_eq_true rfl) (Nat.le_of_ble_eq_true rfl) ⟨Nat.le_of_ble_eq_true rfl, Nat.le_of_ble_eq_true rfl⟩ (Nat.le_of_ble_eq_true rfl) dX5_mostOf_72 (fun r_72 u H locs hp hI hz => ?_)
            have hI : wI E AR sR H locs (mW E ad kp tr (va_up iv 30 (nI ((GL K n st).length))) (va_up ia 29 (wrL (ia 29) 0 (GL K n st))) K R mv) := hI
            have hp : r_72 = nI (bestL (GL K n st) w (GL K n st)) := hp
            have hr_72 := hp
            subst hr_72
            have hC : mostOfC K n st (nI P) (nI ix) = 0 := by
              clear hret hI
              unfold mostOfC; rw [if_pos c_2]; simp only [nI_clamp (n := P) (by omega)]; rw [if_pos c_30]
            have eia9 : bumpR (ia 9) (mostOfC K n st (nI P) (nI ix)) = ia 9 := by rw [hC]; exact bump_0 _
            have hI := wI_w (ws' := mW E ad kp tr (va_up iv 30 (nI ((GL K n st).length))) (va_up (va_up ia 9 (bumpR (ia 9) (mostOfC K n st (nI P) (nI ix)))) 29 (wrL (ia 29) 0 (GL K n st))) K R mv) (by rw [eia9, va_up_id (f := ia) (k := 9) (v := ia 9) rfl]; try rfl) hI
            obtain ⟨zg0, hzg0⟩ : ∃ z, z = nI ((GL K n st).length) := ⟨_, rfl⟩
            rw [← hzg0] at hI
            obtain ⟨zg1, hzg1⟩ : ∃ z, z = wrL (ia 29) 0 (GL K n st) := ⟨_, rfl⟩
            rw [← hzg1] at hI
            exact hret (zg0, zg1) (nI (bestL (GL K n st) w (GL K n st))) _ _ 0 0 _ _ dX5_mostOf_75 hI (by show (nI (bestL (GL K n st) w (GL K n st))) = gd (mostOfC K n st (nI P) (nI ix)) (nI (bestL (GL K n st) (moL (GL K n st) (nI P).toNatClampNeg (nI ix).toNatClampNeg) (GL K n st))) (mostOfC K n st (nI P) (nI ix)); rw [hC]; simp only [nI_clamp (n := P) (by omega), nI_clamp (n := ix) (by omega)]; rw [← hkI, ← hw]; rfl) (Nat.le_of_ble_eq_true rfl) (Nat.le_of_ble_eq_true rfl) rfl
          · skip
            have c_51 : k < ix := Nat.lt_of_not_le (fun zz => c_51 ((n_le (a := ix) (b := k) (by omega) (by omega)).mpr zz))
            refine lv_iload_n hxR hbR dX5_mostOf_54 rfl (lv_at hl 3 rfl) ?_
            refine lv_aload_n hxR hbR dX5_mostOf_55 rfl (lv_at hl 0 rfl) ?_
            refine lv_iload_n hxR hbR dX5_mostOf_56 rfl (lv_at hl 3 rfl) ?_
            refine kVI (n := 1) (As := [.int (nI w)]) (rest := [.int (nI w)]) (fun w => w) hxR hbR hmlR hts hown hK hA hl.1 isCtx.id hI (c5_bestIn l E ad kp tr (va_up iv 30 (nI ((GL K n st).length))) (va_up ia 29 (wrL (ia 29) 0 (GL K n st))) K R mv w (GL K n st) va_up_s (isL.of va_up_s hL) (by omega)) (lw_V q1690 q1692 qs41 q86 q1693) ⟨rfl, by decide +kernel⟩ 16 5 rfl rfl mW_o rfl (Nat.le_of_ble_eq_true rfl) (Nat.le_of_ble_eq_true rfl) ⟨Nat.le_of_ble_eq_true rfl, Nat.le_of_ble_eq_true rfl⟩ (Nat.le_of_ble_eq_true rfl) dX5_mostOf_57 (fun r_57 u H locs hp hI hz => ?_)
            have hI : wI E AR sR H locs (mW E ad kp tr (va_up iv 30 (nI ((GL K n st).length))) (va_up ia 29 (wrL (ia 29) 0 (GL K n st))) K R mv) := hI
            have hp : r_57 = nI (bestL (GL K n st) w (GL K n st)) := hp
            have hr_57 := hp
            subst hr_57
            refine lv_iconst (v := (-1)) hxR hbR dX5_mostOf_60 (by decide) ?_
            refine lv_ixor hxR hbR dX5_mostOf_61 ?_
            refine lv_iand hxR hbR dX5_mostOf_62 ?_
            refine lv_as (y := nI (nd w (bestL (GL K n st) w (GL K n st)))) (nb_nd w (bestL (GL K n st) w (GL K n st))) ?_
            refine lv_istore_n (lv' := [(3, .int (nI (nd w (bestL (GL K n st) w (GL K n st))))), (0, .ref (ad 45)), (1, .int (nI P)), (2, .int (nI ix)), (4, .int (nI k))]) hxR hbR dX5_mostOf_63 rfl hl (by decide) rfl (fun ls hl => ?_)
            refine lv_iinc (v := nI (k + 1)) (lv' := [(4, .int (nI (k + 1))), (3, .int (nI (nd w (bestL (GL K n st) w (GL K n st))))), (0, .ref (ad 45)), (1, .int (nI P)), (2, .int (nI ix))]) hxR hbR dX5_mostOf_64 hl (k := 4) rfl (show nI k + 1 = nI (k + 1) from nI_add _ 1) (by decide) rfl (fun ls hl => ?_)
            refine lv_goto (tgt := 48) hxR hbR dX5_mostOf_67 (by decide) ?_
            exact ih_48 (k + 1) (nd w (bestL (GL K n st) w (GL K n st))) (by first | omega | with_reducible assumption) (by rw [hw]; rfl) (Nat.le_trans (nd_le _ _) hwl) (by omega) _ _ hI _ (lv_sub hl [2, 3, 4, 1, 0] rfl)
      exact lp_48 _ 0 P (by first | omega | with_reducible assumption) rfl (by first | omega | with_reducible assumption) (Nat.lt_succ_self _) _ _ hI _ (lv_sub hl [2, 3, 4, 1, 0] rfl)
    · skip
      have c_30 : ¬ ((0 : Int64).toInt ≤ i.toInt64.toInt ∧ i.toInt64.toInt ≤ (((nI (mostV (GL K n st) P)) - 1).toInt64).toInt) := of_decide_eq_false c_30
      have c_30 : ¬ (0 ≤ i.toInt ∧ i.toInt ≤ (mostV (GL K n st) P : Int) - 1) := by simp only [Int32.toInt_toInt64] at c_30; rw [nI_m1 (n := mostV (GL K n st) P) (by omega)] at c_30; exact c_30
      refine lv_if_ne (tgt := 43) hxR hbR dX5_mostOf_33 (by decide) (fun c => absurd c (by decide)) (fun _ => ?_)
      refine lv_aload_n hxR hbR dX5_mostOf_36 rfl (lv_at hl 0 rfl) ?_
      refine lv_bipush (v := (-5)) hxR hbR dX5_mostOf_37 (by decide) ?_
      refine kVI (n := 1) (As := [.int (-5)]) (rest := []) (fun w => w) hxR hbR hmlR hts hown hK hA hl.1 isCtx.id hI (c5_refuse l E ad kp tr (va_up iv 30 (nI ((GL K n st).length))) (va_up ia 29 (wrL (ia 29) 0 (GL K n st))) K R mv (-5) 5 (by decide) (by decide)) (lw_V q1624 q1626 qs34 q86 q1627) ⟨rfl, by decide +kernel⟩ 16 5 rfl rfl mW_o rfl (Nat.le_of_ble_eq_true rfl) (Nat.le_of_ble_eq_true rfl) ⟨Nat.le_of_ble_eq_true rfl, Nat.le_of_ble_eq_true rfl⟩ (Nat.le_of_ble_eq_true rfl) dX5_mostOf_39 (fun r_39 u H locs hp hI hz => ?_)
      have hI : wI E AR sR H locs (mW E ad kp tr (va_up iv 30 (nI ((GL K n st).length))) (va_up (va_up ia 29 (wrL (ia 29) 0 (GL K n st))) 9 (va_up ((ia 9)) 5 ((ia 9) 5 + 1))) K R mv) := hI
      have hI := wI_w (ws' := mW E ad kp tr (va_up iv 30 (nI ((GL K n st).length))) (va_up (va_up ia 9 (va_up ((ia 9)) 5 ((ia 9) 5 + 1))) 29 (wrL (ia 29) 0 (GL K n st))) K R mv) (by rw [(show (va_up (va_up ia 9 (va_up ((ia 9)) 5 ((ia 9) 5 + 1))) 29 (wrL (ia 29) 0 (GL K n st))) = (va_up (va_up ia 29 (wrL (ia 29) 0 (GL K n st))) 9 (va_up ((ia 9)) 5 ((ia 9) 5 + 1))) from ((up_s (by decide) rfl)).symm)]) hI
      have hI : wI E AR sR H locs (mW E ad kp tr (va_up iv 30 (nI ((GL K n st).length))) (va_up (va_up ia 9 (va_up ((ia 9)) 5 ((ia 9) 5 + 1))) 29 (wrL (ia 29) 0 (GL K n st))) K R mv) := hI
      have hp : r_39 = (-5) := hp
      have hr_39 := hp
      subst hr_39
      have hC : mostOfC K n st (nI P) i = (-5) := by
        clear hret hI
        unfold mostOfC; rw [if_pos c_2]; simp only [nI_clamp (n := P) (by omega)]; rw [if_neg c_30]
      have eia9 : bumpR (ia 9) (mostOfC K n st (nI P) i) = va_up ((ia 9)) 5 ((ia 9) 5 + 1) := by rw [hC]; exact bump_5 _
      have hI := wI_w (ws' := mW E ad kp tr (va_up iv 30 (nI ((GL K n st).length))) (va_up (va_up ia 9 (bumpR (ia 9) (mostOfC K n st (nI P) i))) 29 (wrL (ia 29) 0 (GL K n st))) K R mv) (by rw [eia9]; try rfl) hI
      obtain ⟨zg0, hzg0⟩ : ∃ z, z = nI ((GL K n st).length) := ⟨_, rfl⟩
      rw [← hzg0] at hI
      obtain ⟨zg1, hzg1⟩ : ∃ z, z = wrL (ia 29) 0 (GL K n st) := ⟨_, rfl⟩
      rw [← hzg1] at hI
      exact hret (zg0, zg1) (-5) _ _ 0 0 _ _ dX5_mostOf_42 hI (by show (-5) = gd (mostOfC K n st (nI P) i) (nI (bestL (GL K n st) (moL (GL K n st) (nI P).toNatClampNeg i.toNatClampNeg) (GL K n st))) (mostOfC K n st (nI P) i); rw [hC]; first | rfl | (simp only [nI_clamp (n := P) (by omega)]; rfl) | (simp only [gd_0, nI_clamp (n := P) (by omega)]; split <;> first | rfl | contradiction)) (Nat.le_of_ble_eq_true rfl) (Nat.le_of_ble_eq_true rfl) rfl
  · skip
    have c_2 : ¬ (0 ≤ x.toInt ∧ x.toInt < ((2 ^ n : Nat) : Int)) := of_decide_eq_false c_2
    refine lv_if_ne (tgt := 15) hxR hbR dX5_mostOf_5 (by decide) (fun c => absurd c (by decide)) (fun _ => ?_)
    refine lv_aload_n hxR hbR dX5_mostOf_8 rfl (lv_at hl 0 rfl) ?_
    refine lv_bipush (v := (-2)) hxR hbR dX5_mostOf_9 (by decide) ?_
    refine kVI (n := 1) (As := [.int (-2)]) (rest := []) (fun w => w) hxR hbR hmlR hts hown hK hA hl.1 isCtx.id hI (c5_refuse l E ad kp tr iv ia K R mv (-2) 2 (by decide) (by decide)) (lw_V q1624 q1626 qs34 q86 q1627) ⟨rfl, by decide +kernel⟩ 16 5 rfl rfl mW_o rfl (Nat.le_of_ble_eq_true rfl) (Nat.le_of_ble_eq_true rfl) ⟨Nat.le_of_ble_eq_true rfl, Nat.le_of_ble_eq_true rfl⟩ (Nat.le_of_ble_eq_true rfl) dX5_mostOf_11 (fun r_11 u H locs hp hI hz => ?_)
    have hI : wI E AR sR H locs (mW E ad kp tr iv (va_up ia 9 (va_up (ia 9) 2 (ia 9 2 + 1))) K R mv) := hI
    have hp : r_11 = (-2) := hp
    have hr_11 := hp
    subst hr_11
    have hC : mostOfC K n st x i = (-2) := by
      clear hret hI
      unfold mostOfC
      repeat' split
      all_goals first | rfl | (exfalso; omega) | contradiction | (exfalso; simp_all; done) | simp_all
    have eia9 : bumpR (ia 9) (mostOfC K n st x i) = va_up (ia 9) 2 (ia 9 2 + 1) := by rw [hC]; exact bump_2 _
    have hI := wI_w (ws' := mW E ad kp tr (va_up iv 30 (iv 30)) (va_up (va_up ia 9 (bumpR (ia 9) (mostOfC K n st x i))) 29 (ia 29)) K R mv) (by rw [eia9, va_up_id (f := iv) (k := 30) (v := iv 30) rfl, va_up_id (f := (va_up ia 9 (va_up (ia 9) 2 (ia 9 2 + 1)))) (k := 29) (v := ia 29) (up_n (by decide) rfl)]; try rfl) hI
    exact hret (iv 30, ia 29) (-2) _ _ 0 0 _ _ dX5_mostOf_14 hI (by show (-2) = gd (mostOfC K n st x i) (nI (bestL (GL K n st) (moL (GL K n st) x.toNatClampNeg i.toNatClampNeg) (GL K n st))) (mostOfC K n st x i); rw [hC]; first | rfl | (simp only [gd_0]; split <;> first | rfl | contradiction)) (Nat.le_of_ble_eq_true rfl) (Nat.le_of_ble_eq_true rfl) rfl
