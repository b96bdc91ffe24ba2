theorem j15_vectorizedHashCode (l : Launch) (E : En) (qa : Nat) (na : Nat) (fa : Nat → Int32) (x : Nat) (hx : x = na ∧ na ≤ 1000) : CtI l E yJ15_vectorizedHashCode cJ15_vectorizedHashCode 5 .int 1 0 0 [.ref qa, .int 0, .int (nI x), .int 0, .int 4] (byW E qa na fa) (fun (r : Int32) (u : Unit) => r = hshF fa x) (fun (u : Unit) => byW E qa na fa) := by
  refine CtI.of (by decide +kernel) (Nat.le_of_ble_eq_true rfl) ?_
  intro pR eR sR mR aR bR tR cR AR ls QR hxR hbR hmlR hts hown hlk hnm hA hK hI hl hret
  have hl : lv_has ls 5 [(0, .ref qa), (1, .int 0), (2, .int (nI x)), (3, .int 0), (4, .int 4)] := hl
  refine lv_iload hxR hbR dJ15_vectorizedHashCode_0 (lv_at hl 4 rfl) ?_
  refine lv_tableIn (tgt := 44) hxR hbR dJ15_vectorizedHashCode_2 (by decide) (by decide) rfl (by decide) ?_
  refine lv_iload_n hxR hbR dJ15_vectorizedHashCode_44 rfl (lv_at hl 3 rfl) ?_
  refine lv_aload_n hxR hbR dJ15_vectorizedHashCode_45 rfl (lv_at hl 0 rfl) ?_
  refine r_castT hxR hbR hts hown q1067 (row_self hK (so := 0) (by decide)) (isA.arr hI (q0 := 0) rfl (arr_nm hK (t0 := 4) rfl (fun h => h) rfl)) dJ15_vectorizedHashCode_46 ?_
  refine lv_iload_n hxR hbR dJ15_vectorizedHashCode_49 rfl (lv_at hl 1 rfl) ?_
  refine lv_iload_n hxR hbR dJ15_vectorizedHashCode_50 rfl (lv_at hl 2 rfl) ?_
  refine kSI (n := 4) (As := [.int 0, .ref qa, .int 0, .int (nI x)]) (rest := []) (fun w => w) hxR hbR hmlR hts hown hK hA hl.1 isCtx.id hI (j15_signedHashCode l E qa na fa x hx) (lw_S q1068 q1069 q111 q1070) (by decide +kernel) rfl (Nat.le_of_ble_eq_true rfl) (Nat.le_of_ble_eq_true rfl) ⟨Nat.le_of_ble_eq_true rfl, Nat.le_of_ble_eq_true rfl⟩ (Nat.le_of_ble_eq_true rfl) dJ15_vectorizedHashCode_51 (fun r_51 u H locs hp hI hz => ?_)
  have hI : wI E AR sR H locs (byW E qa na fa) := hI
  have hp : r_51 = hshF fa x := hp
  have hr_51 := hp
  subst hr_51
  refine lv_goto (tgt := 157) hxR hbR dJ15_vectorizedHashCode_54 (by decide) ?_
  exact hret () (hshF fa x) _ _ _ _ _ _ dJ15_vectorizedHashCode_157 hI (by show (hshF fa x) = hshF fa x; rfl) (Nat.le_of_ble_eq_true rfl) (Nat.le_of_ble_eq_true rfl) rfl

theorem lk_ne {n : Nat} (h1 : 1 ≤ n) (h : ¬ n = 1) (hn : n ≤ 1000) : Op.lookupswitch.offset [((0 : Int), (26 : Int)), (1, 30)] 40 (nI n).toInt = 40 := by
  rw [nI_toInt (by omega)]
  have a1 : ¬ (0 : Int) = (n : Int) := by omega
  have a2 : ¬ (1 : Int) = (n : Int) := by omega
  simp [Op.lookupswitch.offset, a1, a2]

theorem j17_hashCode (l : Launch) (E : En) (qa : Nat) (na : Nat) (fa : Nat → Int32)  (h1 : 1 ≤ na) (h2 : na ≤ 1000) : CtI l E yJ17_hashCode cJ17_hashCode 1 .int 2 0 0 [.ref qa] (byW E qa na fa) (fun (r : Int32) (u : Unit) => r = hshF fa na) (fun (u : Unit) => byW E qa na fa) := by
  refine CtI.of (by decide +kernel) (Nat.le_of_ble_eq_true rfl) ?_
  intro pR eR sR mR aR bR tR cR AR ls QR hxR hbR hmlR hts hown hlk hnm hA hK hI hl hret
  have hl : lv_has ls 1 [(0, .ref qa)] := hl
  refine lv_aload_n hxR hbR dJ17_hashCode_0 rfl (lv_at hl 0 rfl) ?_
  refine r_alen (v := nI na) hxR hbR hK hI 0 4 rfl rfl rfl dJ17_hashCode_1 ?_
  by_cases c_2 : na = 1
  · skip
    refine lv_lookup (off := 30) (tgt := 32) hxR hbR dJ17_hashCode_2 (by decide) (by subst c_2; rfl) (by decide) ?_
    refine lv_aload_n hxR hbR dJ17_hashCode_32 rfl (lv_at hl 0 rfl) ?_
    refine lv_iconst (v := 0) hxR hbR dJ17_hashCode_33 (by decide) ?_
    refine va_bald hxR hbR hK.1 hI.1 0 4 rfl rfl (show vp_in (nI 0) na from vp_in_nI (by omega) (by omega)) dJ17_hashCode_34 ?_
    refine lv_as (y := fa 0) rfl ?_
    refine lv_sipush (v := 255) hxR hbR dJ17_hashCode_35 (by decide) ?_
    refine lv_iand hxR hbR dJ17_hashCode_38 ?_
    refine lv_goto (tgt := 51) hxR hbR dJ17_hashCode_39 (by decide) ?_
    exact hret () ((fa 0) &&& 255) _ _ _ _ _ _ dJ17_hashCode_51 hI (by show ((fa 0) &&& 255) = hshF fa na; subst c_2; show _ = 31 * (0 : Int32) + (fa 0 &&& 255); rw [show (31 : Int32) * 0 = 0 from rfl, Int32.zero_add]) (Nat.le_of_ble_eq_true rfl) (Nat.le_of_ble_eq_true rfl) rfl
  · skip
    refine lv_lookup (off := 40) (tgt := 42) hxR hbR dJ17_hashCode_2 (by decide) (lk_ne h1 c_2 (by omega)) (by decide) ?_
    refine lv_aload_n hxR hbR dJ17_hashCode_42 rfl (lv_at hl 0 rfl) ?_
    refine lv_iconst (v := 0) hxR hbR dJ17_hashCode_43 (by decide) ?_
    refine lv_aload_n hxR hbR dJ17_hashCode_44 rfl (lv_at hl 0 rfl) ?_
    refine r_alen (v := nI na) hxR hbR hK hI 0 4 rfl rfl rfl dJ17_hashCode_45 ?_
    refine lv_iconst (v := 0) hxR hbR dJ17_hashCode_46 (by decide) ?_
    refine lv_iconst (v := 4) hxR hbR dJ17_hashCode_47 (by decide) ?_
    refine kSI (n := 5) (As := [.ref qa, .int 0, .int (nI na), .int 0, .int 4]) (rest := []) (fun w => w) hxR hbR hmlR hts hown hK hA hl.1 isCtx.id hI (j15_vectorizedHashCode l E qa na fa na ⟨rfl, h2⟩) (lw_S q1064 q1065 q111 q1066) (by decide +kernel) rfl (Nat.le_of_ble_eq_true rfl) (Nat.le_of_ble_eq_true rfl) ⟨Nat.le_of_ble_eq_true rfl, Nat.le_of_ble_eq_true rfl⟩ (Nat.le_of_ble_eq_true rfl) dJ17_hashCode_48 (fun r_48 u H locs hp hI hz => ?_)
    have hI : wI E AR sR H locs (byW E qa na fa) := hI
    have hp : r_48 = hshF fa na := hp
    have hr_48 := hp
    subst hr_48
    exact hret () (hshF fa na) _ _ _ _ _ _ dJ17_hashCode_51 hI (by show (hshF fa na) = hshF fa na; rfl) (Nat.le_of_ble_eq_true rfl) (Nat.le_of_ble_eq_true rfl) rfl
