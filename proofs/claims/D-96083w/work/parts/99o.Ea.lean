theorem c12_ensureCapacityInternal (l : Launch) (E : En) (qb : Nat) (vb : Nat) (mb : Nat) (kb : Nat) (fb : Nat → Int32) (x : Nat) (hx : x ≤ 300) (hm : mb ≤ 700) (hfb : fitB fb) : CtV l E yJ12_ensureCapacityInternal cJ12_ensureCapacityInternal 3 4 1 1000 [.ref qb, .int (nI x)] (sbW E qb vb mb kb fb) (fun (u : Nat × Nat × (Nat → Int32)) => (x ≤ u.2.1 ∧ u.2.1 ≤ 700) ∧ (∀ j, j < mb → u.2.2 j = fb j) ∧ fitB u.2.2) (fun (u : Nat × Nat × (Nat → Int32)) => sbW E qb u.1 u.2.1 kb u.2.2) := by
  refine CtV.of (by decide +kernel) (Nat.le_of_ble_eq_true rfl) ?_
  intro pR eR sR mR aR bR tR cR AR ls QR hxR hbR hmlR hts hown hlk hnm hA hK hI hl hret
  have hl : lv_has ls 3 [(0, .ref qb), (1, .int (nI x))] := hl
  refine lv_aload_n hxR hbR dJ12_ensureCapacityInternal_0 rfl (lv_at hl 0 rfl) ?_
  refine r_get hxR hbR hts hown hK hI okJ13 (ci := 16) rfl 0 sbW_o 0 (by decide) q862 rfl (v := .ref vb) rfl dJ12_ensureCapacityInternal_1 ?_
  refine r_alen (v := nI mb) hxR hbR hK hI 1 4 rfl rfl rfl dJ12_ensureCapacityInternal_4 ?_
  refine lv_aload_n hxR hbR dJ12_ensureCapacityInternal_5 rfl (lv_at hl 0 rfl) ?_
  refine r_get hxR hbR hts hown hK hI okJ13 (ci := 16) rfl 0 sbW_o 1 (by decide) q863 rfl (v := .int 0) rfl dJ12_ensureCapacityInternal_6 ?_
  refine lv_ishr hxR hbR dJ12_ensureCapacityInternal_9 ?_
  refine lv_as (y := nI (mb >>> 0)) (nb_shr mb 0 (by omega) (by omega)) ?_
  refine lv_as (y := nI mb) rfl ?_
  refine lv_istore_n (lv' := [(2, .int (nI mb)), (0, .ref qb), (1, .int (nI x))]) hxR hbR dJ12_ensureCapacityInternal_10 rfl hl (by decide) rfl (fun ls hl => ?_)
  refine lv_iload_n hxR hbR dJ12_ensureCapacityInternal_11 rfl (lv_at hl 2 rfl) ?_
  refine lv_iload_n hxR hbR dJ12_ensureCapacityInternal_12 rfl (lv_at hl 0 rfl) ?_
  refine lv_isub hxR hbR dJ12_ensureCapacityInternal_13 ?_
  refine lv_if_le (tgt := 38) hxR hbR dJ12_ensureCapacityInternal_14 (by decide) (fun c_14 => ?_) (fun c_14 => ?_)
  · skip
    have i_14 : ((nI x) - (nI mb)).toInt ≤ 0 := by have zz := i_le.mp c_14; exact zz
    have c_14 : x ≤ mb := by have h := Int32.le_iff_toInt_le.mp c_14; rw [pk_sub_toInt (by omega) (by omega)] at h; have h9 : (0 : Int32).toInt = 0 := rfl; omega
    exact hret (vb, mb, fb) _ _ _ _ _ _ dJ12_ensureCapacityInternal_38 hI (by show (x ≤ mb ∧ mb ≤ 700) ∧ (∀ j, j < mb → fb j = fb j) ∧ fitB fb; exact ⟨by omega, fun j hj => rfl, hfb⟩) (Nat.le_of_ble_eq_true rfl) (Nat.le_of_ble_eq_true rfl)
  · skip
    have i_14 : ¬ (((nI x) - (nI mb)).toInt ≤ 0) := by have zz := mt i_le.mpr c_14; exact zz
    have c_14 : mb < x := by have h := mt Int32.le_iff_toInt_le.mpr c_14; rw [pk_sub_toInt (by omega) (by omega)] at h; have h9 : (0 : Int32).toInt = 0 := rfl; omega
    refine lv_aload_n hxR hbR dJ12_ensureCapacityInternal_17 rfl (lv_at hl 1 rfl) ?_
    refine lv_aload_n hxR hbR dJ12_ensureCapacityInternal_18 rfl (lv_at hl 1 rfl) ?_
    refine r_get hxR hbR hts hown hK hI okJ13 (ci := 16) rfl 0 sbW_o 0 (by decide) q862 rfl (v := .ref vb) rfl dJ12_ensureCapacityInternal_19 ?_
    refine lv_aload_n hxR hbR dJ12_ensureCapacityInternal_22 rfl (lv_at hl 1 rfl) ?_
    refine lv_iload_n hxR hbR dJ12_ensureCapacityInternal_23 rfl (lv_at hl 2 rfl) ?_
    refine kPI (n := 1) (C := RJ13) (As := [.int (nI x)]) (rest := [.ref vb, .ref qb]) (fun w => w) hxR hbR hmlR hts hown hK hA hl.1 isCtx.id hI (c12_newCapacity l E qb vb mb kb fb x ⟨c_14, by omega⟩) q886 q2061 q887 q888 q108 q889 ⟨by decide +kernel, by decide +kernel, by decide +kernel⟩ 0 16 rfl rfl sbW_o rfl (Nat.le_of_ble_eq_true rfl) (Nat.le_of_ble_eq_true rfl) ⟨Nat.le_of_ble_eq_true rfl, Nat.le_of_ble_eq_true rfl⟩ (Nat.le_of_ble_eq_true rfl) dJ12_ensureCapacityInternal_24 (fun r_24 u H locs hp hI hz => ?_)
    have hp : r_24 = nI (mb + max (x - mb) (mb + 2)) := hp
    subst hp
    have hI : wI E AR sR H locs (sbW E qb vb mb kb fb) := hI
    refine lv_aload_n hxR hbR dJ12_ensureCapacityInternal_27 rfl (lv_at hl 1 rfl) ?_
    refine r_get hxR hbR hts hown hK hI okJ13 (ci := 16) rfl 0 sbW_o 1 (by decide) q863 rfl (v := .int 0) rfl dJ12_ensureCapacityInternal_28 ?_
    refine lv_ishl hxR hbR dJ12_ensureCapacityInternal_31 ?_
    refine lv_as (y := nI (mb + max (x - mb) (mb + 2))) (shl_0 _) ?_
    have hI : wI E AR sR H locs ([(qb, .inr (16, [.ref vb, .int 0, .int 0, .int (nI kb)]))] ++ (byW E vb mb fb)) := hI
    refine kSR (n := 2) (As := [.ref vb, .int (nI (mb + max (x - mb) (mb + 2)))]) (rest := [.ref qb]) (fun w => ([(qb, .inr (16, [.ref vb, .int 0, .int 0, .int (nI kb)]))]) ++ w) hxR hbR hmlR hts hown hK hA hl.1 (isCtx.pre _) hI (c16_copyOf l E vb mb fb (mb + max (x - mb) (mb + 2)) (by omega) hfb) (lw_S q899 q900 q112 q901) (by decide +kernel) rfl (Nat.le_of_ble_eq_true rfl) (Nat.le_of_ble_eq_true rfl) ⟨Nat.le_of_ble_eq_true rfl, Nat.le_of_ble_eq_true rfl⟩ (Nat.le_of_ble_eq_true rfl) dJ12_ensureCapacityInternal_32 (fun u r_32 H locs hp hI hz => ?_)
    obtain ⟨f2_32, rfl⟩ : ∃ z, z = u := ⟨_, rfl⟩
    have hI : wI E AR sR H locs ([(qb, .inr (16, [.ref vb, .int 0, .int 0, .int (nI kb)]))] ++ (byW E vb mb fb ++ (byW E r_32 (mb + max (x - mb) (mb + 2)) f2_32))) := hI
    have hp : (∀ j, j < mb → f2_32 j = fb j) ∧ fitB f2_32 := hp
    obtain ⟨h2_32, h3_32⟩ := hp
    refine r_put (v := .ref r_32) (ws1 := [(qb, .inr (16, [.ref r_32, .int 0, .int 0, .int (nI kb)]))] ++ (byW E vb mb fb ++ (byW E r_32 (mb + max (x - mb) (mb + 2)) f2_32))) hxR hbR hts hown hK hI okJ13 (ci := 16) rfl 0 (he_l rfl) 0 (by decide) q862 rfl rfl rfl rfl (Nat.le_of_ble_eq_true rfl) (hw_l (Nat.le_of_ble_eq_true rfl) rfl) dJ12_ensureCapacityInternal_35 (fun H locs hI => ?_)
    have hI : wI E AR sR _ _ (byW E vb mb fb ++ ([(qb, .inr (16, [.ref r_32, .int 0, .int 0, .int (nI kb)]))] ++ (byW E r_32 (mb + max (x - mb) (mb + 2)) f2_32))) := wI_pick ([[(qb, .inr (16, [.ref r_32, .int 0, .int 0, .int (nI kb)]))], byW E vb mb fb, byW E r_32 (mb + max (x - mb) (mb + 2)) f2_32]) [1, 0, 2] 3 rfl (by decide) hI
    have hI := wI_dropL hI
    have hI : wI E AR sR H locs (sbW E qb r_32 (mb + max (x - mb) (mb + 2)) kb f2_32) := hI
    exact hret (r_32, (mb + max (x - mb) (mb + 2)), f2_32) _ _ _ _ _ _ dJ12_ensureCapacityInternal_38 hI (by show (x ≤ (mb + max (x - mb) (mb + 2)) ∧ (mb + max (x - mb) (mb + 2)) ≤ 700) ∧ (∀ j, j < mb → f2_32 j = fb j) ∧ fitB f2_32; exact ⟨by omega, h2_32, h3_32⟩) (Nat.le_of_ble_eq_true rfl) (Nat.le_of_ble_eq_true rfl)

theorem i2b_nat {x : Nat} (h : x < 128) : (nI x).toInt8.toInt32 = nI x := by
  have key : ∀ x : Fin 128, (nI x.val).toInt8.toInt32 = nI x.val := by decide +kernel
  exact key ⟨x, h⟩
theorem nar_nat {x : Nat} (h : x < 128) : vp_nar .byte (nI x) = nI x := by
  have key : ∀ x : Fin 128, vp_nar .byte (nI x.val) = nI x.val := by decide +kernel
  exact key ⟨x, h⟩
theorem fit_nat {x : Nat} (h : x < 128) : fits .byte (.int (nI x)) = true := by
  have key : ∀ x : Fin 128, fits .byte (.int (nI x.val)) = true := by decide +kernel
  exact key ⟨x, h⟩
theorem fit_up {f : Nat → Int32} {k x : Nat} (hf : fitB f) (hx : x < 128) : fitB (va_up f k (nI x)) := by
  intro i
  unfold va_up
  split
  · exact fit_nat hx
  · exact hf i
theorem bst_up {f : Nat → Int32} {k x : Nat} (hk : k < 2 ^ 31) (hx : x < 128) : upd f (nI k).toNatClampNeg (vp_nar .byte (nI x)) = va_up f k (nI x) := by
  rw [nI_clamp hk, nar_nat hx]
  funext j
  unfold va_up
  simp [upd]

theorem c12_append (l : Launch) (E : En) (qb : Nat) (vb : Nat) (mb : Nat) (kb : Nat) (fb : Nat → Int32) (x : Nat) (hx : x < 128) (hk : kb < 300 ∧ kb ≤ mb) (hm : mb ≤ 700) (hfb : fitB fb) : CtT l E yJ12_append cJ12_append 2 (Jvm.ClassFile.FieldType.object "java/lang/AbstractStringBuilder") 5 1 1000 [.ref qb, .int (nI x)] (sbW E qb vb mb kb fb) (fun (u : Nat × Nat × (Nat → Int32)) => (kb + 1 ≤ u.2.1 ∧ u.2.1 ≤ 700) ∧ (∀ j, j < kb → u.2.2 j = fb j) ∧ u.2.2 kb = nI x ∧ fitB u.2.2) (fun (u : Nat × Nat × (Nat → Int32)) => sbW E qb u.1 u.2.1 (kb + 1) u.2.2) (fun (u : Nat × Nat × (Nat → Int32)) => qb) := by
  refine CtT.of (by decide +kernel) (Nat.le_of_ble_eq_true rfl) (by first | exact Or.inl ⟨_, rfl⟩ | exact Or.inr ⟨_, rfl⟩) ?_
  intro pR eR sR mR aR bR tR cR AR ls QR hxR hbR hmlR hts hown hlk hnm hA hK hI hl hret
  have hl : lv_has ls 2 [(0, .ref qb), (1, .int (nI x))] := hl
  refine lv_aload_n hxR hbR dJ12_append_0 rfl (lv_at hl 0 rfl) ?_
  refine lv_aload_n hxR hbR dJ12_append_1 rfl (lv_at hl 0 rfl) ?_
  refine r_get hxR hbR hts hown hK hI okJ13 (ci := 16) rfl 0 sbW_o 3 (by decide) q865 rfl (v := .int (nI kb)) rfl dJ12_append_2 ?_
  refine lv_iconst (v := 1) hxR hbR dJ12_append_5 (by decide) ?_
  refine lv_iadd hxR hbR dJ12_append_6 ?_
  refine lv_as (y := nI (kb + 1)) (nI_add kb 1) ?_
  refine kPV (n := 1) (C := RJ13) (As := [.int (nI (kb + 1))]) (rest := []) (fun w => w) hxR hbR hmlR hts hown hK hA hl.1 isCtx.id hI (c12_ensureCapacityInternal l E qb vb mb kb fb (kb + 1) (by omega) (by first | omega | with_reducible assumption) (by first | omega | with_reducible assumption)) q882 q2060 q883 q884 q108 q885 ⟨by decide +kernel, by decide +kernel, by decide +kernel⟩ 0 16 rfl rfl sbW_o rfl (Nat.le_of_ble_eq_true rfl) (Nat.le_of_ble_eq_true rfl) ⟨Nat.le_of_ble_eq_true rfl, Nat.le_of_ble_eq_true rfl⟩ (Nat.le_of_ble_eq_true rfl) dJ12_append_7 (fun u H locs hp hI hz => ?_)
  obtain ⟨v2_7, m2_7, f2_7⟩ := u
  have hp : ((kb + 1) ≤ m2_7 ∧ m2_7 ≤ 700) ∧ (∀ j, j < mb → f2_7 j = fb j) ∧ fitB f2_7 := hp
  obtain ⟨h1_7, h2_7, h3_7⟩ := hp
  have hI : wI E AR sR H locs (sbW E qb v2_7 m2_7 kb f2_7) := hI
  refine lv_aload_n hxR hbR dJ12_append_10 rfl (lv_at hl 0 rfl) ?_
  refine kQI (n := 0) (C := RJ13) (As := []) (rest := []) (fun w => w) hxR hbR hmlR hts hown hK hA hl.1 isCtx.id hI (c12_isLatin1 l E qb v2_7 m2_7 kb f2_7  ) q913 q915 q916 q914 q108 q917 ⟨by decide +kernel, by decide +kernel, by decide +kernel⟩ 0 16 rfl rfl sbW_o rfl (Nat.le_of_ble_eq_true rfl) (Nat.le_of_ble_eq_true rfl) ⟨Nat.le_of_ble_eq_true rfl, Nat.le_of_ble_eq_true rfl⟩ (Nat.le_of_ble_eq_true rfl) dJ12_append_11 (fun r_11 u H locs hp hI hz => ?_)
  have hp : r_11 = 1 := hp
  subst hp
  have hI : wI E AR sR H locs (sbW E qb v2_7 m2_7 kb f2_7) := hI
  refine lv_if_eq (tgt := 45) hxR hbR dJ12_append_14 (by decide) (fun c => absurd c (by decide)) (fun _ => ?_)
  refine lv_iload_n hxR hbR dJ12_append_17 rfl (lv_at hl 1 rfl) ?_
  refine kSI (n := 1) (As := [.int (nI x)]) (rest := []) (fun w => w ++ (sbW E qb v2_7 m2_7 kb f2_7)) hxR hbR hmlR hts hown hK hA hl.1 (isCtx.suf _) hI (c17_canEncode l E  x (by omega)) (lw_S q918 q919 q113 q920) (by decide +kernel) rfl (Nat.le_of_ble_eq_true rfl) (Nat.le_of_ble_eq_true rfl) ⟨Nat.le_of_ble_eq_true rfl, Nat.le_of_ble_eq_true rfl⟩ (Nat.le_of_ble_eq_true rfl) dJ12_append_18 (fun r_18 u H locs hp hI hz => ?_)
  have hI : wI E AR sR H locs (sbW E qb v2_7 m2_7 kb f2_7) := hI
  have hp : r_18 = 1 := hp
  have hr_18 := hp
  subst hr_18
  refine lv_if_eq (tgt := 45) hxR hbR dJ12_append_21 (by decide) (fun c => absurd c (by decide)) (fun _ => ?_)
  refine lv_aload_n hxR hbR dJ12_append_24 rfl (lv_at hl 0 rfl) ?_
  refine r_get hxR hbR hts hown hK hI okJ13 (ci := 16) rfl 0 sbW_o 0 (by decide) q862 rfl (v := .ref v2_7) rfl dJ12_append_25 ?_
  refine lv_aload_n hxR hbR dJ12_append_28 rfl (lv_at hl 0 rfl) ?_
  refine lv_dup hxR hbR dJ12_append_29 rfl ?_
  refine r_get hxR hbR hts hown hK hI okJ13 (ci := 16) rfl 0 sbW_o 3 (by decide) q865 rfl (v := .int (nI kb)) rfl dJ12_append_30 ?_
  refine lv_dup_x1 hxR hbR dJ12_append_33 rfl rfl ?_
  refine lv_iconst (v := 1) hxR hbR dJ12_append_34 (by decide) ?_
  refine lv_iadd hxR hbR dJ12_append_35 ?_
  refine lv_as (y := nI (kb + 1)) (nI_add kb 1) ?_
  refine r_put (v := .int (nI (kb + 1))) (ws1 := sbW E qb v2_7 m2_7 (kb + 1) f2_7) hxR hbR hts hown hK hI okJ13 (ci := 16) rfl 0 sbW_o 3 (by decide) q865 rfl rfl rfl rfl (Nat.le_of_ble_eq_true rfl) rfl dJ12_append_36 (fun H locs hI => ?_)
  refine lv_iload_n hxR hbR dJ12_append_39 rfl (lv_at hl 1 rfl) ?_
  refine lv_i2b (v := (nI x).toInt8.toInt32) hxR hbR dJ12_append_40 rfl ?_
  refine lv_as (y := nI x) (i2b_nat hx) ?_
  refine va_bast hxR hbR hK.1 hI.1 hI.2.1 hI.2.2 1 4 rfl rfl (vp_in_nI (by omega) (by omega)) dJ12_append_41 (fun H locs h1 h2 h3 => ?_)
  have hI := wI_w (ws' := sbW E qb v2_7 m2_7 (kb + 1) (va_up f2_7 kb (nI x))) (congrArg (fun z => ([(qb, .inr (16, [.ref v2_7, .int 0, .int 0, .int (nI (kb + 1))])), (v2_7, .inl (E.2 4, m2_7, .inl z))] : va_W)) (bst_up (by omega) hx).symm) ⟨h1, h2, h3⟩
  refine lv_goto (tgt := 75) hxR hbR dJ12_append_42 (by decide) ?_
  refine lv_aload_n hxR hbR dJ12_append_75 rfl (lv_at hl 0 rfl) ?_
  exact hret (v2_7, m2_7, (va_up f2_7 kb (nI x))) _ _ _ _ _ _ dJ12_append_76 hI ⟨h1_7, fun j hj => (va_up_n (by omega)).trans (h2_7 j (by omega)), va_up_s, fit_up h3_7 hx⟩ (Nat.le_of_ble_eq_true rfl) (Nat.le_of_ble_eq_true rfl)
