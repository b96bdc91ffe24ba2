theorem vz_of {C n d : String} {A : Nat → Prop} {U : State} {H : Heap} (h : va_Zq C n d A U H) : ∃ z : Option Nat, va_Z C n d (va_rf z) A U H := by
  rcases h with h | ⟨t, h⟩
  · exact ⟨none, h⟩
  · exact ⟨some t, h⟩

theorem c0_init_3_X6 (l : Launch) (E : En) (o : Nat)   : CtV l E yJ0_init_3 cJ0_init_3 5 1 0 0 [.ref o, .null, .null, .int 0, .int 0] ([(o, .inr (6, [.null, .null, .null, .null, .null, .int 0, .int 0]))]) (fun (u : Unit) => True) (fun (u : Unit) => [(o, .inr (6, [.null, .null, .null, .null, .null, .int 0, .int 0]))]) := by
  refine CtV.of (by decide +kernel) (Nat.le_of_ble_eq_true rfl) ?_
  intro pR eR sR mR aR bR tR cR AR ls QR hxR hbR hmlR hts hown hlk hnm hA hK hI hl hret
  have hl : lv_has ls 5 [(0, .ref o), (1, .null), (2, .null), (3, .int 0), (4, .int 0)] := hl
  refine lv_aload_n hxR hbR dJ0_init_3_0 rfl (lv_at hl 0 rfl) ?_
  refine W.objInit hxR hbR hown (hts _ q315) (hts _ q123) (hts _ q124) rfl (by rw [hmlR]; exact hl.1) rfl dJ0_init_3_1 (Nat.le_of_ble_eq_true rfl) (Nat.le_of_ble_eq_true rfl) ?_
  refine W.eq (g2 := F0 mR 4 ls []) rfl ?_
  refine lv_aload_n hxR hbR dJ0_init_3_4 rfl (lv_at hl 0 rfl) ?_
  refine lv_aload_n hxR hbR dJ0_init_3_5 rfl (lv_at hl 0 rfl) ?_
  refine r_put (v := .ref o) (ws1 := [(o, .inr (6, [.ref o, .null, .null, .null, .null, .int 0, .int 0]))]) hxR hbR hts hown hK hI okX6 (ci := 6) rfl 0 rfl 0 (by decide) q351 rfl rfl rfl rfl (Nat.le_of_ble_eq_true rfl) rfl dJ0_init_3_6 (fun H locs hI => ?_)
  refine lv_aload_n hxR hbR dJ0_init_3_9 rfl (lv_at hl 0 rfl) ?_
  obtain ⟨z_10, hz_10⟩ := vz_of hK.2.2.2.2.2.1.1
  refine va_gets hxR hbR hz_10 hI.2.2 hown (hts _ q316) (fun _ h => h) dJ0_init_3_10 ?_
  refine r_put (v := va_rf z_10) (ws1 := [(o, .inr (6, [.ref o, va_rf z_10, .null, .null, .null, .int 0, .int 0]))]) hxR hbR hts hown hK hI okX6 (ci := 6) rfl 0 rfl 1 (by decide) q352 rfl rfl (by cases z_10 <;> rfl) (by cases z_10 <;> rfl) (Nat.le_of_ble_eq_true rfl) rfl dJ0_init_3_13 (fun H locs hI => ?_)
  refine lv_aload_n hxR hbR dJ0_init_3_16 rfl (lv_at hl 0 rfl) ?_
  obtain ⟨z_17, hz_17⟩ := vz_of hK.2.2.2.2.2.2.1.1
  refine va_gets hxR hbR hz_17 hI.2.2 hown (hts _ q318) (fun _ h => h) dJ0_init_3_17 ?_
  refine r_put (v := va_rf z_17) (ws1 := [(o, .inr (6, [.ref o, va_rf z_10, va_rf z_17, .null, .null, .int 0, .int 0]))]) hxR hbR hts hown hK hI okX6 (ci := 6) rfl 0 rfl 2 (by decide) q353 rfl rfl (by cases z_17 <;> rfl) (by cases z_17 <;> rfl) (Nat.le_of_ble_eq_true rfl) rfl dJ0_init_3_20 (fun H locs hI => ?_)
  refine lv_iload hxR hbR dJ0_init_3_23 (lv_at hl 4 rfl) ?_
  refine lv_if_eq (tgt := 36) hxR hbR dJ0_init_3_25 (by decide) (fun _ => ?_) (fun c => absurd c (by decide))
  refine lv_aload_n hxR hbR dJ0_init_3_36 rfl (lv_at hl 0 rfl) ?_
  refine lv_null hxR hbR dJ0_init_3_37 ?_
  refine r_put (v := .null) (ws1 := [(o, .inr (6, [.ref o, .null, va_rf z_17, .null, .null, .int 0, .int 0]))]) hxR hbR hts hown hK hI okX6 (ci := 6) rfl 0 rfl 1 (by decide) q352 rfl rfl rfl rfl (Nat.le_of_ble_eq_true rfl) rfl dJ0_init_3_38 (fun H locs hI => ?_)
  refine lv_aload_n hxR hbR dJ0_init_3_41 rfl (lv_at hl 0 rfl) ?_
  refine lv_aload_nN hxR hbR dJ0_init_3_42 rfl (lv_at hl 1 rfl) ?_
  refine r_put (v := .null) (ws1 := [(o, .inr (6, [.ref o, .null, va_rf z_17, .null, .null, .int 0, .int 0]))]) hxR hbR hts hown hK hI okX6 (ci := 6) rfl 0 rfl 3 (by decide) q350 rfl rfl rfl rfl (Nat.le_of_ble_eq_true rfl) rfl dJ0_init_3_43 (fun H locs hI => ?_)
  refine lv_aload_n hxR hbR dJ0_init_3_46 rfl (lv_at hl 0 rfl) ?_
  refine lv_aload_nN hxR hbR dJ0_init_3_47 rfl (lv_at hl 2 rfl) ?_
  refine r_put (v := .null) (ws1 := [(o, .inr (6, [.null, .null, va_rf z_17, .null, .null, .int 0, .int 0]))]) hxR hbR hts hown hK hI okX6 (ci := 6) rfl 0 rfl 0 (by decide) q351 rfl rfl rfl rfl (Nat.le_of_ble_eq_true rfl) rfl dJ0_init_3_48 (fun H locs hI => ?_)
  refine lv_iload_n hxR hbR dJ0_init_3_51 rfl (lv_at hl 3 rfl) ?_
  refine lv_if_ne (tgt := 60) hxR hbR dJ0_init_3_52 (by decide) (fun c => absurd c (by decide)) (fun _ => ?_)
  refine lv_aload_n hxR hbR dJ0_init_3_55 rfl (lv_at hl 0 rfl) ?_
  refine lv_null hxR hbR dJ0_init_3_56 ?_
  refine r_put (v := .null) (ws1 := [(o, .inr (6, [.null, .null, .null, .null, .null, .int 0, .int 0]))]) hxR hbR hts hown hK hI okX6 (ci := 6) rfl 0 rfl 2 (by decide) q353 rfl rfl rfl rfl (Nat.le_of_ble_eq_true rfl) rfl dJ0_init_3_57 (fun H locs hI => ?_)
  exact hret () _ _ _ _ _ _ dJ0_init_3_60 hI trivial (Nat.le_of_ble_eq_true rfl) (Nat.le_of_ble_eq_true rfl)

theorem c1_init_2_X6 (l : Launch) (E : En) (o : Nat)   : CtV l E yJ1_init_2 cJ1_init_2 5 2 0 0 [.ref o, .null, .null, .int 0, .int 0] ([(o, .inr (6, [.null, .null, .null, .null, .null, .int 0, .int 0]))]) (fun (u : Unit) => True) (fun (u : Unit) => [(o, .inr (6, [.null, .null, .null, .null, .null, .int 0, .int 0]))]) := by
  refine CtV.of (by decide +kernel) (Nat.le_of_ble_eq_true rfl) ?_
  intro pR eR sR mR aR bR tR cR AR ls QR hxR hbR hmlR hts hown hlk hnm hA hK hI hl hret
  have hl : lv_has ls 5 [(0, .ref o), (1, .null), (2, .null), (3, .int 0), (4, .int 0)] := hl
  refine lv_aload_n hxR hbR dJ1_init_2_0 rfl (lv_at hl 0 rfl) ?_
  refine lv_aload_nN hxR hbR dJ1_init_2_1 rfl (lv_at hl 1 rfl) ?_
  refine lv_aload_nN hxR hbR dJ1_init_2_2 rfl (lv_at hl 2 rfl) ?_
  refine lv_iload_n hxR hbR dJ1_init_2_3 rfl (lv_at hl 3 rfl) ?_
  refine lv_iload hxR hbR dJ1_init_2_4 (lv_at hl 4 rfl) ?_
  refine kIV (n := 4) (As := [.null, .null, .int 0, .int 0]) (rest := []) (fun w => w) hxR hbR hmlR hts hown hK hA hl.1 isCtx.id hI (c0_init_3_X6 l E o) q454 q87 q452 q453 rfl (by decide +kernel) rfl (Nat.le_of_ble_eq_true rfl) (Nat.le_of_ble_eq_true rfl) ⟨Nat.le_of_ble_eq_true rfl, Nat.le_of_ble_eq_true rfl⟩ (Nat.le_of_ble_eq_true rfl) dJ1_init_2_6 (fun u H locs hp hI hz => ?_)
  have hI : wI E AR sR H locs ([(o, .inr (6, [.null, .null, .null, .null, .null, .int 0, .int 0]))]) := hI
  exact hret () _ _ _ _ _ _ dJ1_init_2_9 hI trivial (Nat.le_of_ble_eq_true rfl) (Nat.le_of_ble_eq_true rfl)

theorem c0_init_3_X14 (l : Launch) (E : En) (o : Nat)   : CtV l E yJ0_init_3 cJ0_init_3 5 1 0 0 [.ref o, .null, .null, .int 0, .int 0] ([(o, .inr (13, [.null, .null, .null, .null, .null, .int 0, .int 0]))]) (fun (u : Unit) => True) (fun (u : Unit) => [(o, .inr (13, [.null, .null, .null, .null, .null, .int 0, .int 0]))]) := by
  refine CtV.of (by decide +kernel) (Nat.le_of_ble_eq_true rfl) ?_
  intro pR eR sR mR aR bR tR cR AR ls QR hxR hbR hmlR hts hown hlk hnm hA hK hI hl hret
  have hl : lv_has ls 5 [(0, .ref o), (1, .null), (2, .null), (3, .int 0), (4, .int 0)] := hl
  refine lv_aload_n hxR hbR dJ0_init_3_0 rfl (lv_at hl 0 rfl) ?_
  refine W.objInit hxR hbR hown (hts _ q315) (hts _ q123) (hts _ q124) rfl (by rw [hmlR]; exact hl.1) rfl dJ0_init_3_1 (Nat.le_of_ble_eq_true rfl) (Nat.le_of_ble_eq_true rfl) ?_
  refine W.eq (g2 := F0 mR 4 ls []) rfl ?_
  refine lv_aload_n hxR hbR dJ0_init_3_4 rfl (lv_at hl 0 rfl) ?_
  refine lv_aload_n hxR hbR dJ0_init_3_5 rfl (lv_at hl 0 rfl) ?_
  refine r_put (v := .ref o) (ws1 := [(o, .inr (13, [.ref o, .null, .null, .null, .null, .int 0, .int 0]))]) hxR hbR hts hown hK hI okX14 (ci := 13) rfl 0 rfl 0 (by decide) q351 rfl rfl rfl rfl (Nat.le_of_ble_eq_true rfl) rfl dJ0_init_3_6 (fun H locs hI => ?_)
  refine lv_aload_n hxR hbR dJ0_init_3_9 rfl (lv_at hl 0 rfl) ?_
  obtain ⟨z_10, hz_10⟩ := vz_of hK.2.2.2.2.2.1.1
  refine va_gets hxR hbR hz_10 hI.2.2 hown (hts _ q316) (fun _ h => h) dJ0_init_3_10 ?_
  refine r_put (v := va_rf z_10) (ws1 := [(o, .inr (13, [.ref o, va_rf z_10, .null, .null, .null, .int 0, .int 0]))]) hxR hbR hts hown hK hI okX14 (ci := 13) rfl 0 rfl 1 (by decide) q352 rfl rfl (by cases z_10 <;> rfl) (by cases z_10 <;> rfl) (Nat.le_of_ble_eq_true rfl) rfl dJ0_init_3_13 (fun H locs hI => ?_)
  refine lv_aload_n hxR hbR dJ0_init_3_16 rfl (lv_at hl 0 rfl) ?_
  obtain ⟨z_17, hz_17⟩ := vz_of hK.2.2.2.2.2.2.1.1
  refine va_gets hxR hbR hz_17 hI.2.2 hown (hts _ q318) (fun _ h => h) dJ0_init_3_17 ?_
  refine r_put (v := va_rf z_17) (ws1 := [(o, .inr (13, [.ref o, va_rf z_10, va_rf z_17, .null, .null, .int 0, .int 0]))]) hxR hbR hts hown hK hI okX14 (ci := 13) rfl 0 rfl 2 (by decide) q353 rfl rfl (by cases z_17 <;> rfl) (by cases z_17 <;> rfl) (Nat.le_of_ble_eq_true rfl) rfl dJ0_init_3_20 (fun H locs hI => ?_)
  refine lv_iload hxR hbR dJ0_init_3_23 (lv_at hl 4 rfl) ?_
  refine lv_if_eq (tgt := 36) hxR hbR dJ0_init_3_25 (by decide) (fun _ => ?_) (fun c => absurd c (by decide))
  refine lv_aload_n hxR hbR dJ0_init_3_36 rfl (lv_at hl 0 rfl) ?_
  refine lv_null hxR hbR dJ0_init_3_37 ?_
  refine r_put (v := .null) (ws1 := [(o, .inr (13, [.ref o, .null, va_rf z_17, .null, .null, .int 0, .int 0]))]) hxR hbR hts hown hK hI okX14 (ci := 13) rfl 0 rfl 1 (by decide) q352 rfl rfl rfl rfl (Nat.le_of_ble_eq_true rfl) rfl dJ0_init_3_38 (fun H locs hI => ?_)
  refine lv_aload_n hxR hbR dJ0_init_3_41 rfl (lv_at hl 0 rfl) ?_
  refine lv_aload_nN hxR hbR dJ0_init_3_42 rfl (lv_at hl 1 rfl) ?_
  refine r_put (v := .null) (ws1 := [(o, .inr (13, [.ref o, .null, va_rf z_17, .null, .null, .int 0, .int 0]))]) hxR hbR hts hown hK hI okX14 (ci := 13) rfl 0 rfl 3 (by decide) q350 rfl rfl rfl rfl (Nat.le_of_ble_eq_true rfl) rfl dJ0_init_3_43 (fun H locs hI => ?_)
  refine lv_aload_n hxR hbR dJ0_init_3_46 rfl (lv_at hl 0 rfl) ?_
  refine lv_aload_nN hxR hbR dJ0_init_3_47 rfl (lv_at hl 2 rfl) ?_
  refine r_put (v := .null) (ws1 := [(o, .inr (13, [.null, .null, va_rf z_17, .null, .null, .int 0, .int 0]))]) hxR hbR hts hown hK hI okX14 (ci := 13) rfl 0 rfl 0 (by decide) q351 rfl rfl rfl rfl (Nat.le_of_ble_eq_true rfl) rfl dJ0_init_3_48 (fun H locs hI => ?_)
  refine lv_iload_n hxR hbR dJ0_init_3_51 rfl (lv_at hl 3 rfl) ?_
  refine lv_if_ne (tgt := 60) hxR hbR dJ0_init_3_52 (by decide) (fun c => absurd c (by decide)) (fun _ => ?_)
  refine lv_aload_n hxR hbR dJ0_init_3_55 rfl (lv_at hl 0 rfl) ?_
  refine lv_null hxR hbR dJ0_init_3_56 ?_
  refine r_put (v := .null) (ws1 := [(o, .inr (13, [.null, .null, .null, .null, .null, .int 0, .int 0]))]) hxR hbR hts hown hK hI okX14 (ci := 13) rfl 0 rfl 2 (by decide) q353 rfl rfl rfl rfl (Nat.le_of_ble_eq_true rfl) rfl dJ0_init_3_57 (fun H locs hI => ?_)
  exact hret () _ _ _ _ _ _ dJ0_init_3_60 hI trivial (Nat.le_of_ble_eq_true rfl) (Nat.le_of_ble_eq_true rfl)

theorem c1_init_2_X14 (l : Launch) (E : En) (o : Nat)   : CtV l E yJ1_init_2 cJ1_init_2 5 2 0 0 [.ref o, .null, .null, .int 0, .int 0] ([(o, .inr (13, [.null, .null, .null, .null, .null, .int 0, .int 0]))]) (fun (u : Unit) => True) (fun (u : Unit) => [(o, .inr (13, [.null, .null, .null, .null, .null, .int 0, .int 0]))]) := by
  refine CtV.of (by decide +kernel) (Nat.le_of_ble_eq_true rfl) ?_
  intro pR eR sR mR aR bR tR cR AR ls QR hxR hbR hmlR hts hown hlk hnm hA hK hI hl hret
  have hl : lv_has ls 5 [(0, .ref o), (1, .null), (2, .null), (3, .int 0), (4, .int 0)] := hl
  refine lv_aload_n hxR hbR dJ1_init_2_0 rfl (lv_at hl 0 rfl) ?_
  refine lv_aload_nN hxR hbR dJ1_init_2_1 rfl (lv_at hl 1 rfl) ?_
  refine lv_aload_nN hxR hbR dJ1_init_2_2 rfl (lv_at hl 2 rfl) ?_
  refine lv_iload_n hxR hbR dJ1_init_2_3 rfl (lv_at hl 3 rfl) ?_
  refine lv_iload hxR hbR dJ1_init_2_4 (lv_at hl 4 rfl) ?_
  refine kIV (n := 4) (As := [.null, .null, .int 0, .int 0]) (rest := []) (fun w => w) hxR hbR hmlR hts hown hK hA hl.1 isCtx.id hI (c0_init_3_X14 l E o) q454 q87 q452 q453 rfl (by decide +kernel) rfl (Nat.le_of_ble_eq_true rfl) (Nat.le_of_ble_eq_true rfl) ⟨Nat.le_of_ble_eq_true rfl, Nat.le_of_ble_eq_true rfl⟩ (Nat.le_of_ble_eq_true rfl) dJ1_init_2_6 (fun u H locs hp hI hz => ?_)
  have hI : wI E AR sR H locs ([(o, .inr (13, [.null, .null, .null, .null, .null, .int 0, .int 0]))]) := hI
  exact hret () _ _ _ _ _ _ dJ1_init_2_9 hI trivial (Nat.le_of_ble_eq_true rfl) (Nat.le_of_ble_eq_true rfl)

theorem c2_init_2_X6 (l : Launch) (E : En) (o : Nat)   : CtV l E yJ2_init_2 cJ2_init_2 5 3 0 0 [.ref o, .null, .null, .int 0, .int 0] ([(o, .inr (6, [.null, .null, .null, .null, .null, .int 0, .int 0]))]) (fun (u : Unit) => True) (fun (u : Unit) => [(o, .inr (6, [.null, .null, .null, .null, .null, .int 0, .int 0]))]) := by
  refine CtV.of (by decide +kernel) (Nat.le_of_ble_eq_true rfl) ?_
  intro pR eR sR mR aR bR tR cR AR ls QR hxR hbR hmlR hts hown hlk hnm hA hK hI hl hret
  have hl : lv_has ls 5 [(0, .ref o), (1, .null), (2, .null), (3, .int 0), (4, .int 0)] := hl
  refine lv_aload_n hxR hbR dJ2_init_2_0 rfl (lv_at hl 0 rfl) ?_
  refine lv_aload_nN hxR hbR dJ2_init_2_1 rfl (lv_at hl 1 rfl) ?_
  refine lv_aload_nN hxR hbR dJ2_init_2_2 rfl (lv_at hl 2 rfl) ?_
  refine lv_iload_n hxR hbR dJ2_init_2_3 rfl (lv_at hl 3 rfl) ?_
  refine lv_iload hxR hbR dJ2_init_2_4 (lv_at hl 4 rfl) ?_
  refine kIV (n := 4) (As := [.null, .null, .int 0, .int 0]) (rest := []) (fun w => w) hxR hbR hmlR hts hown hK hA hl.1 isCtx.id hI (c1_init_2_X6 l E o) q451 q88 q449 q450 rfl (by decide +kernel) rfl (Nat.le_of_ble_eq_true rfl) (Nat.le_of_ble_eq_true rfl) ⟨Nat.le_of_ble_eq_true rfl, Nat.le_of_ble_eq_true rfl⟩ (Nat.le_of_ble_eq_true rfl) dJ2_init_2_6 (fun u H locs hp hI hz => ?_)
  have hI : wI E AR sR H locs ([(o, .inr (6, [.null, .null, .null, .null, .null, .int 0, .int 0]))]) := hI
  exact hret () _ _ _ _ _ _ dJ2_init_2_9 hI trivial (Nat.le_of_ble_eq_true rfl) (Nat.le_of_ble_eq_true rfl)

theorem c6_init (l : Launch) (E : En) (o : Nat) (v : Int32)  : CtV l E yX6_init cX6_init 2 4 0 0 [.ref o, .int v] ([(o, .inr (6, [.null, .null, .null, .null, .null, .int 0, .int 0]))]) (fun (u : Unit) => True) (fun (u : Unit) => [(o, .inr (6, [.null, .null, .null, .null, .null, .int 0, .int v]))]) := by
  refine CtV.of (by decide +kernel) (Nat.le_of_ble_eq_true rfl) ?_
  intro pR eR sR mR aR bR tR cR AR ls QR hxR hbR hmlR hts hown hlk hnm hA hK hI hl hret
  have hl : lv_has ls 2 [(0, .ref o), (1, .int v)] := hl
  refine lv_aload_n hxR hbR dX6_init_0 rfl (lv_at hl 0 rfl) ?_
  refine lv_null hxR hbR dX6_init_1 ?_
  refine lv_null hxR hbR dX6_init_2 ?_
  refine lv_iconst (v := 0) hxR hbR dX6_init_3 (by decide) ?_
  refine lv_iconst (v := 0) hxR hbR dX6_init_4 (by decide) ?_
  refine kIV (n := 4) (As := [.null, .null, .int 0, .int 0]) (rest := []) (fun w => w) hxR hbR hmlR hts hown hK hA hl.1 isCtx.id hI (c2_init_2_X6 l E o) q448 q89 q446 q447 rfl (by decide +kernel) rfl (Nat.le_of_ble_eq_true rfl) (Nat.le_of_ble_eq_true rfl) ⟨Nat.le_of_ble_eq_true rfl, Nat.le_of_ble_eq_true rfl⟩ (Nat.le_of_ble_eq_true rfl) dX6_init_5 (fun u H locs hp hI hz => ?_)
  have hI : wI E AR sR H locs ([(o, .inr (6, [.null, .null, .null, .null, .null, .int 0, .int 0]))]) := hI
  refine lv_aload_n hxR hbR dX6_init_8 rfl (lv_at hl 0 rfl) ?_
  refine lv_iload_n hxR hbR dX6_init_9 rfl (lv_at hl 1 rfl) ?_
  refine r_putF (v := .int v) (ws1 := [(o, .inr (6, [.null, .null, .null, .null, .null, .int 0, .int v]))]) hxR hbR hts hown hK hI okX6 (ci := 6) rfl 0 rfl 6 (by decide) q455 rfl rfl hnm rfl rfl rfl (Nat.le_of_ble_eq_true rfl) rfl dX6_init_10 (fun H locs hI => ?_)
  exact hret () _ _ _ _ _ _ dX6_init_13 hI trivial (Nat.le_of_ble_eq_true rfl) (Nat.le_of_ble_eq_true rfl)

theorem c14_init (l : Launch) (E : En) (o : Nat) (v : Int32)  : CtV l E yX14_init cX14_init 2 3 0 0 [.ref o, .int v] ([(o, .inr (13, [.null, .null, .null, .null, .null, .int 0, .int 0]))]) (fun (u : Unit) => True) (fun (u : Unit) => [(o, .inr (13, [.null, .null, .null, .null, .null, .int 0, .int v]))]) := by
  refine CtV.of (by decide +kernel) (Nat.le_of_ble_eq_true rfl) ?_
  intro pR eR sR mR aR bR tR cR AR ls QR hxR hbR hmlR hts hown hlk hnm hA hK hI hl hret
  have hl : lv_has ls 2 [(0, .ref o), (1, .int v)] := hl
  refine lv_aload_n hxR hbR dX14_init_0 rfl (lv_at hl 0 rfl) ?_
  refine lv_null hxR hbR dX14_init_1 ?_
  refine lv_null hxR hbR dX14_init_2 ?_
  refine lv_iconst (v := 0) hxR hbR dX14_init_3 (by decide) ?_
  refine lv_iconst (v := 0) hxR hbR dX14_init_4 (by decide) ?_
  refine kIV (n := 4) (As := [.null, .null, .int 0, .int 0]) (rest := []) (fun w => w) hxR hbR hmlR hts hown hK hA hl.1 isCtx.id hI (c1_init_2_X14 l E o) q451 q88 q1046 q450 rfl (by decide +kernel) rfl (Nat.le_of_ble_eq_true rfl) (Nat.le_of_ble_eq_true rfl) ⟨Nat.le_of_ble_eq_true rfl, Nat.le_of_ble_eq_true rfl⟩ (Nat.le_of_ble_eq_true rfl) dX14_init_5 (fun u H locs hp hI hz => ?_)
  have hI : wI E AR sR H locs ([(o, .inr (13, [.null, .null, .null, .null, .null, .int 0, .int 0]))]) := hI
  refine lv_aload_n hxR hbR dX14_init_8 rfl (lv_at hl 0 rfl) ?_
  refine lv_iload_n hxR hbR dX14_init_9 rfl (lv_at hl 1 rfl) ?_
  refine r_putF (v := .int v) (ws1 := [(o, .inr (13, [.null, .null, .null, .null, .null, .int 0, .int v]))]) hxR hbR hts hown hK hI okX14 (ci := 13) rfl 0 rfl 6 (by decide) q1047 rfl rfl hnm rfl rfl rfl (Nat.le_of_ble_eq_true rfl) rfl dX14_init_10 (fun H locs hI => ?_)
  exact hret () _ _ _ _ _ _ dX14_init_13 hI trivial (Nat.le_of_ble_eq_true rfl) (Nat.le_of_ble_eq_true rfl)
