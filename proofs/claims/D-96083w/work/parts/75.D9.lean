theorem c0_image (l : Launch) (E : En) (ad : Nat → Nat) (iv : Nat → Int32) (ch : Nat → Int32) (rd : Nat → Int32) (tp : Nat → Int32) (rf : Nat → Int32) (hd : Nat → Option Nat) (tr : Nat) (gr : Nat) (dy : Nat) (im : Option Nat) (adn : Nat → Nat) (ivn : Nat → Int32) (hrn : Nat → Int32) (csn : Nat → Int32) (Sn : Nat → Int32)   : CtI l E yX0_image cX0_image 1 .int 8 4 73 [.ref (ad 11)] (xW E ad iv ch rd tp rf hd (adn 10) tr gr dy im ++ (tW E adn ivn hrn csn Sn)) (fun (r : Int32) (u : (Nat → Nat)) => r = 1) (fun (u : (Nat → Nat)) => xW E ad iv ch rd tp rf hd (adn 10) tr gr dy (some (u 10)) ++ (tW E adn ivn hrn csn Sn ++ (tW E u (va_up (va_up (va_up (va_up (va_up (va_up (va_up tiv0 3 (ivn 3)) 4 (ivn 4)) 5 (ivn 5)) 6 (ivn 6)) 7 (ivn 7)) 8 (ivn 8)) 9 (ivn 9)) hrn csn Sn))) := by
  refine CtI.of (by decide +kernel) (Nat.le_of_ble_eq_true rfl) ?_
  intro pR eR sR mR aR bR tR cR AR ls QR hxR hbR hmlR hts hown hlk hnm hA hK hI hl hret
  have hl : lv_has ls 1 [(0, .ref (ad 11))] := hl
  refine lv_aload_n hxR hbR dX0_image_0 rfl (lv_at hl 0 rfl) ?_
  refine lv_aload_n hxR hbR dX0_image_1 rfl (lv_at hl 0 rfl) ?_
  refine r_get hxR hbR hts hown hK hI okX0 (ci := 0) rfl 8 (he_l xW_o) 0 (by decide) q263 rfl (v := .ref (adn 10)) rfl dX0_image_2 ?_
  refine kVR (n := 0) (As := []) (rest := [.ref (ad 11)]) (fun w => (xW E ad iv ch rd tp rf hd (adn 10) tr gr dy im) ++ w) hxR hbR hmlR hts hown hK hA hl.1 (isCtx.pre _) hI (c1_copied l E adn ivn hrn csn Sn  ) (lw_V q789 q790 q791 q82 q792) ⟨rfl, by decide +kernel⟩ 0 1 rfl rfl tW_o rfl (Nat.le_of_ble_eq_true rfl) (Nat.le_of_ble_eq_true rfl) ⟨Nat.le_of_ble_eq_true rfl, Nat.le_of_ble_eq_true rfl⟩ (Nat.le_of_ble_eq_true rfl) dX0_image_5 (fun u r_5 H locs hp hI hz => ?_)
  obtain ⟨adN_5, rfl⟩ : ∃ z, z = u := ⟨_, rfl⟩
  have hI : wI E AR sR H locs (xW E ad iv ch rd tp rf hd (adn 10) tr gr dy im ++ (tW E adn ivn hrn csn Sn ++ (tW E (va_up adN_5 10 r_5) (va_up (va_up (va_up (va_up (va_up (va_up (va_up tiv0 3 (ivn 3)) 4 (ivn 4)) 5 (ivn 5)) 6 (ivn 6)) 7 (ivn 7)) 8 (ivn 8)) 9 (ivn 9)) hrn csn Sn))) := hI
  refine r_put (v := .ref r_5) (ws1 := xW E ad iv ch rd tp rf hd (adn 10) tr gr dy (some (r_5)) ++ (tW E adn ivn hrn csn Sn ++ (tW E (va_up adN_5 10 r_5) (va_up (va_up (va_up (va_up (va_up (va_up (va_up tiv0 3 (ivn 3)) 4 (ivn 4)) 5 (ivn 5)) 6 (ivn 6)) 7 (ivn 7)) 8 (ivn 8)) 9 (ivn 9)) hrn csn Sn))) hxR hbR hts hown hK hI okX0 (ci := 0) rfl 8 (he_l xW_o) 1 (by decide) q264 rfl rfl rfl rfl (Nat.le_of_ble_eq_true rfl) (hw_l (Nat.le_of_ble_eq_true rfl) xW_r1) dX0_image_8 (fun H locs hI => ?_)
  refine lv_iconst (v := 1) hxR hbR dX0_image_11 (by decide) ?_
  have hI : wI E AR sR H locs (xW E ad iv ch rd tp rf hd (adn 10) tr gr dy (some ((va_up adN_5 10 r_5) 10)) ++ (tW E adn ivn hrn csn Sn ++ (tW E (va_up adN_5 10 r_5) (va_up (va_up (va_up (va_up (va_up (va_up (va_up tiv0 3 (ivn 3)) 4 (ivn 4)) 5 (ivn 5)) 6 (ivn 6)) 7 (ivn 7)) 8 (ivn 8)) 9 (ivn 9)) hrn csn Sn))) := by exact hI
  exact hret (va_up adN_5 10 r_5) 1 _ _ _ _ _ _ dX0_image_12 hI (by show 1 = 1; rfl) (Nat.le_of_ble_eq_true rfl) (Nat.le_of_ble_eq_true rfl) rfl

theorem c0_back_n (l : Launch) (E : En) (ad : Nat → Nat) (iv : Nat → Int32) (ch : Nat → Int32) (rd : Nat → Int32) (tp : Nat → Int32) (rf : Nat → Int32) (hd : Nat → Option Nat) (nw : Nat) (tr : Nat) (gr : Nat) (dy : Nat)   : CtI l E yX0_back cX0_back 1 .int 8 0 0 [.ref (ad 11)] (xW E ad iv ch rd tp rf hd nw tr gr dy none) (fun (r : Int32) (u : Unit) => r = -5) (fun (u : Unit) => xW E ad iv ch rd tp (va_up rf 5 (rf 5 + 1)) hd nw tr gr dy none) := by
  refine CtI.of (by decide +kernel) (Nat.le_of_ble_eq_true rfl) ?_
  intro pR eR sR mR aR bR tR cR AR ls QR hxR hbR hmlR hts hown hlk hnm hA hK hI hl hret
  have hl : lv_has ls 1 [(0, .ref (ad 11))] := hl
  refine lv_aload_n hxR hbR dX0_back_0 rfl (lv_at hl 0 rfl) ?_
  refine r_get hxR hbR hts hown hK hI okX0 (ci := 0) rfl 8 xW_o 1 (by decide) q264 rfl (v := .null) rfl dX0_back_1 ?_
  refine lv_ifnonnullN hxR hbR dX0_back_4 ?_
  refine lv_aload_n hxR hbR dX0_back_7 rfl (lv_at hl 0 rfl) ?_
  refine lv_bipush (v := (-5)) hxR hbR dX0_back_8 (by decide) ?_
  refine kVI (n := 1) (As := [.int (-5)]) (rest := []) (fun w => w) hxR hbR hmlR hts hown hK hA hl.1 isCtx.id hI (c0_no l E ad iv ch rd tp rf hd nw tr gr dy none (-5) 5 (by decide) (by decide)) (lw_V q396 q398 qs2 q81 q399) ⟨rfl, by decide +kernel⟩ 8 0 rfl rfl xW_o rfl (Nat.le_of_ble_eq_true rfl) (Nat.le_of_ble_eq_true rfl) ⟨Nat.le_of_ble_eq_true rfl, Nat.le_of_ble_eq_true rfl⟩ (Nat.le_of_ble_eq_true rfl) dX0_back_10 (fun r_10 u H locs hp hI hz => ?_)
  have hI : wI E AR sR H locs (xW E ad iv ch rd tp (va_up rf 5 (rf 5 + 1)) hd nw tr gr dy none) := hI
  have hp : r_10 = (-5) := hp
  have hr_10 := hp
  subst hr_10
  exact hret () (-5) _ _ _ _ _ _ dX0_back_13 hI (by show (-5) = -5; rfl) (Nat.le_of_ble_eq_true rfl) (Nat.le_of_ble_eq_true rfl) rfl

theorem c0_back_s (l : Launch) (E : En) (ad : Nat → Nat) (iv : Nat → Int32) (ch : Nat → Int32) (rd : Nat → Int32) (tp : Nat → Int32) (rf : Nat → Int32) (hd : Nat → Option Nat) (tr : Nat) (gr : Nat) (dy : Nat) (adn : Nat → Nat) (ivn : Nat → Int32) (hrn : Nat → Int32) (csn : Nat → Int32) (Sn : Nat → Int32) (adm : Nat → Nat) (ivm : Nat → Int32) (hrm : Nat → Int32) (csm : Nat → Int32) (Sm : Nat → Int32)   : CtI l E yX0_back cX0_back 1 .int 8 4 73 [.ref (ad 11)] (xW E ad iv ch rd tp rf hd (adn 10) tr gr dy (some (adm 10)) ++ (tW E adn ivn hrn csn Sn ++ (tW E adm ivm hrm csm Sm))) (fun (r : Int32) (u : (Nat → Nat)) => r = 1) (fun (u : (Nat → Nat)) => xW E ad iv ch rd tp rf hd (u 10) tr gr dy (some (adm 10)) ++ (tW E adm ivm hrm csm Sm ++ (tW E u (va_up (va_up (va_up (va_up (va_up (va_up (va_up tiv0 3 (ivm 3)) 4 (ivm 4)) 5 (ivm 5)) 6 (ivm 6)) 7 (ivm 7)) 8 (ivm 8)) 9 (ivm 9)) hrm csm Sm))) := by
  refine CtI.of (by decide +kernel) (Nat.le_of_ble_eq_true rfl) ?_
  intro pR eR sR mR aR bR tR cR AR ls QR hxR hbR hmlR hts hown hlk hnm hA hK hI hl hret
  have hl : lv_has ls 1 [(0, .ref (ad 11))] := hl
  refine lv_aload_n hxR hbR dX0_back_0 rfl (lv_at hl 0 rfl) ?_
  refine r_get hxR hbR hts hown hK hI okX0 (ci := 0) rfl 8 (he_l xW_o) 1 (by decide) q264 rfl (v := .ref (adm 10)) rfl dX0_back_1 ?_
  refine lv_ifnonnull (tgt := 14) hxR hbR dX0_back_4 (by decide) ?_
  refine lv_aload_n hxR hbR dX0_back_14 rfl (lv_at hl 0 rfl) ?_
  refine lv_aload_n hxR hbR dX0_back_15 rfl (lv_at hl 0 rfl) ?_
  refine r_get hxR hbR hts hown hK hI okX0 (ci := 0) rfl 8 (he_l xW_o) 1 (by decide) q264 rfl (v := .ref (adm 10)) rfl dX0_back_16 ?_
  have hI := wI_w app2 hI
  refine kVR (n := 0) (As := []) (rest := [.ref (ad 11)]) (fun w => (xW E ad iv ch rd tp rf hd (adn 10) tr gr dy (some (adm 10)) ++ (tW E adn ivn hrn csn Sn)) ++ w) hxR hbR hmlR hts hown hK hA hl.1 (isCtx.pre _) hI (c1_copied l E adm ivm hrm csm Sm  ) (lw_V q789 q790 q791 q82 q792) ⟨rfl, by decide +kernel⟩ 0 1 rfl rfl tW_o rfl (Nat.le_of_ble_eq_true rfl) (Nat.le_of_ble_eq_true rfl) ⟨Nat.le_of_ble_eq_true rfl, Nat.le_of_ble_eq_true rfl⟩ (Nat.le_of_ble_eq_true rfl) dX0_back_19 (fun u r_19 H locs hp hI hz => ?_)
  obtain ⟨adN_19, rfl⟩ : ∃ z, z = u := ⟨_, rfl⟩
  have hI := wI_w app2.symm hI
  have hI : wI E AR sR H locs (xW E ad iv ch rd tp rf hd (adn 10) tr gr dy (some (adm 10)) ++ (tW E adn ivn hrn csn Sn ++ (tW E adm ivm hrm csm Sm ++ (tW E (va_up adN_19 10 r_19) (va_up (va_up (va_up (va_up (va_up (va_up (va_up tiv0 3 (ivm 3)) 4 (ivm 4)) 5 (ivm 5)) 6 (ivm 6)) 7 (ivm 7)) 8 (ivm 8)) 9 (ivm 9)) hrm csm Sm)))) := hI
  refine r_put (v := .ref r_19) (ws1 := xW E ad iv ch rd tp rf hd r_19 tr gr dy (some (adm 10)) ++ (tW E adn ivn hrn csn Sn ++ (tW E adm ivm hrm csm Sm ++ (tW E (va_up adN_19 10 r_19) (va_up (va_up (va_up (va_up (va_up (va_up (va_up tiv0 3 (ivm 3)) 4 (ivm 4)) 5 (ivm 5)) 6 (ivm 6)) 7 (ivm 7)) 8 (ivm 8)) 9 (ivm 9)) hrm csm Sm)))) hxR hbR hts hown hK hI okX0 (ci := 0) rfl 8 (he_l xW_o) 0 (by decide) q263 rfl rfl rfl rfl (Nat.le_of_ble_eq_true rfl) (hw_l (Nat.le_of_ble_eq_true rfl) xW_r0) dX0_back_22 (fun H locs hI => ?_)
  refine lv_iconst (v := 1) hxR hbR dX0_back_25 (by decide) ?_
  have hI : wI E AR sR _ _ (tW E adn ivn hrn csn Sn ++ (xW E ad iv ch rd tp rf hd r_19 tr gr dy (some (adm 10)) ++ (tW E adm ivm hrm csm Sm ++ (tW E (va_up adN_19 10 r_19) (va_up (va_up (va_up (va_up (va_up (va_up (va_up tiv0 3 (ivm 3)) 4 (ivm 4)) 5 (ivm 5)) 6 (ivm 6)) 7 (ivm 7)) 8 (ivm 8)) 9 (ivm 9)) hrm csm Sm)))) := wI_pick ([xW E ad iv ch rd tp rf hd r_19 tr gr dy (some (adm 10)), tW E adn ivn hrn csn Sn, tW E adm ivm hrm csm Sm, tW E (va_up adN_19 10 r_19) (va_up (va_up (va_up (va_up (va_up (va_up (va_up tiv0 3 (ivm 3)) 4 (ivm 4)) 5 (ivm 5)) 6 (ivm 6)) 7 (ivm 7)) 8 (ivm 8)) 9 (ivm 9)) hrm csm Sm]) [1, 0, 2, 3] 4 rfl (by decide) hI
  have hI := wI_dropL hI
  have hI : wI E AR sR H locs (xW E ad iv ch rd tp rf hd ((va_up adN_19 10 r_19) 10) tr gr dy (some (adm 10)) ++ (tW E adm ivm hrm csm Sm ++ (tW E (va_up adN_19 10 r_19) (va_up (va_up (va_up (va_up (va_up (va_up (va_up tiv0 3 (ivm 3)) 4 (ivm 4)) 5 (ivm 5)) 6 (ivm 6)) 7 (ivm 7)) 8 (ivm 8)) 9 (ivm 9)) hrm csm Sm))) := by exact hI
  exact hret (va_up adN_19 10 r_19) 1 _ _ _ _ _ _ dX0_back_26 hI (by show 1 = 1; rfl) (Nat.le_of_ble_eq_true rfl) (Nat.le_of_ble_eq_true rfl) rfl
